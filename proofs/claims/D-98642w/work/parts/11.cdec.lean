set_option maxRecDepth 100000
theorem dJ0_init_0 : decode cJ0_init 0 = .ok (.aload_n 0, 1) := by decide +kernel
theorem dJ0_init_1 : decode cJ0_init 1 = .ok (.invokespecial 1, 3) := by decide +kernel
theorem dJ0_init_4 : decode cJ0_init 4 = .ok (.return_, 1) := by decide +kernel
def dkwJ1_init_0 : List UInt8 := [42, 183, 0, 1, 42, 3, 181, 0, 7, 177]
abbrev dktJ1_init_0 : List UInt8 := dkwJ1_init_0 ++ []
theorem dksJ1_init_0 : cJ1_init.data.toList.drop 0 = dktJ1_init_0 := by decide +kernel
theorem dJ1_init_0 : decode cJ1_init 0 = .ok (.aload_n 0, 1) := dk_42 (dk_at dksJ1_init_0 0 rfl rfl)
theorem dJ1_init_1 : decode cJ1_init 1 = .ok (.invokespecial 1, 3) := dk_183 0 1 (dk_at dksJ1_init_0 1 rfl rfl)
theorem dJ1_init_4 : decode cJ1_init 4 = .ok (.aload_n 0, 1) := dk_42 (dk_at dksJ1_init_0 4 rfl rfl)
theorem dJ1_init_5 : decode cJ1_init 5 = .ok (.iconst 0, 1) := dk_3 (dk_at dksJ1_init_0 5 rfl rfl)
theorem dJ1_init_6 : decode cJ1_init 6 = .ok (.putfield 7, 3) := dk_181 0 7 (dk_at dksJ1_init_0 6 rfl rfl)
theorem dJ1_init_9 : decode cJ1_init 9 = .ok (.return_, 1) := dk_177 (dk_at dksJ1_init_0 9 rfl rfl)
def dkwJ10_init_2_2 : List UInt8 := [44, 181, 0, 7, 29, 154, 0, 8, 42, 1, 181, 0, 24, 177]
abbrev dktJ10_init_2_2 : List UInt8 := dkwJ10_init_2_2 ++ []
def dkwJ10_init_2_1 : List UInt8 := [21, 4, 153, 0, 11, 42, 182, 0, 27, 87, 167, 0, 8, 42, 1, 181, 0, 17, 42, 43, 181, 0, 31, 42]
abbrev dktJ10_init_2_1 : List UInt8 := dkwJ10_init_2_1 ++ dktJ10_init_2_2
def dkwJ10_init_2_0 : List UInt8 := [42, 183, 0, 1, 42, 42, 181, 0, 7, 42, 178, 0, 13, 181, 0, 17, 42, 178, 0, 20, 181, 0, 24]
abbrev dktJ10_init_2_0 : List UInt8 := dkwJ10_init_2_0 ++ dktJ10_init_2_1
theorem dksJ10_init_2_0 : cJ10_init_2.data.toList.drop 0 = dktJ10_init_2_0 := by decide +kernel
theorem dksJ10_init_2_1 : cJ10_init_2.data.toList.drop 23 = dktJ10_init_2_1 := dk_seg dksJ10_init_2_0 23 rfl rfl
theorem dksJ10_init_2_2 : cJ10_init_2.data.toList.drop 47 = dktJ10_init_2_2 := dk_seg dksJ10_init_2_1 24 rfl rfl
theorem dJ10_init_2_0 : decode cJ10_init_2 0 = .ok (.aload_n 0, 1) := dk_42 (dk_at dksJ10_init_2_0 0 rfl rfl)
theorem dJ10_init_2_1 : decode cJ10_init_2 1 = .ok (.invokespecial 1, 3) := dk_183 0 1 (dk_at dksJ10_init_2_0 1 rfl rfl)
theorem dJ10_init_2_4 : decode cJ10_init_2 4 = .ok (.aload_n 0, 1) := dk_42 (dk_at dksJ10_init_2_0 4 rfl rfl)
theorem dJ10_init_2_5 : decode cJ10_init_2 5 = .ok (.aload_n 0, 1) := dk_42 (dk_at dksJ10_init_2_0 5 rfl rfl)
theorem dJ10_init_2_6 : decode cJ10_init_2 6 = .ok (.putfield 7, 3) := dk_181 0 7 (dk_at dksJ10_init_2_0 6 rfl rfl)
theorem dJ10_init_2_9 : decode cJ10_init_2 9 = .ok (.aload_n 0, 1) := dk_42 (dk_at dksJ10_init_2_0 9 rfl rfl)
theorem dJ10_init_2_10 : decode cJ10_init_2 10 = .ok (.getstatic 13, 3) := dk_178 0 13 (dk_at dksJ10_init_2_0 10 rfl rfl)
theorem dJ10_init_2_13 : decode cJ10_init_2 13 = .ok (.putfield 17, 3) := dk_181 0 17 (dk_at dksJ10_init_2_0 13 rfl rfl)
theorem dJ10_init_2_16 : decode cJ10_init_2 16 = .ok (.aload_n 0, 1) := dk_42 (dk_at dksJ10_init_2_0 16 rfl rfl)
theorem dJ10_init_2_17 : decode cJ10_init_2 17 = .ok (.getstatic 20, 3) := dk_178 0 20 (dk_at dksJ10_init_2_0 17 rfl rfl)
theorem dJ10_init_2_20 : decode cJ10_init_2 20 = .ok (.putfield 24, 3) := dk_181 0 24 (dk_at dksJ10_init_2_0 20 rfl rfl)
theorem dJ10_init_2_23 : decode cJ10_init_2 23 = .ok (.iload 4, 2) := dk_21 4 (dk_at dksJ10_init_2_1 0 rfl rfl)
theorem dJ10_init_2_25 : decode cJ10_init_2 25 = .ok (.ifCond .eq 11, 3) := dk_153 0 11 (dk_at dksJ10_init_2_1 2 rfl rfl)
theorem dJ10_init_2_28 : decode cJ10_init_2 28 = .ok (.aload_n 0, 1) := dk_42 (dk_at dksJ10_init_2_1 5 rfl rfl)
theorem dJ10_init_2_29 : decode cJ10_init_2 29 = .ok (.invokevirtual 27, 3) := dk_182 0 27 (dk_at dksJ10_init_2_1 6 rfl rfl)
theorem dJ10_init_2_32 : decode cJ10_init_2 32 = .ok (.pop, 1) := dk_87 (dk_at dksJ10_init_2_1 9 rfl rfl)
theorem dJ10_init_2_33 : decode cJ10_init_2 33 = .ok (.goto 8, 3) := dk_167 0 8 (dk_at dksJ10_init_2_1 10 rfl rfl)
theorem dJ10_init_2_36 : decode cJ10_init_2 36 = .ok (.aload_n 0, 1) := dk_42 (dk_at dksJ10_init_2_1 13 rfl rfl)
theorem dJ10_init_2_37 : decode cJ10_init_2 37 = .ok (.aconst_null, 1) := dk_1 (dk_at dksJ10_init_2_1 14 rfl rfl)
theorem dJ10_init_2_38 : decode cJ10_init_2 38 = .ok (.putfield 17, 3) := dk_181 0 17 (dk_at dksJ10_init_2_1 15 rfl rfl)
theorem dJ10_init_2_41 : decode cJ10_init_2 41 = .ok (.aload_n 0, 1) := dk_42 (dk_at dksJ10_init_2_1 18 rfl rfl)
theorem dJ10_init_2_42 : decode cJ10_init_2 42 = .ok (.aload_n 1, 1) := dk_43 (dk_at dksJ10_init_2_1 19 rfl rfl)
theorem dJ10_init_2_43 : decode cJ10_init_2 43 = .ok (.putfield 31, 3) := dk_181 0 31 (dk_at dksJ10_init_2_1 20 rfl rfl)
theorem dJ10_init_2_46 : decode cJ10_init_2 46 = .ok (.aload_n 0, 1) := dk_42 (dk_at dksJ10_init_2_1 23 rfl rfl)
theorem dJ10_init_2_47 : decode cJ10_init_2 47 = .ok (.aload_n 2, 1) := dk_44 (dk_at dksJ10_init_2_2 0 rfl rfl)
theorem dJ10_init_2_48 : decode cJ10_init_2 48 = .ok (.putfield 7, 3) := dk_181 0 7 (dk_at dksJ10_init_2_2 1 rfl rfl)
theorem dJ10_init_2_51 : decode cJ10_init_2 51 = .ok (.iload_n 3, 1) := dk_29 (dk_at dksJ10_init_2_2 4 rfl rfl)
theorem dJ10_init_2_52 : decode cJ10_init_2 52 = .ok (.ifCond .ne 8, 3) := dk_154 0 8 (dk_at dksJ10_init_2_2 5 rfl rfl)
theorem dJ10_init_2_55 : decode cJ10_init_2 55 = .ok (.aload_n 0, 1) := dk_42 (dk_at dksJ10_init_2_2 8 rfl rfl)
theorem dJ10_init_2_56 : decode cJ10_init_2 56 = .ok (.aconst_null, 1) := dk_1 (dk_at dksJ10_init_2_2 9 rfl rfl)
theorem dJ10_init_2_57 : decode cJ10_init_2 57 = .ok (.putfield 24, 3) := dk_181 0 24 (dk_at dksJ10_init_2_2 10 rfl rfl)
theorem dJ10_init_2_60 : decode cJ10_init_2 60 = .ok (.return_, 1) := dk_177 (dk_at dksJ10_init_2_2 13 rfl rfl)
def dkwJ11_init_0 : List UInt8 := [42, 43, 44, 29, 21, 4, 183, 0, 16, 177]
abbrev dktJ11_init_0 : List UInt8 := dkwJ11_init_0 ++ []
theorem dksJ11_init_0 : cJ11_init.data.toList.drop 0 = dktJ11_init_0 := by decide +kernel
theorem dJ11_init_0 : decode cJ11_init 0 = .ok (.aload_n 0, 1) := dk_42 (dk_at dksJ11_init_0 0 rfl rfl)
theorem dJ11_init_1 : decode cJ11_init 1 = .ok (.aload_n 1, 1) := dk_43 (dk_at dksJ11_init_0 1 rfl rfl)
theorem dJ11_init_2 : decode cJ11_init 2 = .ok (.aload_n 2, 1) := dk_44 (dk_at dksJ11_init_0 2 rfl rfl)
theorem dJ11_init_3 : decode cJ11_init 3 = .ok (.iload_n 3, 1) := dk_29 (dk_at dksJ11_init_0 3 rfl rfl)
theorem dJ11_init_4 : decode cJ11_init 4 = .ok (.iload 4, 2) := dk_21 4 (dk_at dksJ11_init_0 4 rfl rfl)
theorem dJ11_init_6 : decode cJ11_init 6 = .ok (.invokespecial 16, 3) := dk_183 0 16 (dk_at dksJ11_init_0 6 rfl rfl)
theorem dJ11_init_9 : decode cJ11_init 9 = .ok (.return_, 1) := dk_177 (dk_at dksJ11_init_0 9 rfl rfl)
def dkwJ18_bitCount_2 : List UInt8 := [26, 16, 63, 126, 172]
abbrev dktJ18_bitCount_2 : List UInt8 := dkwJ18_bitCount_2 ++ []
def dkwJ18_bitCount_1 : List UInt8 := [26, 26, 7, 124, 96, 19, 1, 11, 126, 59, 26, 26, 16, 8, 124, 96, 59, 26, 26, 16, 16, 124, 96, 59]
abbrev dktJ18_bitCount_1 : List UInt8 := dkwJ18_bitCount_1 ++ dktJ18_bitCount_2
def dkwJ18_bitCount_0 : List UInt8 := [26, 26, 4, 124, 19, 1, 9, 126, 100, 59, 26, 19, 1, 10, 126, 26, 5, 124, 19, 1, 10, 126, 96, 59]
abbrev dktJ18_bitCount_0 : List UInt8 := dkwJ18_bitCount_0 ++ dktJ18_bitCount_1
theorem dksJ18_bitCount_0 : cJ18_bitCount.data.toList.drop 0 = dktJ18_bitCount_0 := by decide +kernel
theorem dksJ18_bitCount_1 : cJ18_bitCount.data.toList.drop 24 = dktJ18_bitCount_1 := dk_seg dksJ18_bitCount_0 24 rfl rfl
theorem dksJ18_bitCount_2 : cJ18_bitCount.data.toList.drop 48 = dktJ18_bitCount_2 := dk_seg dksJ18_bitCount_1 24 rfl rfl
theorem dJ18_bitCount_0 : decode cJ18_bitCount 0 = .ok (.iload_n 0, 1) := dk_26 (dk_at dksJ18_bitCount_0 0 rfl rfl)
theorem dJ18_bitCount_1 : decode cJ18_bitCount 1 = .ok (.iload_n 0, 1) := dk_26 (dk_at dksJ18_bitCount_0 1 rfl rfl)
theorem dJ18_bitCount_2 : decode cJ18_bitCount 2 = .ok (.iconst 1, 1) := dk_4 (dk_at dksJ18_bitCount_0 2 rfl rfl)
theorem dJ18_bitCount_3 : decode cJ18_bitCount 3 = .ok (.iushr, 1) := dk_124 (dk_at dksJ18_bitCount_0 3 rfl rfl)
theorem dJ18_bitCount_4 : decode cJ18_bitCount 4 = .ok (.ldc_w 265, 3) := dk_19 1 9 (dk_at dksJ18_bitCount_0 4 rfl rfl)
theorem dJ18_bitCount_7 : decode cJ18_bitCount 7 = .ok (.iand, 1) := dk_126 (dk_at dksJ18_bitCount_0 7 rfl rfl)
theorem dJ18_bitCount_8 : decode cJ18_bitCount 8 = .ok (.isub, 1) := dk_100 (dk_at dksJ18_bitCount_0 8 rfl rfl)
theorem dJ18_bitCount_9 : decode cJ18_bitCount 9 = .ok (.istore_n 0, 1) := dk_59 (dk_at dksJ18_bitCount_0 9 rfl rfl)
theorem dJ18_bitCount_10 : decode cJ18_bitCount 10 = .ok (.iload_n 0, 1) := dk_26 (dk_at dksJ18_bitCount_0 10 rfl rfl)
theorem dJ18_bitCount_11 : decode cJ18_bitCount 11 = .ok (.ldc_w 266, 3) := dk_19 1 10 (dk_at dksJ18_bitCount_0 11 rfl rfl)
theorem dJ18_bitCount_14 : decode cJ18_bitCount 14 = .ok (.iand, 1) := dk_126 (dk_at dksJ18_bitCount_0 14 rfl rfl)
theorem dJ18_bitCount_15 : decode cJ18_bitCount 15 = .ok (.iload_n 0, 1) := dk_26 (dk_at dksJ18_bitCount_0 15 rfl rfl)
theorem dJ18_bitCount_16 : decode cJ18_bitCount 16 = .ok (.iconst 2, 1) := dk_5 (dk_at dksJ18_bitCount_0 16 rfl rfl)
theorem dJ18_bitCount_17 : decode cJ18_bitCount 17 = .ok (.iushr, 1) := dk_124 (dk_at dksJ18_bitCount_0 17 rfl rfl)
theorem dJ18_bitCount_18 : decode cJ18_bitCount 18 = .ok (.ldc_w 266, 3) := dk_19 1 10 (dk_at dksJ18_bitCount_0 18 rfl rfl)
theorem dJ18_bitCount_21 : decode cJ18_bitCount 21 = .ok (.iand, 1) := dk_126 (dk_at dksJ18_bitCount_0 21 rfl rfl)
theorem dJ18_bitCount_22 : decode cJ18_bitCount 22 = .ok (.iadd, 1) := dk_96 (dk_at dksJ18_bitCount_0 22 rfl rfl)
theorem dJ18_bitCount_23 : decode cJ18_bitCount 23 = .ok (.istore_n 0, 1) := dk_59 (dk_at dksJ18_bitCount_0 23 rfl rfl)
theorem dJ18_bitCount_24 : decode cJ18_bitCount 24 = .ok (.iload_n 0, 1) := dk_26 (dk_at dksJ18_bitCount_1 0 rfl rfl)
theorem dJ18_bitCount_25 : decode cJ18_bitCount 25 = .ok (.iload_n 0, 1) := dk_26 (dk_at dksJ18_bitCount_1 1 rfl rfl)
theorem dJ18_bitCount_26 : decode cJ18_bitCount 26 = .ok (.iconst 4, 1) := dk_7 (dk_at dksJ18_bitCount_1 2 rfl rfl)
theorem dJ18_bitCount_27 : decode cJ18_bitCount 27 = .ok (.iushr, 1) := dk_124 (dk_at dksJ18_bitCount_1 3 rfl rfl)
theorem dJ18_bitCount_28 : decode cJ18_bitCount 28 = .ok (.iadd, 1) := dk_96 (dk_at dksJ18_bitCount_1 4 rfl rfl)
theorem dJ18_bitCount_29 : decode cJ18_bitCount 29 = .ok (.ldc_w 267, 3) := dk_19 1 11 (dk_at dksJ18_bitCount_1 5 rfl rfl)
theorem dJ18_bitCount_32 : decode cJ18_bitCount 32 = .ok (.iand, 1) := dk_126 (dk_at dksJ18_bitCount_1 8 rfl rfl)
theorem dJ18_bitCount_33 : decode cJ18_bitCount 33 = .ok (.istore_n 0, 1) := dk_59 (dk_at dksJ18_bitCount_1 9 rfl rfl)
theorem dJ18_bitCount_34 : decode cJ18_bitCount 34 = .ok (.iload_n 0, 1) := dk_26 (dk_at dksJ18_bitCount_1 10 rfl rfl)
theorem dJ18_bitCount_35 : decode cJ18_bitCount 35 = .ok (.iload_n 0, 1) := dk_26 (dk_at dksJ18_bitCount_1 11 rfl rfl)
theorem dJ18_bitCount_36 : decode cJ18_bitCount 36 = .ok (.bipush 8, 2) := dk_16 8 (dk_at dksJ18_bitCount_1 12 rfl rfl)
theorem dJ18_bitCount_38 : decode cJ18_bitCount 38 = .ok (.iushr, 1) := dk_124 (dk_at dksJ18_bitCount_1 14 rfl rfl)
theorem dJ18_bitCount_39 : decode cJ18_bitCount 39 = .ok (.iadd, 1) := dk_96 (dk_at dksJ18_bitCount_1 15 rfl rfl)
theorem dJ18_bitCount_40 : decode cJ18_bitCount 40 = .ok (.istore_n 0, 1) := dk_59 (dk_at dksJ18_bitCount_1 16 rfl rfl)
theorem dJ18_bitCount_41 : decode cJ18_bitCount 41 = .ok (.iload_n 0, 1) := dk_26 (dk_at dksJ18_bitCount_1 17 rfl rfl)
theorem dJ18_bitCount_42 : decode cJ18_bitCount 42 = .ok (.iload_n 0, 1) := dk_26 (dk_at dksJ18_bitCount_1 18 rfl rfl)
theorem dJ18_bitCount_43 : decode cJ18_bitCount 43 = .ok (.bipush 16, 2) := dk_16 16 (dk_at dksJ18_bitCount_1 19 rfl rfl)
theorem dJ18_bitCount_45 : decode cJ18_bitCount 45 = .ok (.iushr, 1) := dk_124 (dk_at dksJ18_bitCount_1 21 rfl rfl)
theorem dJ18_bitCount_46 : decode cJ18_bitCount 46 = .ok (.iadd, 1) := dk_96 (dk_at dksJ18_bitCount_1 22 rfl rfl)
theorem dJ18_bitCount_47 : decode cJ18_bitCount 47 = .ok (.istore_n 0, 1) := dk_59 (dk_at dksJ18_bitCount_1 23 rfl rfl)
theorem dJ18_bitCount_48 : decode cJ18_bitCount 48 = .ok (.iload_n 0, 1) := dk_26 (dk_at dksJ18_bitCount_2 0 rfl rfl)
theorem dJ18_bitCount_49 : decode cJ18_bitCount 49 = .ok (.bipush 63, 2) := dk_16 63 (dk_at dksJ18_bitCount_2 1 rfl rfl)
theorem dJ18_bitCount_51 : decode cJ18_bitCount 51 = .ok (.iand, 1) := dk_126 (dk_at dksJ18_bitCount_2 3 rfl rfl)
theorem dJ18_bitCount_52 : decode cJ18_bitCount 52 = .ok (.ireturn, 1) := dk_172 (dk_at dksJ18_bitCount_2 4 rfl rfl)
def dkwJ2_init_2 : List UInt8 := [182, 0, 25, 27, 182, 0, 29, 182, 0, 32, 183, 0, 36, 191, 177]
abbrev dktJ2_init_2 : List UInt8 := dkwJ2_init_2 ++ []
def dkwJ2_init_1 : List UInt8 := [178, 0, 15, 181, 0, 9, 167, 0, 30, 187, 0, 18, 89, 187, 0, 20, 89, 183, 0, 22, 18, 23]
abbrev dktJ2_init_1 : List UInt8 := dkwJ2_init_1 ++ dktJ2_init_2
def dkwJ2_init_0 : List UInt8 := [42, 183, 0, 1, 27, 158, 0, 14, 42, 27, 189, 0, 7, 181, 0, 9, 167, 0, 44, 27, 154, 0, 13, 42]
abbrev dktJ2_init_0 : List UInt8 := dkwJ2_init_0 ++ dktJ2_init_1
theorem dksJ2_init_0 : cJ2_init.data.toList.drop 0 = dktJ2_init_0 := by decide +kernel
theorem dksJ2_init_1 : cJ2_init.data.toList.drop 24 = dktJ2_init_1 := dk_seg dksJ2_init_0 24 rfl rfl
theorem dksJ2_init_2 : cJ2_init.data.toList.drop 46 = dktJ2_init_2 := dk_seg dksJ2_init_1 22 rfl rfl
theorem dJ2_init_0 : decode cJ2_init 0 = .ok (.aload_n 0, 1) := dk_42 (dk_at dksJ2_init_0 0 rfl rfl)
theorem dJ2_init_1 : decode cJ2_init 1 = .ok (.invokespecial 1, 3) := dk_183 0 1 (dk_at dksJ2_init_0 1 rfl rfl)
theorem dJ2_init_4 : decode cJ2_init 4 = .ok (.iload_n 1, 1) := dk_27 (dk_at dksJ2_init_0 4 rfl rfl)
theorem dJ2_init_5 : decode cJ2_init 5 = .ok (.ifCond .le 14, 3) := dk_158 0 14 (dk_at dksJ2_init_0 5 rfl rfl)
theorem dJ2_init_8 : decode cJ2_init 8 = .ok (.aload_n 0, 1) := dk_42 (dk_at dksJ2_init_0 8 rfl rfl)
theorem dJ2_init_9 : decode cJ2_init 9 = .ok (.iload_n 1, 1) := dk_27 (dk_at dksJ2_init_0 9 rfl rfl)
theorem dJ2_init_10 : decode cJ2_init 10 = .ok (.anewarray 7, 3) := dk_189 0 7 (dk_at dksJ2_init_0 10 rfl rfl)
theorem dJ2_init_13 : decode cJ2_init 13 = .ok (.putfield 9, 3) := dk_181 0 9 (dk_at dksJ2_init_0 13 rfl rfl)
theorem dJ2_init_16 : decode cJ2_init 16 = .ok (.goto 44, 3) := dk_167 0 44 (dk_at dksJ2_init_0 16 rfl rfl)
theorem dJ2_init_19 : decode cJ2_init 19 = .ok (.iload_n 1, 1) := dk_27 (dk_at dksJ2_init_0 19 rfl rfl)
theorem dJ2_init_20 : decode cJ2_init 20 = .ok (.ifCond .ne 13, 3) := dk_154 0 13 (dk_at dksJ2_init_0 20 rfl rfl)
theorem dJ2_init_23 : decode cJ2_init 23 = .ok (.aload_n 0, 1) := dk_42 (dk_at dksJ2_init_0 23 rfl rfl)
theorem dJ2_init_24 : decode cJ2_init 24 = .ok (.getstatic 15, 3) := dk_178 0 15 (dk_at dksJ2_init_1 0 rfl rfl)
theorem dJ2_init_27 : decode cJ2_init 27 = .ok (.putfield 9, 3) := dk_181 0 9 (dk_at dksJ2_init_1 3 rfl rfl)
theorem dJ2_init_30 : decode cJ2_init 30 = .ok (.goto 30, 3) := dk_167 0 30 (dk_at dksJ2_init_1 6 rfl rfl)
theorem dJ2_init_33 : decode cJ2_init 33 = .ok (.new 18, 3) := dk_187 0 18 (dk_at dksJ2_init_1 9 rfl rfl)
theorem dJ2_init_36 : decode cJ2_init 36 = .ok (.dup, 1) := dk_89 (dk_at dksJ2_init_1 12 rfl rfl)
theorem dJ2_init_37 : decode cJ2_init 37 = .ok (.new 20, 3) := dk_187 0 20 (dk_at dksJ2_init_1 13 rfl rfl)
theorem dJ2_init_40 : decode cJ2_init 40 = .ok (.dup, 1) := dk_89 (dk_at dksJ2_init_1 16 rfl rfl)
theorem dJ2_init_41 : decode cJ2_init 41 = .ok (.invokespecial 22, 3) := dk_183 0 22 (dk_at dksJ2_init_1 17 rfl rfl)
theorem dJ2_init_44 : decode cJ2_init 44 = .ok (.ldc 23, 2) := dk_18 23 (dk_at dksJ2_init_1 20 rfl rfl)
theorem dJ2_init_46 : decode cJ2_init 46 = .ok (.invokevirtual 25, 3) := dk_182 0 25 (dk_at dksJ2_init_2 0 rfl rfl)
theorem dJ2_init_49 : decode cJ2_init 49 = .ok (.iload_n 1, 1) := dk_27 (dk_at dksJ2_init_2 3 rfl rfl)
theorem dJ2_init_50 : decode cJ2_init 50 = .ok (.invokevirtual 29, 3) := dk_182 0 29 (dk_at dksJ2_init_2 4 rfl rfl)
theorem dJ2_init_53 : decode cJ2_init 53 = .ok (.invokevirtual 32, 3) := dk_182 0 32 (dk_at dksJ2_init_2 7 rfl rfl)
theorem dJ2_init_56 : decode cJ2_init 56 = .ok (.invokespecial 36, 3) := dk_183 0 36 (dk_at dksJ2_init_2 10 rfl rfl)
theorem dJ2_init_59 : decode cJ2_init 59 = .ok (.athrow, 1) := dk_191 (dk_at dksJ2_init_2 13 rfl rfl)
theorem dJ2_init_60 : decode cJ2_init 60 = .ok (.return_, 1) := dk_177 (dk_at dksJ2_init_2 14 rfl rfl)
theorem dJ2_size_0 : decode cJ2_size 0 = .ok (.aload_n 0, 1) := by decide +kernel
theorem dJ2_size_1 : decode cJ2_size 1 = .ok (.getfield 48, 3) := by decide +kernel
theorem dJ2_size_4 : decode cJ2_size 4 = .ok (.ireturn, 1) := by decide +kernel
def dkwJ4_checkIndex_0 : List UInt8 := [26, 155, 0, 8, 26, 27, 161, 0, 10, 44, 26, 27, 184, 0, 95, 191, 26, 172]
abbrev dktJ4_checkIndex_0 : List UInt8 := dkwJ4_checkIndex_0 ++ []
theorem dksJ4_checkIndex_0 : cJ4_checkIndex.data.toList.drop 0 = dktJ4_checkIndex_0 := by decide +kernel
theorem dJ4_checkIndex_0 : decode cJ4_checkIndex 0 = .ok (.iload_n 0, 1) := dk_26 (dk_at dksJ4_checkIndex_0 0 rfl rfl)
theorem dJ4_checkIndex_1 : decode cJ4_checkIndex 1 = .ok (.ifCond .lt 8, 3) := dk_155 0 8 (dk_at dksJ4_checkIndex_0 1 rfl rfl)
theorem dJ4_checkIndex_4 : decode cJ4_checkIndex 4 = .ok (.iload_n 0, 1) := dk_26 (dk_at dksJ4_checkIndex_0 4 rfl rfl)
theorem dJ4_checkIndex_5 : decode cJ4_checkIndex 5 = .ok (.iload_n 1, 1) := dk_27 (dk_at dksJ4_checkIndex_0 5 rfl rfl)
theorem dJ4_checkIndex_6 : decode cJ4_checkIndex 6 = .ok (.if_icmp .lt 10, 3) := dk_161 0 10 (dk_at dksJ4_checkIndex_0 6 rfl rfl)
theorem dJ4_checkIndex_9 : decode cJ4_checkIndex 9 = .ok (.aload_n 2, 1) := dk_44 (dk_at dksJ4_checkIndex_0 9 rfl rfl)
theorem dJ4_checkIndex_10 : decode cJ4_checkIndex 10 = .ok (.iload_n 0, 1) := dk_26 (dk_at dksJ4_checkIndex_0 10 rfl rfl)
theorem dJ4_checkIndex_11 : decode cJ4_checkIndex 11 = .ok (.iload_n 1, 1) := dk_27 (dk_at dksJ4_checkIndex_0 11 rfl rfl)
theorem dJ4_checkIndex_12 : decode cJ4_checkIndex 12 = .ok (.invokestatic 95, 3) := dk_184 0 95 (dk_at dksJ4_checkIndex_0 12 rfl rfl)
theorem dJ4_checkIndex_15 : decode cJ4_checkIndex 15 = .ok (.athrow, 1) := dk_191 (dk_at dksJ4_checkIndex_0 15 rfl rfl)
theorem dJ4_checkIndex_16 : decode cJ4_checkIndex 16 = .ok (.iload_n 0, 1) := dk_26 (dk_at dksJ4_checkIndex_0 16 rfl rfl)
theorem dJ4_checkIndex_17 : decode cJ4_checkIndex 17 = .ok (.ireturn, 1) := dk_172 (dk_at dksJ4_checkIndex_0 17 rfl rfl)
def dkwJ3_checkIndex_0 : List UInt8 := [26, 27, 1, 184, 0, 105, 172]
abbrev dktJ3_checkIndex_0 : List UInt8 := dkwJ3_checkIndex_0 ++ []
theorem dksJ3_checkIndex_0 : cJ3_checkIndex.data.toList.drop 0 = dktJ3_checkIndex_0 := by decide +kernel
theorem dJ3_checkIndex_0 : decode cJ3_checkIndex 0 = .ok (.iload_n 0, 1) := dk_26 (dk_at dksJ3_checkIndex_0 0 rfl rfl)
theorem dJ3_checkIndex_1 : decode cJ3_checkIndex 1 = .ok (.iload_n 1, 1) := dk_27 (dk_at dksJ3_checkIndex_0 1 rfl rfl)
theorem dJ3_checkIndex_2 : decode cJ3_checkIndex 2 = .ok (.aconst_null, 1) := dk_1 (dk_at dksJ3_checkIndex_0 2 rfl rfl)
theorem dJ3_checkIndex_3 : decode cJ3_checkIndex 3 = .ok (.invokestatic 105, 3) := dk_184 0 105 (dk_at dksJ3_checkIndex_0 3 rfl rfl)
theorem dJ3_checkIndex_6 : decode cJ3_checkIndex 6 = .ok (.ireturn, 1) := dk_172 (dk_at dksJ3_checkIndex_0 6 rfl rfl)
def dkwJ2_elementData_0 : List UInt8 := [42, 180, 0, 9, 27, 50, 176]
abbrev dktJ2_elementData_0 : List UInt8 := dkwJ2_elementData_0 ++ []
theorem dksJ2_elementData_0 : cJ2_elementData.data.toList.drop 0 = dktJ2_elementData_0 := by decide +kernel
theorem dJ2_elementData_0 : decode cJ2_elementData 0 = .ok (.aload_n 0, 1) := dk_42 (dk_at dksJ2_elementData_0 0 rfl rfl)
theorem dJ2_elementData_1 : decode cJ2_elementData 1 = .ok (.getfield 9, 3) := dk_180 0 9 (dk_at dksJ2_elementData_0 1 rfl rfl)
theorem dJ2_elementData_4 : decode cJ2_elementData 4 = .ok (.iload_n 1, 1) := dk_27 (dk_at dksJ2_elementData_0 4 rfl rfl)
theorem dJ2_elementData_5 : decode cJ2_elementData 5 = .ok (.aaload, 1) := dk_50 (dk_at dksJ2_elementData_0 5 rfl rfl)
theorem dJ2_elementData_6 : decode cJ2_elementData 6 = .ok (.areturn, 1) := dk_176 (dk_at dksJ2_elementData_0 6 rfl rfl)
def dkwJ2_get_0 : List UInt8 := [27, 42, 180, 0, 48, 184, 0, 118, 87, 42, 27, 182, 0, 123, 176]
abbrev dktJ2_get_0 : List UInt8 := dkwJ2_get_0 ++ []
theorem dksJ2_get_0 : cJ2_get.data.toList.drop 0 = dktJ2_get_0 := by decide +kernel
theorem dJ2_get_0 : decode cJ2_get 0 = .ok (.iload_n 1, 1) := dk_27 (dk_at dksJ2_get_0 0 rfl rfl)
theorem dJ2_get_1 : decode cJ2_get 1 = .ok (.aload_n 0, 1) := dk_42 (dk_at dksJ2_get_0 1 rfl rfl)
theorem dJ2_get_2 : decode cJ2_get 2 = .ok (.getfield 48, 3) := dk_180 0 48 (dk_at dksJ2_get_0 2 rfl rfl)
theorem dJ2_get_5 : decode cJ2_get 5 = .ok (.invokestatic 118, 3) := dk_184 0 118 (dk_at dksJ2_get_0 5 rfl rfl)
theorem dJ2_get_8 : decode cJ2_get 8 = .ok (.pop, 1) := dk_87 (dk_at dksJ2_get_0 8 rfl rfl)
theorem dJ2_get_9 : decode cJ2_get 9 = .ok (.aload_n 0, 1) := dk_42 (dk_at dksJ2_get_0 9 rfl rfl)
theorem dJ2_get_10 : decode cJ2_get 10 = .ok (.iload_n 1, 1) := dk_27 (dk_at dksJ2_get_0 10 rfl rfl)
theorem dJ2_get_11 : decode cJ2_get 11 = .ok (.invokevirtual 123, 3) := dk_182 0 123 (dk_at dksJ2_get_0 11 rfl rfl)
theorem dJ2_get_14 : decode cJ2_get 14 = .ok (.areturn, 1) := dk_176 (dk_at dksJ2_get_0 14 rfl rfl)
def dkwJ2_add_2_0 : List UInt8 := [29, 44, 190, 160, 0, 8, 42, 182, 0, 129, 77, 44, 29, 43, 83, 42, 29, 4, 96, 181, 0, 48, 177]
abbrev dktJ2_add_2_0 : List UInt8 := dkwJ2_add_2_0 ++ []
theorem dksJ2_add_2_0 : cJ2_add_2.data.toList.drop 0 = dktJ2_add_2_0 := by decide +kernel
theorem dJ2_add_2_0 : decode cJ2_add_2 0 = .ok (.iload_n 3, 1) := dk_29 (dk_at dksJ2_add_2_0 0 rfl rfl)
theorem dJ2_add_2_1 : decode cJ2_add_2 1 = .ok (.aload_n 2, 1) := dk_44 (dk_at dksJ2_add_2_0 1 rfl rfl)
theorem dJ2_add_2_2 : decode cJ2_add_2 2 = .ok (.arraylength, 1) := dk_190 (dk_at dksJ2_add_2_0 2 rfl rfl)
theorem dJ2_add_2_3 : decode cJ2_add_2 3 = .ok (.if_icmp .ne 8, 3) := dk_160 0 8 (dk_at dksJ2_add_2_0 3 rfl rfl)
theorem dJ2_add_2_6 : decode cJ2_add_2 6 = .ok (.aload_n 0, 1) := dk_42 (dk_at dksJ2_add_2_0 6 rfl rfl)
theorem dJ2_add_2_7 : decode cJ2_add_2 7 = .ok (.invokevirtual 129, 3) := dk_182 0 129 (dk_at dksJ2_add_2_0 7 rfl rfl)
theorem dJ2_add_2_10 : decode cJ2_add_2 10 = .ok (.astore_n 2, 1) := dk_77 (dk_at dksJ2_add_2_0 10 rfl rfl)
theorem dJ2_add_2_11 : decode cJ2_add_2 11 = .ok (.aload_n 2, 1) := dk_44 (dk_at dksJ2_add_2_0 11 rfl rfl)
theorem dJ2_add_2_12 : decode cJ2_add_2 12 = .ok (.iload_n 3, 1) := dk_29 (dk_at dksJ2_add_2_0 12 rfl rfl)
theorem dJ2_add_2_13 : decode cJ2_add_2 13 = .ok (.aload_n 1, 1) := dk_43 (dk_at dksJ2_add_2_0 13 rfl rfl)
theorem dJ2_add_2_14 : decode cJ2_add_2 14 = .ok (.aastore, 1) := dk_83 (dk_at dksJ2_add_2_0 14 rfl rfl)
theorem dJ2_add_2_15 : decode cJ2_add_2 15 = .ok (.aload_n 0, 1) := dk_42 (dk_at dksJ2_add_2_0 15 rfl rfl)
theorem dJ2_add_2_16 : decode cJ2_add_2 16 = .ok (.iload_n 3, 1) := dk_29 (dk_at dksJ2_add_2_0 16 rfl rfl)
theorem dJ2_add_2_17 : decode cJ2_add_2 17 = .ok (.iconst 1, 1) := dk_4 (dk_at dksJ2_add_2_0 17 rfl rfl)
theorem dJ2_add_2_18 : decode cJ2_add_2 18 = .ok (.iadd, 1) := dk_96 (dk_at dksJ2_add_2_0 18 rfl rfl)
theorem dJ2_add_2_19 : decode cJ2_add_2 19 = .ok (.putfield 48, 3) := dk_181 0 48 (dk_at dksJ2_add_2_0 19 rfl rfl)
theorem dJ2_add_2_22 : decode cJ2_add_2 22 = .ok (.return_, 1) := dk_177 (dk_at dksJ2_add_2_0 22 rfl rfl)
def dkwJ2_add_1 : List UInt8 := [172]
abbrev dktJ2_add_1 : List UInt8 := dkwJ2_add_1 ++ []
def dkwJ2_add_0 : List UInt8 := [42, 89, 180, 0, 63, 4, 96, 181, 0, 63, 42, 43, 42, 180, 0, 9, 42, 180, 0, 48, 182, 0, 131, 4]
abbrev dktJ2_add_0 : List UInt8 := dkwJ2_add_0 ++ dktJ2_add_1
theorem dksJ2_add_0 : cJ2_add.data.toList.drop 0 = dktJ2_add_0 := by decide +kernel
theorem dksJ2_add_1 : cJ2_add.data.toList.drop 24 = dktJ2_add_1 := dk_seg dksJ2_add_0 24 rfl rfl
theorem dJ2_add_0 : decode cJ2_add 0 = .ok (.aload_n 0, 1) := dk_42 (dk_at dksJ2_add_0 0 rfl rfl)
theorem dJ2_add_1 : decode cJ2_add 1 = .ok (.dup, 1) := dk_89 (dk_at dksJ2_add_0 1 rfl rfl)
theorem dJ2_add_2 : decode cJ2_add 2 = .ok (.getfield 63, 3) := dk_180 0 63 (dk_at dksJ2_add_0 2 rfl rfl)
theorem dJ2_add_5 : decode cJ2_add 5 = .ok (.iconst 1, 1) := dk_4 (dk_at dksJ2_add_0 5 rfl rfl)
theorem dJ2_add_6 : decode cJ2_add 6 = .ok (.iadd, 1) := dk_96 (dk_at dksJ2_add_0 6 rfl rfl)
theorem dJ2_add_7 : decode cJ2_add 7 = .ok (.putfield 63, 3) := dk_181 0 63 (dk_at dksJ2_add_0 7 rfl rfl)
theorem dJ2_add_10 : decode cJ2_add 10 = .ok (.aload_n 0, 1) := dk_42 (dk_at dksJ2_add_0 10 rfl rfl)
theorem dJ2_add_11 : decode cJ2_add 11 = .ok (.aload_n 1, 1) := dk_43 (dk_at dksJ2_add_0 11 rfl rfl)
theorem dJ2_add_12 : decode cJ2_add 12 = .ok (.aload_n 0, 1) := dk_42 (dk_at dksJ2_add_0 12 rfl rfl)
theorem dJ2_add_13 : decode cJ2_add 13 = .ok (.getfield 9, 3) := dk_180 0 9 (dk_at dksJ2_add_0 13 rfl rfl)
theorem dJ2_add_16 : decode cJ2_add 16 = .ok (.aload_n 0, 1) := dk_42 (dk_at dksJ2_add_0 16 rfl rfl)
theorem dJ2_add_17 : decode cJ2_add 17 = .ok (.getfield 48, 3) := dk_180 0 48 (dk_at dksJ2_add_0 17 rfl rfl)
theorem dJ2_add_20 : decode cJ2_add 20 = .ok (.invokevirtual 131, 3) := dk_182 0 131 (dk_at dksJ2_add_0 20 rfl rfl)
theorem dJ2_add_23 : decode cJ2_add 23 = .ok (.iconst 1, 1) := dk_4 (dk_at dksJ2_add_0 23 rfl rfl)
theorem dJ2_add_24 : decode cJ2_add 24 = .ok (.ireturn, 1) := dk_172 (dk_at dksJ2_add_1 0 rfl rfl)
def dkwJ2_clear_1 : List UInt8 := [181, 0, 48, 62, 29, 28, 162, 0, 13, 43, 29, 1, 83, 132, 3, 1, 167, 255, 244, 177]
abbrev dktJ2_clear_1 : List UInt8 := dkwJ2_clear_1 ++ []
def dkwJ2_clear_0 : List UInt8 := [42, 89, 180, 0, 63, 4, 96, 181, 0, 63, 42, 180, 0, 9, 76, 42, 180, 0, 48, 61, 42, 3, 90]
abbrev dktJ2_clear_0 : List UInt8 := dkwJ2_clear_0 ++ dktJ2_clear_1
theorem dksJ2_clear_0 : cJ2_clear.data.toList.drop 0 = dktJ2_clear_0 := by decide +kernel
theorem dksJ2_clear_1 : cJ2_clear.data.toList.drop 23 = dktJ2_clear_1 := dk_seg dksJ2_clear_0 23 rfl rfl
theorem dJ2_clear_0 : decode cJ2_clear 0 = .ok (.aload_n 0, 1) := dk_42 (dk_at dksJ2_clear_0 0 rfl rfl)
theorem dJ2_clear_1 : decode cJ2_clear 1 = .ok (.dup, 1) := dk_89 (dk_at dksJ2_clear_0 1 rfl rfl)
theorem dJ2_clear_2 : decode cJ2_clear 2 = .ok (.getfield 63, 3) := dk_180 0 63 (dk_at dksJ2_clear_0 2 rfl rfl)
theorem dJ2_clear_5 : decode cJ2_clear 5 = .ok (.iconst 1, 1) := dk_4 (dk_at dksJ2_clear_0 5 rfl rfl)
theorem dJ2_clear_6 : decode cJ2_clear 6 = .ok (.iadd, 1) := dk_96 (dk_at dksJ2_clear_0 6 rfl rfl)
theorem dJ2_clear_7 : decode cJ2_clear 7 = .ok (.putfield 63, 3) := dk_181 0 63 (dk_at dksJ2_clear_0 7 rfl rfl)
theorem dJ2_clear_10 : decode cJ2_clear 10 = .ok (.aload_n 0, 1) := dk_42 (dk_at dksJ2_clear_0 10 rfl rfl)
theorem dJ2_clear_11 : decode cJ2_clear 11 = .ok (.getfield 9, 3) := dk_180 0 9 (dk_at dksJ2_clear_0 11 rfl rfl)
theorem dJ2_clear_14 : decode cJ2_clear 14 = .ok (.astore_n 1, 1) := dk_76 (dk_at dksJ2_clear_0 14 rfl rfl)
theorem dJ2_clear_15 : decode cJ2_clear 15 = .ok (.aload_n 0, 1) := dk_42 (dk_at dksJ2_clear_0 15 rfl rfl)
theorem dJ2_clear_16 : decode cJ2_clear 16 = .ok (.getfield 48, 3) := dk_180 0 48 (dk_at dksJ2_clear_0 16 rfl rfl)
theorem dJ2_clear_19 : decode cJ2_clear 19 = .ok (.istore_n 2, 1) := dk_61 (dk_at dksJ2_clear_0 19 rfl rfl)
theorem dJ2_clear_20 : decode cJ2_clear 20 = .ok (.aload_n 0, 1) := dk_42 (dk_at dksJ2_clear_0 20 rfl rfl)
theorem dJ2_clear_21 : decode cJ2_clear 21 = .ok (.iconst 0, 1) := dk_3 (dk_at dksJ2_clear_0 21 rfl rfl)
theorem dJ2_clear_22 : decode cJ2_clear 22 = .ok (.dup_x1, 1) := dk_90 (dk_at dksJ2_clear_0 22 rfl rfl)
theorem dJ2_clear_23 : decode cJ2_clear 23 = .ok (.putfield 48, 3) := dk_181 0 48 (dk_at dksJ2_clear_1 0 rfl rfl)
theorem dJ2_clear_26 : decode cJ2_clear 26 = .ok (.istore_n 3, 1) := dk_62 (dk_at dksJ2_clear_1 3 rfl rfl)
theorem dJ2_clear_27 : decode cJ2_clear 27 = .ok (.iload_n 3, 1) := dk_29 (dk_at dksJ2_clear_1 4 rfl rfl)
theorem dJ2_clear_28 : decode cJ2_clear 28 = .ok (.iload_n 2, 1) := dk_28 (dk_at dksJ2_clear_1 5 rfl rfl)
theorem dJ2_clear_29 : decode cJ2_clear 29 = .ok (.if_icmp .ge 13, 3) := dk_162 0 13 (dk_at dksJ2_clear_1 6 rfl rfl)
theorem dJ2_clear_32 : decode cJ2_clear 32 = .ok (.aload_n 1, 1) := dk_43 (dk_at dksJ2_clear_1 9 rfl rfl)
theorem dJ2_clear_33 : decode cJ2_clear 33 = .ok (.iload_n 3, 1) := dk_29 (dk_at dksJ2_clear_1 10 rfl rfl)
theorem dJ2_clear_34 : decode cJ2_clear 34 = .ok (.aconst_null, 1) := dk_1 (dk_at dksJ2_clear_1 11 rfl rfl)
theorem dJ2_clear_35 : decode cJ2_clear 35 = .ok (.aastore, 1) := dk_83 (dk_at dksJ2_clear_1 12 rfl rfl)
theorem dJ2_clear_36 : decode cJ2_clear 36 = .ok (.iinc 3 1, 3) := dk_132 3 1 (dk_at dksJ2_clear_1 13 rfl rfl)
theorem dJ2_clear_39 : decode cJ2_clear 39 = .ok (.goto (-12), 3) := dk_167 255 244 (dk_at dksJ2_clear_1 16 rfl rfl)
theorem dJ2_clear_42 : decode cJ2_clear 42 = .ok (.return_, 1) := dk_177 (dk_at dksJ2_clear_1 19 rfl rfl)
def dkwJ5_coder_0 : List UInt8 := [178, 0, 38, 153, 0, 10, 42, 180, 0, 15, 167, 0, 4, 4, 172]
abbrev dktJ5_coder_0 : List UInt8 := dkwJ5_coder_0 ++ []
theorem dksJ5_coder_0 : cJ5_coder.data.toList.drop 0 = dktJ5_coder_0 := by decide +kernel
theorem dJ5_coder_0 : decode cJ5_coder 0 = .ok (.getstatic 38, 3) := dk_178 0 38 (dk_at dksJ5_coder_0 0 rfl rfl)
theorem dJ5_coder_3 : decode cJ5_coder 3 = .ok (.ifCond .eq 10, 3) := dk_153 0 10 (dk_at dksJ5_coder_0 3 rfl rfl)
theorem dJ5_coder_6 : decode cJ5_coder 6 = .ok (.aload_n 0, 1) := dk_42 (dk_at dksJ5_coder_0 6 rfl rfl)
theorem dJ5_coder_7 : decode cJ5_coder 7 = .ok (.getfield 15, 3) := dk_180 0 15 (dk_at dksJ5_coder_0 7 rfl rfl)
theorem dJ5_coder_10 : decode cJ5_coder 10 = .ok (.goto 4, 3) := dk_167 0 4 (dk_at dksJ5_coder_0 10 rfl rfl)
theorem dJ5_coder_13 : decode cJ5_coder 13 = .ok (.iconst 1, 1) := dk_4 (dk_at dksJ5_coder_0 13 rfl rfl)
theorem dJ5_coder_14 : decode cJ5_coder 14 = .ok (.ireturn, 1) := dk_172 (dk_at dksJ5_coder_0 14 rfl rfl)
def dkwJ5_length_0 : List UInt8 := [42, 180, 0, 9, 190, 42, 182, 1, 79, 122, 172]
abbrev dktJ5_length_0 : List UInt8 := dkwJ5_length_0 ++ []
theorem dksJ5_length_0 : cJ5_length.data.toList.drop 0 = dktJ5_length_0 := by decide +kernel
theorem dJ5_length_0 : decode cJ5_length 0 = .ok (.aload_n 0, 1) := dk_42 (dk_at dksJ5_length_0 0 rfl rfl)
theorem dJ5_length_1 : decode cJ5_length 1 = .ok (.getfield 9, 3) := dk_180 0 9 (dk_at dksJ5_length_0 1 rfl rfl)
theorem dJ5_length_4 : decode cJ5_length 4 = .ok (.arraylength, 1) := dk_190 (dk_at dksJ5_length_0 4 rfl rfl)
theorem dJ5_length_5 : decode cJ5_length 5 = .ok (.aload_n 0, 1) := dk_42 (dk_at dksJ5_length_0 5 rfl rfl)
theorem dJ5_length_6 : decode cJ5_length 6 = .ok (.invokevirtual 335, 3) := dk_182 1 79 (dk_at dksJ5_length_0 6 rfl rfl)
theorem dJ5_length_9 : decode cJ5_length 9 = .ok (.ishr, 1) := dk_122 (dk_at dksJ5_length_0 9 rfl rfl)
theorem dJ5_length_10 : decode cJ5_length 10 = .ok (.ireturn, 1) := dk_172 (dk_at dksJ5_length_0 10 rfl rfl)
def dkwJ5_isLatin1_0 : List UInt8 := [178, 0, 38, 153, 0, 14, 42, 180, 0, 15, 154, 0, 7, 4, 167, 0, 4, 3, 172]
abbrev dktJ5_isLatin1_0 : List UInt8 := dkwJ5_isLatin1_0 ++ []
theorem dksJ5_isLatin1_0 : cJ5_isLatin1.data.toList.drop 0 = dktJ5_isLatin1_0 := by decide +kernel
theorem dJ5_isLatin1_0 : decode cJ5_isLatin1 0 = .ok (.getstatic 38, 3) := dk_178 0 38 (dk_at dksJ5_isLatin1_0 0 rfl rfl)
theorem dJ5_isLatin1_3 : decode cJ5_isLatin1 3 = .ok (.ifCond .eq 14, 3) := dk_153 0 14 (dk_at dksJ5_isLatin1_0 3 rfl rfl)
theorem dJ5_isLatin1_6 : decode cJ5_isLatin1 6 = .ok (.aload_n 0, 1) := dk_42 (dk_at dksJ5_isLatin1_0 6 rfl rfl)
theorem dJ5_isLatin1_7 : decode cJ5_isLatin1 7 = .ok (.getfield 15, 3) := dk_180 0 15 (dk_at dksJ5_isLatin1_0 7 rfl rfl)
theorem dJ5_isLatin1_10 : decode cJ5_isLatin1 10 = .ok (.ifCond .ne 7, 3) := dk_154 0 7 (dk_at dksJ5_isLatin1_0 10 rfl rfl)
theorem dJ5_isLatin1_13 : decode cJ5_isLatin1 13 = .ok (.iconst 1, 1) := dk_4 (dk_at dksJ5_isLatin1_0 13 rfl rfl)
theorem dJ5_isLatin1_14 : decode cJ5_isLatin1 14 = .ok (.goto 4, 3) := dk_167 0 4 (dk_at dksJ5_isLatin1_0 14 rfl rfl)
theorem dJ5_isLatin1_17 : decode cJ5_isLatin1 17 = .ok (.iconst 0, 1) := dk_3 (dk_at dksJ5_isLatin1_0 17 rfl rfl)
theorem dJ5_isLatin1_18 : decode cJ5_isLatin1 18 = .ok (.ireturn, 1) := dk_172 (dk_at dksJ5_isLatin1_0 18 rfl rfl)
def dkwJ5_checkIndex_0 : List UInt8 := [26, 27, 178, 4, 29, 184, 4, 35, 87, 177]
abbrev dktJ5_checkIndex_0 : List UInt8 := dkwJ5_checkIndex_0 ++ []
theorem dksJ5_checkIndex_0 : cJ5_checkIndex.data.toList.drop 0 = dktJ5_checkIndex_0 := by decide +kernel
theorem dJ5_checkIndex_0 : decode cJ5_checkIndex 0 = .ok (.iload_n 0, 1) := dk_26 (dk_at dksJ5_checkIndex_0 0 rfl rfl)
theorem dJ5_checkIndex_1 : decode cJ5_checkIndex 1 = .ok (.iload_n 1, 1) := dk_27 (dk_at dksJ5_checkIndex_0 1 rfl rfl)
theorem dJ5_checkIndex_2 : decode cJ5_checkIndex 2 = .ok (.getstatic 1053, 3) := dk_178 4 29 (dk_at dksJ5_checkIndex_0 2 rfl rfl)
theorem dJ5_checkIndex_5 : decode cJ5_checkIndex 5 = .ok (.invokestatic 1059, 3) := dk_184 4 35 (dk_at dksJ5_checkIndex_0 5 rfl rfl)
theorem dJ5_checkIndex_8 : decode cJ5_checkIndex 8 = .ok (.pop, 1) := dk_87 (dk_at dksJ5_checkIndex_0 8 rfl rfl)
theorem dJ5_checkIndex_9 : decode cJ5_checkIndex 9 = .ok (.return_, 1) := dk_177 (dk_at dksJ5_checkIndex_0 9 rfl rfl)
def dkwJ6_charAt_0 : List UInt8 := [27, 42, 190, 184, 0, 9, 42, 27, 51, 17, 0, 255, 126, 146, 172]
abbrev dktJ6_charAt_0 : List UInt8 := dkwJ6_charAt_0 ++ []
theorem dksJ6_charAt_0 : cJ6_charAt.data.toList.drop 0 = dktJ6_charAt_0 := by decide +kernel
theorem dJ6_charAt_0 : decode cJ6_charAt 0 = .ok (.iload_n 1, 1) := dk_27 (dk_at dksJ6_charAt_0 0 rfl rfl)
theorem dJ6_charAt_1 : decode cJ6_charAt 1 = .ok (.aload_n 0, 1) := dk_42 (dk_at dksJ6_charAt_0 1 rfl rfl)
theorem dJ6_charAt_2 : decode cJ6_charAt 2 = .ok (.arraylength, 1) := dk_190 (dk_at dksJ6_charAt_0 2 rfl rfl)
theorem dJ6_charAt_3 : decode cJ6_charAt 3 = .ok (.invokestatic 9, 3) := dk_184 0 9 (dk_at dksJ6_charAt_0 3 rfl rfl)
theorem dJ6_charAt_6 : decode cJ6_charAt 6 = .ok (.aload_n 0, 1) := dk_42 (dk_at dksJ6_charAt_0 6 rfl rfl)
theorem dJ6_charAt_7 : decode cJ6_charAt 7 = .ok (.iload_n 1, 1) := dk_27 (dk_at dksJ6_charAt_0 7 rfl rfl)
theorem dJ6_charAt_8 : decode cJ6_charAt 8 = .ok (.baload, 1) := dk_51 (dk_at dksJ6_charAt_0 8 rfl rfl)
theorem dJ6_charAt_9 : decode cJ6_charAt 9 = .ok (.sipush 255, 3) := dk_17 0 255 (dk_at dksJ6_charAt_0 9 rfl rfl)
theorem dJ6_charAt_12 : decode cJ6_charAt 12 = .ok (.iand, 1) := dk_126 (dk_at dksJ6_charAt_0 12 rfl rfl)
theorem dJ6_charAt_13 : decode cJ6_charAt 13 = .ok (.i2c, 1) := dk_146 (dk_at dksJ6_charAt_0 13 rfl rfl)
theorem dJ6_charAt_14 : decode cJ6_charAt 14 = .ok (.ireturn, 1) := dk_172 (dk_at dksJ6_charAt_0 14 rfl rfl)
def dkwJ5_charAt_1 : List UInt8 := [172]
abbrev dktJ5_charAt_1 : List UInt8 := dkwJ5_charAt_1 ++ []
def dkwJ5_charAt_0 : List UInt8 := [42, 182, 1, 236, 153, 0, 12, 42, 180, 0, 9, 27, 184, 1, 239, 172, 42, 180, 0, 9, 27, 184, 1, 242]
abbrev dktJ5_charAt_0 : List UInt8 := dkwJ5_charAt_0 ++ dktJ5_charAt_1
theorem dksJ5_charAt_0 : cJ5_charAt.data.toList.drop 0 = dktJ5_charAt_0 := by decide +kernel
theorem dksJ5_charAt_1 : cJ5_charAt.data.toList.drop 24 = dktJ5_charAt_1 := dk_seg dksJ5_charAt_0 24 rfl rfl
theorem dJ5_charAt_0 : decode cJ5_charAt 0 = .ok (.aload_n 0, 1) := dk_42 (dk_at dksJ5_charAt_0 0 rfl rfl)
theorem dJ5_charAt_1 : decode cJ5_charAt 1 = .ok (.invokevirtual 492, 3) := dk_182 1 236 (dk_at dksJ5_charAt_0 1 rfl rfl)
theorem dJ5_charAt_4 : decode cJ5_charAt 4 = .ok (.ifCond .eq 12, 3) := dk_153 0 12 (dk_at dksJ5_charAt_0 4 rfl rfl)
theorem dJ5_charAt_7 : decode cJ5_charAt 7 = .ok (.aload_n 0, 1) := dk_42 (dk_at dksJ5_charAt_0 7 rfl rfl)
theorem dJ5_charAt_8 : decode cJ5_charAt 8 = .ok (.getfield 9, 3) := dk_180 0 9 (dk_at dksJ5_charAt_0 8 rfl rfl)
theorem dJ5_charAt_11 : decode cJ5_charAt 11 = .ok (.iload_n 1, 1) := dk_27 (dk_at dksJ5_charAt_0 11 rfl rfl)
theorem dJ5_charAt_12 : decode cJ5_charAt 12 = .ok (.invokestatic 495, 3) := dk_184 1 239 (dk_at dksJ5_charAt_0 12 rfl rfl)
theorem dJ5_charAt_15 : decode cJ5_charAt 15 = .ok (.ireturn, 1) := dk_172 (dk_at dksJ5_charAt_0 15 rfl rfl)
theorem dJ5_charAt_16 : decode cJ5_charAt 16 = .ok (.aload_n 0, 1) := dk_42 (dk_at dksJ5_charAt_0 16 rfl rfl)
theorem dJ5_charAt_17 : decode cJ5_charAt 17 = .ok (.getfield 9, 3) := dk_180 0 9 (dk_at dksJ5_charAt_0 17 rfl rfl)
theorem dJ5_charAt_20 : decode cJ5_charAt 20 = .ok (.iload_n 1, 1) := dk_27 (dk_at dksJ5_charAt_0 20 rfl rfl)
theorem dJ5_charAt_21 : decode cJ5_charAt 21 = .ok (.invokestatic 498, 3) := dk_184 1 242 (dk_at dksJ5_charAt_0 21 rfl rfl)
theorem dJ5_charAt_24 : decode cJ5_charAt 24 = .ok (.ireturn, 1) := dk_172 (dk_at dksJ5_charAt_1 0 rfl rfl)
def dkwJ6_canEncode_0 : List UInt8 := [26, 155, 0, 14, 26, 17, 0, 255, 163, 0, 7, 4, 167, 0, 4, 3, 172]
abbrev dktJ6_canEncode_0 : List UInt8 := dkwJ6_canEncode_0 ++ []
theorem dksJ6_canEncode_0 : cJ6_canEncode.data.toList.drop 0 = dktJ6_canEncode_0 := by decide +kernel
theorem dJ6_canEncode_0 : decode cJ6_canEncode 0 = .ok (.iload_n 0, 1) := dk_26 (dk_at dksJ6_canEncode_0 0 rfl rfl)
theorem dJ6_canEncode_1 : decode cJ6_canEncode 1 = .ok (.ifCond .lt 14, 3) := dk_155 0 14 (dk_at dksJ6_canEncode_0 1 rfl rfl)
theorem dJ6_canEncode_4 : decode cJ6_canEncode 4 = .ok (.iload_n 0, 1) := dk_26 (dk_at dksJ6_canEncode_0 4 rfl rfl)
theorem dJ6_canEncode_5 : decode cJ6_canEncode 5 = .ok (.sipush 255, 3) := dk_17 0 255 (dk_at dksJ6_canEncode_0 5 rfl rfl)
theorem dJ6_canEncode_8 : decode cJ6_canEncode 8 = .ok (.if_icmp .gt 7, 3) := dk_163 0 7 (dk_at dksJ6_canEncode_0 8 rfl rfl)
theorem dJ6_canEncode_11 : decode cJ6_canEncode 11 = .ok (.iconst 1, 1) := dk_4 (dk_at dksJ6_canEncode_0 11 rfl rfl)
theorem dJ6_canEncode_12 : decode cJ6_canEncode 12 = .ok (.goto 4, 3) := dk_167 0 4 (dk_at dksJ6_canEncode_0 12 rfl rfl)
theorem dJ6_canEncode_15 : decode cJ6_canEncode 15 = .ok (.iconst 0, 1) := dk_3 (dk_at dksJ6_canEncode_0 15 rfl rfl)
theorem dJ6_canEncode_16 : decode cJ6_canEncode 16 = .ok (.ireturn, 1) := dk_172 (dk_at dksJ6_canEncode_0 16 rfl rfl)
def dkwJ6_indexOfChar_1 : List UInt8 := [172, 132, 5, 1, 167, 255, 235, 2, 172]
abbrev dktJ6_indexOfChar_1 : List UInt8 := dkwJ6_indexOfChar_1 ++ []
def dkwJ6_indexOfChar_0 : List UInt8 := [27, 145, 54, 4, 28, 54, 5, 21, 5, 29, 162, 0, 21, 42, 21, 5, 51, 21, 4, 160, 0, 6, 21, 5]
abbrev dktJ6_indexOfChar_0 : List UInt8 := dkwJ6_indexOfChar_0 ++ dktJ6_indexOfChar_1
theorem dksJ6_indexOfChar_0 : cJ6_indexOfChar.data.toList.drop 0 = dktJ6_indexOfChar_0 := by decide +kernel
theorem dksJ6_indexOfChar_1 : cJ6_indexOfChar.data.toList.drop 24 = dktJ6_indexOfChar_1 := dk_seg dksJ6_indexOfChar_0 24 rfl rfl
theorem dJ6_indexOfChar_0 : decode cJ6_indexOfChar 0 = .ok (.iload_n 1, 1) := dk_27 (dk_at dksJ6_indexOfChar_0 0 rfl rfl)
theorem dJ6_indexOfChar_1 : decode cJ6_indexOfChar 1 = .ok (.i2b, 1) := dk_145 (dk_at dksJ6_indexOfChar_0 1 rfl rfl)
theorem dJ6_indexOfChar_2 : decode cJ6_indexOfChar 2 = .ok (.istore 4, 2) := dk_54 4 (dk_at dksJ6_indexOfChar_0 2 rfl rfl)
theorem dJ6_indexOfChar_4 : decode cJ6_indexOfChar 4 = .ok (.iload_n 2, 1) := dk_28 (dk_at dksJ6_indexOfChar_0 4 rfl rfl)
theorem dJ6_indexOfChar_5 : decode cJ6_indexOfChar 5 = .ok (.istore 5, 2) := dk_54 5 (dk_at dksJ6_indexOfChar_0 5 rfl rfl)
theorem dJ6_indexOfChar_7 : decode cJ6_indexOfChar 7 = .ok (.iload 5, 2) := dk_21 5 (dk_at dksJ6_indexOfChar_0 7 rfl rfl)
theorem dJ6_indexOfChar_9 : decode cJ6_indexOfChar 9 = .ok (.iload_n 3, 1) := dk_29 (dk_at dksJ6_indexOfChar_0 9 rfl rfl)
theorem dJ6_indexOfChar_10 : decode cJ6_indexOfChar 10 = .ok (.if_icmp .ge 21, 3) := dk_162 0 21 (dk_at dksJ6_indexOfChar_0 10 rfl rfl)
theorem dJ6_indexOfChar_13 : decode cJ6_indexOfChar 13 = .ok (.aload_n 0, 1) := dk_42 (dk_at dksJ6_indexOfChar_0 13 rfl rfl)
theorem dJ6_indexOfChar_14 : decode cJ6_indexOfChar 14 = .ok (.iload 5, 2) := dk_21 5 (dk_at dksJ6_indexOfChar_0 14 rfl rfl)
theorem dJ6_indexOfChar_16 : decode cJ6_indexOfChar 16 = .ok (.baload, 1) := dk_51 (dk_at dksJ6_indexOfChar_0 16 rfl rfl)
theorem dJ6_indexOfChar_17 : decode cJ6_indexOfChar 17 = .ok (.iload 4, 2) := dk_21 4 (dk_at dksJ6_indexOfChar_0 17 rfl rfl)
theorem dJ6_indexOfChar_19 : decode cJ6_indexOfChar 19 = .ok (.if_icmp .ne 6, 3) := dk_160 0 6 (dk_at dksJ6_indexOfChar_0 19 rfl rfl)
theorem dJ6_indexOfChar_22 : decode cJ6_indexOfChar 22 = .ok (.iload 5, 2) := dk_21 5 (dk_at dksJ6_indexOfChar_0 22 rfl rfl)
theorem dJ6_indexOfChar_24 : decode cJ6_indexOfChar 24 = .ok (.ireturn, 1) := dk_172 (dk_at dksJ6_indexOfChar_1 0 rfl rfl)
theorem dJ6_indexOfChar_25 : decode cJ6_indexOfChar 25 = .ok (.iinc 5 1, 3) := dk_132 5 1 (dk_at dksJ6_indexOfChar_1 1 rfl rfl)
theorem dJ6_indexOfChar_28 : decode cJ6_indexOfChar 28 = .ok (.goto (-21), 3) := dk_167 255 235 (dk_at dksJ6_indexOfChar_1 4 rfl rfl)
theorem dJ6_indexOfChar_31 : decode cJ6_indexOfChar 31 = .ok (.iconst (-1), 1) := dk_2 (dk_at dksJ6_indexOfChar_1 7 rfl rfl)
theorem dJ6_indexOfChar_32 : decode cJ6_indexOfChar 32 = .ok (.ireturn, 1) := dk_172 (dk_at dksJ6_indexOfChar_1 8 rfl rfl)
def dkwJ6_indexOf_1 : List UInt8 := [161, 0, 5, 2, 172, 42, 27, 28, 29, 184, 0, 95, 172]
abbrev dktJ6_indexOf_1 : List UInt8 := dkwJ6_indexOf_1 ++ []
def dkwJ6_indexOf_0 : List UInt8 := [27, 184, 0, 88, 154, 0, 5, 2, 172, 28, 3, 184, 0, 92, 61, 29, 42, 190, 184, 0, 38, 62, 28, 29]
abbrev dktJ6_indexOf_0 : List UInt8 := dkwJ6_indexOf_0 ++ dktJ6_indexOf_1
theorem dksJ6_indexOf_0 : cJ6_indexOf.data.toList.drop 0 = dktJ6_indexOf_0 := by decide +kernel
theorem dksJ6_indexOf_1 : cJ6_indexOf.data.toList.drop 24 = dktJ6_indexOf_1 := dk_seg dksJ6_indexOf_0 24 rfl rfl
theorem dJ6_indexOf_0 : decode cJ6_indexOf 0 = .ok (.iload_n 1, 1) := dk_27 (dk_at dksJ6_indexOf_0 0 rfl rfl)
theorem dJ6_indexOf_1 : decode cJ6_indexOf 1 = .ok (.invokestatic 88, 3) := dk_184 0 88 (dk_at dksJ6_indexOf_0 1 rfl rfl)
theorem dJ6_indexOf_4 : decode cJ6_indexOf 4 = .ok (.ifCond .ne 5, 3) := dk_154 0 5 (dk_at dksJ6_indexOf_0 4 rfl rfl)
theorem dJ6_indexOf_7 : decode cJ6_indexOf 7 = .ok (.iconst (-1), 1) := dk_2 (dk_at dksJ6_indexOf_0 7 rfl rfl)
theorem dJ6_indexOf_8 : decode cJ6_indexOf 8 = .ok (.ireturn, 1) := dk_172 (dk_at dksJ6_indexOf_0 8 rfl rfl)
theorem dJ6_indexOf_9 : decode cJ6_indexOf 9 = .ok (.iload_n 2, 1) := dk_28 (dk_at dksJ6_indexOf_0 9 rfl rfl)
theorem dJ6_indexOf_10 : decode cJ6_indexOf 10 = .ok (.iconst 0, 1) := dk_3 (dk_at dksJ6_indexOf_0 10 rfl rfl)
theorem dJ6_indexOf_11 : decode cJ6_indexOf 11 = .ok (.invokestatic 92, 3) := dk_184 0 92 (dk_at dksJ6_indexOf_0 11 rfl rfl)
theorem dJ6_indexOf_14 : decode cJ6_indexOf 14 = .ok (.istore_n 2, 1) := dk_61 (dk_at dksJ6_indexOf_0 14 rfl rfl)
theorem dJ6_indexOf_15 : decode cJ6_indexOf 15 = .ok (.iload_n 3, 1) := dk_29 (dk_at dksJ6_indexOf_0 15 rfl rfl)
theorem dJ6_indexOf_16 : decode cJ6_indexOf 16 = .ok (.aload_n 0, 1) := dk_42 (dk_at dksJ6_indexOf_0 16 rfl rfl)
theorem dJ6_indexOf_17 : decode cJ6_indexOf 17 = .ok (.arraylength, 1) := dk_190 (dk_at dksJ6_indexOf_0 17 rfl rfl)
theorem dJ6_indexOf_18 : decode cJ6_indexOf 18 = .ok (.invokestatic 38, 3) := dk_184 0 38 (dk_at dksJ6_indexOf_0 18 rfl rfl)
theorem dJ6_indexOf_21 : decode cJ6_indexOf 21 = .ok (.istore_n 3, 1) := dk_62 (dk_at dksJ6_indexOf_0 21 rfl rfl)
theorem dJ6_indexOf_22 : decode cJ6_indexOf 22 = .ok (.iload_n 2, 1) := dk_28 (dk_at dksJ6_indexOf_0 22 rfl rfl)
theorem dJ6_indexOf_23 : decode cJ6_indexOf 23 = .ok (.iload_n 3, 1) := dk_29 (dk_at dksJ6_indexOf_0 23 rfl rfl)
theorem dJ6_indexOf_24 : decode cJ6_indexOf 24 = .ok (.if_icmp .lt 5, 3) := dk_161 0 5 (dk_at dksJ6_indexOf_1 0 rfl rfl)
theorem dJ6_indexOf_27 : decode cJ6_indexOf 27 = .ok (.iconst (-1), 1) := dk_2 (dk_at dksJ6_indexOf_1 3 rfl rfl)
theorem dJ6_indexOf_28 : decode cJ6_indexOf 28 = .ok (.ireturn, 1) := dk_172 (dk_at dksJ6_indexOf_1 4 rfl rfl)
theorem dJ6_indexOf_29 : decode cJ6_indexOf 29 = .ok (.aload_n 0, 1) := dk_42 (dk_at dksJ6_indexOf_1 5 rfl rfl)
theorem dJ6_indexOf_30 : decode cJ6_indexOf 30 = .ok (.iload_n 1, 1) := dk_27 (dk_at dksJ6_indexOf_1 6 rfl rfl)
theorem dJ6_indexOf_31 : decode cJ6_indexOf 31 = .ok (.iload_n 2, 1) := dk_28 (dk_at dksJ6_indexOf_1 7 rfl rfl)
theorem dJ6_indexOf_32 : decode cJ6_indexOf 32 = .ok (.iload_n 3, 1) := dk_29 (dk_at dksJ6_indexOf_1 8 rfl rfl)
theorem dJ6_indexOf_33 : decode cJ6_indexOf 33 = .ok (.invokestatic 95, 3) := dk_184 0 95 (dk_at dksJ6_indexOf_1 9 rfl rfl)
theorem dJ6_indexOf_36 : decode cJ6_indexOf 36 = .ok (.ireturn, 1) := dk_172 (dk_at dksJ6_indexOf_1 12 rfl rfl)
def dkwJ5_indexOf_2_1 : List UInt8 := [180, 0, 9, 27, 28, 42, 182, 1, 249, 184, 2, 128, 172]
abbrev dktJ5_indexOf_2_1 : List UInt8 := dkwJ5_indexOf_2_1 ++ []
def dkwJ5_indexOf_2_0 : List UInt8 := [42, 182, 1, 236, 153, 0, 19, 42, 180, 0, 9, 27, 28, 42, 182, 1, 249, 184, 2, 125, 167, 0, 16, 42]
abbrev dktJ5_indexOf_2_0 : List UInt8 := dkwJ5_indexOf_2_0 ++ dktJ5_indexOf_2_1
theorem dksJ5_indexOf_2_0 : cJ5_indexOf_2.data.toList.drop 0 = dktJ5_indexOf_2_0 := by decide +kernel
theorem dksJ5_indexOf_2_1 : cJ5_indexOf_2.data.toList.drop 24 = dktJ5_indexOf_2_1 := dk_seg dksJ5_indexOf_2_0 24 rfl rfl
theorem dJ5_indexOf_2_0 : decode cJ5_indexOf_2 0 = .ok (.aload_n 0, 1) := dk_42 (dk_at dksJ5_indexOf_2_0 0 rfl rfl)
theorem dJ5_indexOf_2_1 : decode cJ5_indexOf_2 1 = .ok (.invokevirtual 492, 3) := dk_182 1 236 (dk_at dksJ5_indexOf_2_0 1 rfl rfl)
theorem dJ5_indexOf_2_4 : decode cJ5_indexOf_2 4 = .ok (.ifCond .eq 19, 3) := dk_153 0 19 (dk_at dksJ5_indexOf_2_0 4 rfl rfl)
theorem dJ5_indexOf_2_7 : decode cJ5_indexOf_2 7 = .ok (.aload_n 0, 1) := dk_42 (dk_at dksJ5_indexOf_2_0 7 rfl rfl)
theorem dJ5_indexOf_2_8 : decode cJ5_indexOf_2 8 = .ok (.getfield 9, 3) := dk_180 0 9 (dk_at dksJ5_indexOf_2_0 8 rfl rfl)
theorem dJ5_indexOf_2_11 : decode cJ5_indexOf_2 11 = .ok (.iload_n 1, 1) := dk_27 (dk_at dksJ5_indexOf_2_0 11 rfl rfl)
theorem dJ5_indexOf_2_12 : decode cJ5_indexOf_2 12 = .ok (.iload_n 2, 1) := dk_28 (dk_at dksJ5_indexOf_2_0 12 rfl rfl)
theorem dJ5_indexOf_2_13 : decode cJ5_indexOf_2 13 = .ok (.aload_n 0, 1) := dk_42 (dk_at dksJ5_indexOf_2_0 13 rfl rfl)
theorem dJ5_indexOf_2_14 : decode cJ5_indexOf_2 14 = .ok (.invokevirtual 505, 3) := dk_182 1 249 (dk_at dksJ5_indexOf_2_0 14 rfl rfl)
theorem dJ5_indexOf_2_17 : decode cJ5_indexOf_2 17 = .ok (.invokestatic 637, 3) := dk_184 2 125 (dk_at dksJ5_indexOf_2_0 17 rfl rfl)
theorem dJ5_indexOf_2_20 : decode cJ5_indexOf_2 20 = .ok (.goto 16, 3) := dk_167 0 16 (dk_at dksJ5_indexOf_2_0 20 rfl rfl)
theorem dJ5_indexOf_2_23 : decode cJ5_indexOf_2 23 = .ok (.aload_n 0, 1) := dk_42 (dk_at dksJ5_indexOf_2_0 23 rfl rfl)
theorem dJ5_indexOf_2_24 : decode cJ5_indexOf_2 24 = .ok (.getfield 9, 3) := dk_180 0 9 (dk_at dksJ5_indexOf_2_1 0 rfl rfl)
theorem dJ5_indexOf_2_27 : decode cJ5_indexOf_2 27 = .ok (.iload_n 1, 1) := dk_27 (dk_at dksJ5_indexOf_2_1 3 rfl rfl)
theorem dJ5_indexOf_2_28 : decode cJ5_indexOf_2 28 = .ok (.iload_n 2, 1) := dk_28 (dk_at dksJ5_indexOf_2_1 4 rfl rfl)
theorem dJ5_indexOf_2_29 : decode cJ5_indexOf_2 29 = .ok (.aload_n 0, 1) := dk_42 (dk_at dksJ5_indexOf_2_1 5 rfl rfl)
theorem dJ5_indexOf_2_30 : decode cJ5_indexOf_2 30 = .ok (.invokevirtual 505, 3) := dk_182 1 249 (dk_at dksJ5_indexOf_2_1 6 rfl rfl)
theorem dJ5_indexOf_2_33 : decode cJ5_indexOf_2 33 = .ok (.invokestatic 640, 3) := dk_184 2 128 (dk_at dksJ5_indexOf_2_1 9 rfl rfl)
theorem dJ5_indexOf_2_36 : decode cJ5_indexOf_2 36 = .ok (.ireturn, 1) := dk_172 (dk_at dksJ5_indexOf_2_1 12 rfl rfl)
def dkwJ5_indexOf_0 : List UInt8 := [42, 27, 3, 182, 2, 121, 172]
abbrev dktJ5_indexOf_0 : List UInt8 := dkwJ5_indexOf_0 ++ []
theorem dksJ5_indexOf_0 : cJ5_indexOf.data.toList.drop 0 = dktJ5_indexOf_0 := by decide +kernel
theorem dJ5_indexOf_0 : decode cJ5_indexOf 0 = .ok (.aload_n 0, 1) := dk_42 (dk_at dksJ5_indexOf_0 0 rfl rfl)
theorem dJ5_indexOf_1 : decode cJ5_indexOf 1 = .ok (.iload_n 1, 1) := dk_27 (dk_at dksJ5_indexOf_0 1 rfl rfl)
theorem dJ5_indexOf_2 : decode cJ5_indexOf 2 = .ok (.iconst 0, 1) := dk_3 (dk_at dksJ5_indexOf_0 2 rfl rfl)
theorem dJ5_indexOf_3 : decode cJ5_indexOf 3 = .ok (.invokevirtual 633, 3) := dk_182 2 121 (dk_at dksJ5_indexOf_0 3 rfl rfl)
theorem dJ5_indexOf_6 : decode cJ5_indexOf 6 = .ok (.ireturn, 1) := dk_172 (dk_at dksJ5_indexOf_0 6 rfl rfl)
def dkwX1_persons_0 : List UInt8 := [42, 180, 0, 13, 180, 0, 17, 182, 0, 23, 172]
abbrev dktX1_persons_0 : List UInt8 := dkwX1_persons_0 ++ []
theorem dksX1_persons_0 : cX1_persons.data.toList.drop 0 = dktX1_persons_0 := by decide +kernel
theorem dX1_persons_0 : decode cX1_persons 0 = .ok (.aload_n 0, 1) := dk_42 (dk_at dksX1_persons_0 0 rfl rfl)
theorem dX1_persons_1 : decode cX1_persons 1 = .ok (.getfield 13, 3) := dk_180 0 13 (dk_at dksX1_persons_0 1 rfl rfl)
theorem dX1_persons_4 : decode cX1_persons 4 = .ok (.getfield 17, 3) := dk_180 0 17 (dk_at dksX1_persons_0 4 rfl rfl)
theorem dX1_persons_7 : decode cX1_persons 7 = .ok (.invokevirtual 23, 3) := dk_182 0 23 (dk_at dksX1_persons_0 7 rfl rfl)
theorem dX1_persons_10 : decode cX1_persons 10 = .ok (.ireturn, 1) := dk_172 (dk_at dksX1_persons_0 10 rfl rfl)
def dkwX1_put_1 : List UInt8 := [122, 145, 84, 132, 2, 248, 167, 255, 229, 177]
abbrev dktX1_put_1 : List UInt8 := dkwX1_put_1 ++ []
def dkwX1_put_0 : List UInt8 := [16, 24, 61, 28, 155, 0, 29, 42, 180, 0, 56, 42, 89, 180, 0, 141, 90, 4, 96, 181, 0, 141, 27, 28]
abbrev dktX1_put_0 : List UInt8 := dkwX1_put_0 ++ dktX1_put_1
theorem dksX1_put_0 : cX1_put.data.toList.drop 0 = dktX1_put_0 := by decide +kernel
theorem dksX1_put_1 : cX1_put.data.toList.drop 24 = dktX1_put_1 := dk_seg dksX1_put_0 24 rfl rfl
theorem dX1_put_0 : decode cX1_put 0 = .ok (.bipush 24, 2) := dk_16 24 (dk_at dksX1_put_0 0 rfl rfl)
theorem dX1_put_2 : decode cX1_put 2 = .ok (.istore_n 2, 1) := dk_61 (dk_at dksX1_put_0 2 rfl rfl)
theorem dX1_put_3 : decode cX1_put 3 = .ok (.iload_n 2, 1) := dk_28 (dk_at dksX1_put_0 3 rfl rfl)
theorem dX1_put_4 : decode cX1_put 4 = .ok (.ifCond .lt 29, 3) := dk_155 0 29 (dk_at dksX1_put_0 4 rfl rfl)
theorem dX1_put_7 : decode cX1_put 7 = .ok (.aload_n 0, 1) := dk_42 (dk_at dksX1_put_0 7 rfl rfl)
theorem dX1_put_8 : decode cX1_put 8 = .ok (.getfield 56, 3) := dk_180 0 56 (dk_at dksX1_put_0 8 rfl rfl)
theorem dX1_put_11 : decode cX1_put 11 = .ok (.aload_n 0, 1) := dk_42 (dk_at dksX1_put_0 11 rfl rfl)
theorem dX1_put_12 : decode cX1_put 12 = .ok (.dup, 1) := dk_89 (dk_at dksX1_put_0 12 rfl rfl)
theorem dX1_put_13 : decode cX1_put 13 = .ok (.getfield 141, 3) := dk_180 0 141 (dk_at dksX1_put_0 13 rfl rfl)
theorem dX1_put_16 : decode cX1_put 16 = .ok (.dup_x1, 1) := dk_90 (dk_at dksX1_put_0 16 rfl rfl)
theorem dX1_put_17 : decode cX1_put 17 = .ok (.iconst 1, 1) := dk_4 (dk_at dksX1_put_0 17 rfl rfl)
theorem dX1_put_18 : decode cX1_put 18 = .ok (.iadd, 1) := dk_96 (dk_at dksX1_put_0 18 rfl rfl)
theorem dX1_put_19 : decode cX1_put 19 = .ok (.putfield 141, 3) := dk_181 0 141 (dk_at dksX1_put_0 19 rfl rfl)
theorem dX1_put_22 : decode cX1_put 22 = .ok (.iload_n 1, 1) := dk_27 (dk_at dksX1_put_0 22 rfl rfl)
theorem dX1_put_23 : decode cX1_put 23 = .ok (.iload_n 2, 1) := dk_28 (dk_at dksX1_put_0 23 rfl rfl)
theorem dX1_put_24 : decode cX1_put 24 = .ok (.ishr, 1) := dk_122 (dk_at dksX1_put_1 0 rfl rfl)
theorem dX1_put_25 : decode cX1_put 25 = .ok (.i2b, 1) := dk_145 (dk_at dksX1_put_1 1 rfl rfl)
theorem dX1_put_26 : decode cX1_put 26 = .ok (.bastore, 1) := dk_84 (dk_at dksX1_put_1 2 rfl rfl)
theorem dX1_put_27 : decode cX1_put 27 = .ok (.iinc 2 (-8), 3) := dk_132 2 248 (dk_at dksX1_put_1 3 rfl rfl)
theorem dX1_put_30 : decode cX1_put 30 = .ok (.goto (-27), 3) := dk_167 255 229 (dk_at dksX1_put_1 6 rfl rfl)
theorem dX1_put_33 : decode cX1_put 33 = .ok (.return_, 1) := dk_177 (dk_at dksX1_put_1 9 rfl rfl)
def dkwX1_feed_2 : List UInt8 := [172]
abbrev dktX1_feed_2 : List UInt8 := dkwX1_feed_2 ++ []
def dkwX1_feed_1 : List UInt8 := [182, 0, 144, 42, 29, 182, 0, 144, 42, 21, 4, 182, 0, 144, 42, 21, 5, 182, 0, 144, 42, 180, 0, 141]
abbrev dktX1_feed_1 : List UInt8 := dkwX1_feed_1 ++ dktX1_feed_2
def dkwX1_feed_0 : List UInt8 := [42, 180, 0, 141, 16, 20, 96, 17, 2, 188, 164, 0, 5, 2, 172, 42, 27, 182, 0, 144, 42, 28]
abbrev dktX1_feed_0 : List UInt8 := dkwX1_feed_0 ++ dktX1_feed_1
theorem dksX1_feed_0 : cX1_feed.data.toList.drop 0 = dktX1_feed_0 := by decide +kernel
theorem dksX1_feed_1 : cX1_feed.data.toList.drop 22 = dktX1_feed_1 := dk_seg dksX1_feed_0 22 rfl rfl
theorem dksX1_feed_2 : cX1_feed.data.toList.drop 46 = dktX1_feed_2 := dk_seg dksX1_feed_1 24 rfl rfl
theorem dX1_feed_0 : decode cX1_feed 0 = .ok (.aload_n 0, 1) := dk_42 (dk_at dksX1_feed_0 0 rfl rfl)
theorem dX1_feed_1 : decode cX1_feed 1 = .ok (.getfield 141, 3) := dk_180 0 141 (dk_at dksX1_feed_0 1 rfl rfl)
theorem dX1_feed_4 : decode cX1_feed 4 = .ok (.bipush 20, 2) := dk_16 20 (dk_at dksX1_feed_0 4 rfl rfl)
theorem dX1_feed_6 : decode cX1_feed 6 = .ok (.iadd, 1) := dk_96 (dk_at dksX1_feed_0 6 rfl rfl)
theorem dX1_feed_7 : decode cX1_feed 7 = .ok (.sipush 700, 3) := dk_17 2 188 (dk_at dksX1_feed_0 7 rfl rfl)
theorem dX1_feed_10 : decode cX1_feed 10 = .ok (.if_icmp .le 5, 3) := dk_164 0 5 (dk_at dksX1_feed_0 10 rfl rfl)
theorem dX1_feed_13 : decode cX1_feed 13 = .ok (.iconst (-1), 1) := dk_2 (dk_at dksX1_feed_0 13 rfl rfl)
theorem dX1_feed_14 : decode cX1_feed 14 = .ok (.ireturn, 1) := dk_172 (dk_at dksX1_feed_0 14 rfl rfl)
theorem dX1_feed_15 : decode cX1_feed 15 = .ok (.aload_n 0, 1) := dk_42 (dk_at dksX1_feed_0 15 rfl rfl)
theorem dX1_feed_16 : decode cX1_feed 16 = .ok (.iload_n 1, 1) := dk_27 (dk_at dksX1_feed_0 16 rfl rfl)
theorem dX1_feed_17 : decode cX1_feed 17 = .ok (.invokevirtual 144, 3) := dk_182 0 144 (dk_at dksX1_feed_0 17 rfl rfl)
theorem dX1_feed_20 : decode cX1_feed 20 = .ok (.aload_n 0, 1) := dk_42 (dk_at dksX1_feed_0 20 rfl rfl)
theorem dX1_feed_21 : decode cX1_feed 21 = .ok (.iload_n 2, 1) := dk_28 (dk_at dksX1_feed_0 21 rfl rfl)
theorem dX1_feed_22 : decode cX1_feed 22 = .ok (.invokevirtual 144, 3) := dk_182 0 144 (dk_at dksX1_feed_1 0 rfl rfl)
theorem dX1_feed_25 : decode cX1_feed 25 = .ok (.aload_n 0, 1) := dk_42 (dk_at dksX1_feed_1 3 rfl rfl)
theorem dX1_feed_26 : decode cX1_feed 26 = .ok (.iload_n 3, 1) := dk_29 (dk_at dksX1_feed_1 4 rfl rfl)
theorem dX1_feed_27 : decode cX1_feed 27 = .ok (.invokevirtual 144, 3) := dk_182 0 144 (dk_at dksX1_feed_1 5 rfl rfl)
theorem dX1_feed_30 : decode cX1_feed 30 = .ok (.aload_n 0, 1) := dk_42 (dk_at dksX1_feed_1 8 rfl rfl)
theorem dX1_feed_31 : decode cX1_feed 31 = .ok (.iload 4, 2) := dk_21 4 (dk_at dksX1_feed_1 9 rfl rfl)
theorem dX1_feed_33 : decode cX1_feed 33 = .ok (.invokevirtual 144, 3) := dk_182 0 144 (dk_at dksX1_feed_1 11 rfl rfl)
theorem dX1_feed_36 : decode cX1_feed 36 = .ok (.aload_n 0, 1) := dk_42 (dk_at dksX1_feed_1 14 rfl rfl)
theorem dX1_feed_37 : decode cX1_feed 37 = .ok (.iload 5, 2) := dk_21 5 (dk_at dksX1_feed_1 15 rfl rfl)
theorem dX1_feed_39 : decode cX1_feed 39 = .ok (.invokevirtual 144, 3) := dk_182 0 144 (dk_at dksX1_feed_1 17 rfl rfl)
theorem dX1_feed_42 : decode cX1_feed 42 = .ok (.aload_n 0, 1) := dk_42 (dk_at dksX1_feed_1 20 rfl rfl)
theorem dX1_feed_43 : decode cX1_feed 43 = .ok (.getfield 141, 3) := dk_180 0 141 (dk_at dksX1_feed_1 21 rfl rfl)
theorem dX1_feed_46 : decode cX1_feed 46 = .ok (.ireturn, 1) := dk_172 (dk_at dksX1_feed_2 0 rfl rfl)
def dkwX1_in_0 : List UInt8 := [30, 32, 148, 155, 0, 14, 30, 22, 4, 148, 157, 0, 7, 4, 167, 0, 4, 3, 172]
abbrev dktX1_in_0 : List UInt8 := dkwX1_in_0 ++ []
theorem dksX1_in_0 : cX1_in.data.toList.drop 0 = dktX1_in_0 := by decide +kernel
theorem dX1_in_0 : decode cX1_in 0 = .ok (.lload_n 0, 1) := dk_30 (dk_at dksX1_in_0 0 rfl rfl)
theorem dX1_in_1 : decode cX1_in 1 = .ok (.lload_n 2, 1) := dk_32 (dk_at dksX1_in_0 1 rfl rfl)
theorem dX1_in_2 : decode cX1_in 2 = .ok (.lcmp, 1) := dk_148 (dk_at dksX1_in_0 2 rfl rfl)
theorem dX1_in_3 : decode cX1_in 3 = .ok (.ifCond .lt 14, 3) := dk_155 0 14 (dk_at dksX1_in_0 3 rfl rfl)
theorem dX1_in_6 : decode cX1_in 6 = .ok (.lload_n 0, 1) := dk_30 (dk_at dksX1_in_0 6 rfl rfl)
theorem dX1_in_7 : decode cX1_in 7 = .ok (.lload 4, 2) := dk_22 4 (dk_at dksX1_in_0 7 rfl rfl)
theorem dX1_in_9 : decode cX1_in 9 = .ok (.lcmp, 1) := dk_148 (dk_at dksX1_in_0 9 rfl rfl)
theorem dX1_in_10 : decode cX1_in 10 = .ok (.ifCond .gt 7, 3) := dk_157 0 7 (dk_at dksX1_in_0 10 rfl rfl)
theorem dX1_in_13 : decode cX1_in 13 = .ok (.iconst 1, 1) := dk_4 (dk_at dksX1_in_0 13 rfl rfl)
theorem dX1_in_14 : decode cX1_in 14 = .ok (.goto 4, 3) := dk_167 0 4 (dk_at dksX1_in_0 14 rfl rfl)
theorem dX1_in_17 : decode cX1_in 17 = .ok (.iconst 0, 1) := dk_3 (dk_at dksX1_in_0 17 rfl rfl)
theorem dX1_in_18 : decode cX1_in 18 = .ok (.ireturn, 1) := dk_172 (dk_at dksX1_in_0 18 rfl rfl)
def dkwX3_init_3 : List UInt8 := [181, 0, 38, 42, 16, 9, 181, 0, 42, 177]
abbrev dktX3_init_3 : List UInt8 := dkwX3_init_3 ++ []
def dkwX3_init_2 : List UInt8 := [181, 0, 26, 42, 16, 10, 188, 10, 181, 0, 30, 42, 16, 10, 188, 10, 181, 0, 33, 42, 5, 189, 0, 36]
abbrev dktX3_init_2 : List UInt8 := dkwX3_init_2 ++ dktX3_init_3
def dkwX3_init_1 : List UInt8 := [183, 0, 11, 181, 0, 20, 42, 187, 0, 9, 89, 16, 8, 183, 0, 11, 181, 0, 23, 42, 16, 10, 188, 10]
abbrev dktX3_init_1 : List UInt8 := dkwX3_init_1 ++ dktX3_init_2
def dkwX3_init_0 : List UInt8 := [42, 183, 0, 3, 42, 187, 0, 9, 89, 16, 8, 183, 0, 11, 181, 0, 14, 42, 187, 0, 9, 89, 8]
abbrev dktX3_init_0 : List UInt8 := dkwX3_init_0 ++ dktX3_init_1
theorem dksX3_init_0 : cX3_init.data.toList.drop 0 = dktX3_init_0 := by decide +kernel
theorem dksX3_init_1 : cX3_init.data.toList.drop 23 = dktX3_init_1 := dk_seg dksX3_init_0 23 rfl rfl
theorem dksX3_init_2 : cX3_init.data.toList.drop 47 = dktX3_init_2 := dk_seg dksX3_init_1 24 rfl rfl
theorem dksX3_init_3 : cX3_init.data.toList.drop 71 = dktX3_init_3 := dk_seg dksX3_init_2 24 rfl rfl
theorem dX3_init_0 : decode cX3_init 0 = .ok (.aload_n 0, 1) := dk_42 (dk_at dksX3_init_0 0 rfl rfl)
theorem dX3_init_1 : decode cX3_init 1 = .ok (.invokespecial 3, 3) := dk_183 0 3 (dk_at dksX3_init_0 1 rfl rfl)
theorem dX3_init_4 : decode cX3_init 4 = .ok (.aload_n 0, 1) := dk_42 (dk_at dksX3_init_0 4 rfl rfl)
theorem dX3_init_5 : decode cX3_init 5 = .ok (.new 9, 3) := dk_187 0 9 (dk_at dksX3_init_0 5 rfl rfl)
theorem dX3_init_8 : decode cX3_init 8 = .ok (.dup, 1) := dk_89 (dk_at dksX3_init_0 8 rfl rfl)
theorem dX3_init_9 : decode cX3_init 9 = .ok (.bipush 8, 2) := dk_16 8 (dk_at dksX3_init_0 9 rfl rfl)
theorem dX3_init_11 : decode cX3_init 11 = .ok (.invokespecial 11, 3) := dk_183 0 11 (dk_at dksX3_init_0 11 rfl rfl)
theorem dX3_init_14 : decode cX3_init 14 = .ok (.putfield 14, 3) := dk_181 0 14 (dk_at dksX3_init_0 14 rfl rfl)
theorem dX3_init_17 : decode cX3_init 17 = .ok (.aload_n 0, 1) := dk_42 (dk_at dksX3_init_0 17 rfl rfl)
theorem dX3_init_18 : decode cX3_init 18 = .ok (.new 9, 3) := dk_187 0 9 (dk_at dksX3_init_0 18 rfl rfl)
theorem dX3_init_21 : decode cX3_init 21 = .ok (.dup, 1) := dk_89 (dk_at dksX3_init_0 21 rfl rfl)
theorem dX3_init_22 : decode cX3_init 22 = .ok (.iconst 5, 1) := dk_8 (dk_at dksX3_init_0 22 rfl rfl)
theorem dX3_init_23 : decode cX3_init 23 = .ok (.invokespecial 11, 3) := dk_183 0 11 (dk_at dksX3_init_1 0 rfl rfl)
theorem dX3_init_26 : decode cX3_init 26 = .ok (.putfield 20, 3) := dk_181 0 20 (dk_at dksX3_init_1 3 rfl rfl)
theorem dX3_init_29 : decode cX3_init 29 = .ok (.aload_n 0, 1) := dk_42 (dk_at dksX3_init_1 6 rfl rfl)
theorem dX3_init_30 : decode cX3_init 30 = .ok (.new 9, 3) := dk_187 0 9 (dk_at dksX3_init_1 7 rfl rfl)
theorem dX3_init_33 : decode cX3_init 33 = .ok (.dup, 1) := dk_89 (dk_at dksX3_init_1 10 rfl rfl)
theorem dX3_init_34 : decode cX3_init 34 = .ok (.bipush 8, 2) := dk_16 8 (dk_at dksX3_init_1 11 rfl rfl)
theorem dX3_init_36 : decode cX3_init 36 = .ok (.invokespecial 11, 3) := dk_183 0 11 (dk_at dksX3_init_1 13 rfl rfl)
theorem dX3_init_39 : decode cX3_init 39 = .ok (.putfield 23, 3) := dk_181 0 23 (dk_at dksX3_init_1 16 rfl rfl)
theorem dX3_init_42 : decode cX3_init 42 = .ok (.aload_n 0, 1) := dk_42 (dk_at dksX3_init_1 19 rfl rfl)
theorem dX3_init_43 : decode cX3_init 43 = .ok (.bipush 10, 2) := dk_16 10 (dk_at dksX3_init_1 20 rfl rfl)
theorem dX3_init_45 : decode cX3_init 45 = .ok (.newarray .int, 2) := dk_188_10 (dk_at dksX3_init_1 22 rfl rfl)
theorem dX3_init_47 : decode cX3_init 47 = .ok (.putfield 26, 3) := dk_181 0 26 (dk_at dksX3_init_2 0 rfl rfl)
theorem dX3_init_50 : decode cX3_init 50 = .ok (.aload_n 0, 1) := dk_42 (dk_at dksX3_init_2 3 rfl rfl)
theorem dX3_init_51 : decode cX3_init 51 = .ok (.bipush 10, 2) := dk_16 10 (dk_at dksX3_init_2 4 rfl rfl)
theorem dX3_init_53 : decode cX3_init 53 = .ok (.newarray .int, 2) := dk_188_10 (dk_at dksX3_init_2 6 rfl rfl)
theorem dX3_init_55 : decode cX3_init 55 = .ok (.putfield 30, 3) := dk_181 0 30 (dk_at dksX3_init_2 8 rfl rfl)
theorem dX3_init_58 : decode cX3_init 58 = .ok (.aload_n 0, 1) := dk_42 (dk_at dksX3_init_2 11 rfl rfl)
theorem dX3_init_59 : decode cX3_init 59 = .ok (.bipush 10, 2) := dk_16 10 (dk_at dksX3_init_2 12 rfl rfl)
theorem dX3_init_61 : decode cX3_init 61 = .ok (.newarray .int, 2) := dk_188_10 (dk_at dksX3_init_2 14 rfl rfl)
theorem dX3_init_63 : decode cX3_init 63 = .ok (.putfield 33, 3) := dk_181 0 33 (dk_at dksX3_init_2 16 rfl rfl)
theorem dX3_init_66 : decode cX3_init 66 = .ok (.aload_n 0, 1) := dk_42 (dk_at dksX3_init_2 19 rfl rfl)
theorem dX3_init_67 : decode cX3_init 67 = .ok (.iconst 2, 1) := dk_5 (dk_at dksX3_init_2 20 rfl rfl)
theorem dX3_init_68 : decode cX3_init 68 = .ok (.anewarray 36, 3) := dk_189 0 36 (dk_at dksX3_init_2 21 rfl rfl)
theorem dX3_init_71 : decode cX3_init 71 = .ok (.putfield 38, 3) := dk_181 0 38 (dk_at dksX3_init_3 0 rfl rfl)
theorem dX3_init_74 : decode cX3_init 74 = .ok (.aload_n 0, 1) := dk_42 (dk_at dksX3_init_3 3 rfl rfl)
theorem dX3_init_75 : decode cX3_init 75 = .ok (.bipush 9, 2) := dk_16 9 (dk_at dksX3_init_3 4 rfl rfl)
theorem dX3_init_77 : decode cX3_init 77 = .ok (.putfield 42, 3) := dk_181 0 42 (dk_at dksX3_init_3 6 rfl rfl)
theorem dX3_init_80 : decode cX3_init 80 = .ok (.return_, 1) := dk_177 (dk_at dksX3_init_3 9 rfl rfl)
def dkwX2_here_1 : List UInt8 := [17, 0, 255, 126, 167, 0, 4, 2, 172]
abbrev dktX2_here_1 : List UInt8 := dkwX2_here_1 ++ []
def dkwX2_here_0 : List UInt8 := [42, 180, 0, 15, 42, 180, 0, 19, 162, 0, 22, 42, 180, 0, 3, 180, 0, 22, 42, 180, 0, 15, 51]
abbrev dktX2_here_0 : List UInt8 := dkwX2_here_0 ++ dktX2_here_1
theorem dksX2_here_0 : cX2_here.data.toList.drop 0 = dktX2_here_0 := by decide +kernel
theorem dksX2_here_1 : cX2_here.data.toList.drop 23 = dktX2_here_1 := dk_seg dksX2_here_0 23 rfl rfl
theorem dX2_here_0 : decode cX2_here 0 = .ok (.aload_n 0, 1) := dk_42 (dk_at dksX2_here_0 0 rfl rfl)
theorem dX2_here_1 : decode cX2_here 1 = .ok (.getfield 15, 3) := dk_180 0 15 (dk_at dksX2_here_0 1 rfl rfl)
theorem dX2_here_4 : decode cX2_here 4 = .ok (.aload_n 0, 1) := dk_42 (dk_at dksX2_here_0 4 rfl rfl)
theorem dX2_here_5 : decode cX2_here 5 = .ok (.getfield 19, 3) := dk_180 0 19 (dk_at dksX2_here_0 5 rfl rfl)
theorem dX2_here_8 : decode cX2_here 8 = .ok (.if_icmp .ge 22, 3) := dk_162 0 22 (dk_at dksX2_here_0 8 rfl rfl)
theorem dX2_here_11 : decode cX2_here 11 = .ok (.aload_n 0, 1) := dk_42 (dk_at dksX2_here_0 11 rfl rfl)
theorem dX2_here_12 : decode cX2_here 12 = .ok (.getfield 3, 3) := dk_180 0 3 (dk_at dksX2_here_0 12 rfl rfl)
theorem dX2_here_15 : decode cX2_here 15 = .ok (.getfield 22, 3) := dk_180 0 22 (dk_at dksX2_here_0 15 rfl rfl)
theorem dX2_here_18 : decode cX2_here 18 = .ok (.aload_n 0, 1) := dk_42 (dk_at dksX2_here_0 18 rfl rfl)
theorem dX2_here_19 : decode cX2_here 19 = .ok (.getfield 15, 3) := dk_180 0 15 (dk_at dksX2_here_0 19 rfl rfl)
theorem dX2_here_22 : decode cX2_here 22 = .ok (.baload, 1) := dk_51 (dk_at dksX2_here_0 22 rfl rfl)
theorem dX2_here_23 : decode cX2_here 23 = .ok (.sipush 255, 3) := dk_17 0 255 (dk_at dksX2_here_1 0 rfl rfl)
theorem dX2_here_26 : decode cX2_here 26 = .ok (.iand, 1) := dk_126 (dk_at dksX2_here_1 3 rfl rfl)
theorem dX2_here_27 : decode cX2_here 27 = .ok (.goto 4, 3) := dk_167 0 4 (dk_at dksX2_here_1 4 rfl rfl)
theorem dX2_here_30 : decode cX2_here 30 = .ok (.iconst (-1), 1) := dk_2 (dk_at dksX2_here_1 7 rfl rfl)
theorem dX2_here_31 : decode cX2_here 31 = .ok (.ireturn, 1) := dk_172 (dk_at dksX2_here_1 8 rfl rfl)
def dkwX2_sign_5 : List UInt8 := [17, 1, 0, 161, 0, 13, 42, 89, 180, 0, 15, 4, 96, 181, 0, 15, 177]
abbrev dktX2_sign_5 : List UInt8 := dkwX2_sign_5 ++ []
def dkwX2_sign_4 : List UInt8 := [160, 0, 19, 42, 182, 0, 26, 16, 61, 160, 0, 10, 42, 17, 1, 1, 181, 0, 47, 42, 180, 0, 47]
abbrev dktX2_sign_4 : List UInt8 := dkwX2_sign_4 ++ dktX2_sign_5
def dkwX2_sign_3 : List UInt8 := [42, 182, 0, 26, 16, 62, 160, 0, 13, 42, 17, 1, 2, 181, 0, 47, 167, 0, 25, 27, 16, 62]
abbrev dktX2_sign_3 : List UInt8 := dkwX2_sign_3 ++ dktX2_sign_4
def dkwX2_sign_2 : List UInt8 := [182, 0, 26, 16, 61, 160, 0, 13, 42, 17, 1, 0, 181, 0, 47, 167, 0, 50, 27, 16, 60, 160, 0, 22]
abbrev dktX2_sign_2 : List UInt8 := dkwX2_sign_2 ++ dktX2_sign_3
def dkwX2_sign_1 : List UInt8 := [155, 0, 7, 6, 167, 0, 4, 8, 181, 0, 33, 42, 27, 181, 0, 47, 27, 16, 60, 160, 0, 22, 42]
abbrev dktX2_sign_1 : List UInt8 := dkwX2_sign_1 ++ dktX2_sign_2
def dkwX2_sign_0 : List UInt8 := [42, 182, 0, 26, 60, 42, 89, 180, 0, 15, 4, 96, 181, 0, 15, 42, 18, 61, 27, 182, 0, 63]
abbrev dktX2_sign_0 : List UInt8 := dkwX2_sign_0 ++ dktX2_sign_1
theorem dksX2_sign_0 : cX2_sign.data.toList.drop 0 = dktX2_sign_0 := by decide +kernel
theorem dksX2_sign_1 : cX2_sign.data.toList.drop 22 = dktX2_sign_1 := dk_seg dksX2_sign_0 22 rfl rfl
theorem dksX2_sign_2 : cX2_sign.data.toList.drop 45 = dktX2_sign_2 := dk_seg dksX2_sign_1 23 rfl rfl
theorem dksX2_sign_3 : cX2_sign.data.toList.drop 69 = dktX2_sign_3 := dk_seg dksX2_sign_2 24 rfl rfl
theorem dksX2_sign_4 : cX2_sign.data.toList.drop 91 = dktX2_sign_4 := dk_seg dksX2_sign_3 22 rfl rfl
theorem dksX2_sign_5 : cX2_sign.data.toList.drop 114 = dktX2_sign_5 := dk_seg dksX2_sign_4 23 rfl rfl
theorem dX2_sign_0 : decode cX2_sign 0 = .ok (.aload_n 0, 1) := dk_42 (dk_at dksX2_sign_0 0 rfl rfl)
theorem dX2_sign_1 : decode cX2_sign 1 = .ok (.invokevirtual 26, 3) := dk_182 0 26 (dk_at dksX2_sign_0 1 rfl rfl)
theorem dX2_sign_4 : decode cX2_sign 4 = .ok (.istore_n 1, 1) := dk_60 (dk_at dksX2_sign_0 4 rfl rfl)
theorem dX2_sign_5 : decode cX2_sign 5 = .ok (.aload_n 0, 1) := dk_42 (dk_at dksX2_sign_0 5 rfl rfl)
theorem dX2_sign_6 : decode cX2_sign 6 = .ok (.dup, 1) := dk_89 (dk_at dksX2_sign_0 6 rfl rfl)
theorem dX2_sign_7 : decode cX2_sign 7 = .ok (.getfield 15, 3) := dk_180 0 15 (dk_at dksX2_sign_0 7 rfl rfl)
theorem dX2_sign_10 : decode cX2_sign 10 = .ok (.iconst 1, 1) := dk_4 (dk_at dksX2_sign_0 10 rfl rfl)
theorem dX2_sign_11 : decode cX2_sign 11 = .ok (.iadd, 1) := dk_96 (dk_at dksX2_sign_0 11 rfl rfl)
theorem dX2_sign_12 : decode cX2_sign 12 = .ok (.putfield 15, 3) := dk_181 0 15 (dk_at dksX2_sign_0 12 rfl rfl)
theorem dX2_sign_15 : decode cX2_sign 15 = .ok (.aload_n 0, 1) := dk_42 (dk_at dksX2_sign_0 15 rfl rfl)
theorem dX2_sign_16 : decode cX2_sign 16 = .ok (.ldc 61, 2) := dk_18 61 (dk_at dksX2_sign_0 16 rfl rfl)
theorem dX2_sign_18 : decode cX2_sign 18 = .ok (.iload_n 1, 1) := dk_27 (dk_at dksX2_sign_0 18 rfl rfl)
theorem dX2_sign_19 : decode cX2_sign 19 = .ok (.invokevirtual 63, 3) := dk_182 0 63 (dk_at dksX2_sign_0 19 rfl rfl)
theorem dX2_sign_22 : decode cX2_sign 22 = .ok (.ifCond .lt 7, 3) := dk_155 0 7 (dk_at dksX2_sign_1 0 rfl rfl)
theorem dX2_sign_25 : decode cX2_sign 25 = .ok (.iconst 3, 1) := dk_6 (dk_at dksX2_sign_1 3 rfl rfl)
theorem dX2_sign_26 : decode cX2_sign 26 = .ok (.goto 4, 3) := dk_167 0 4 (dk_at dksX2_sign_1 4 rfl rfl)
theorem dX2_sign_29 : decode cX2_sign 29 = .ok (.iconst 5, 1) := dk_8 (dk_at dksX2_sign_1 7 rfl rfl)
theorem dX2_sign_30 : decode cX2_sign 30 = .ok (.putfield 33, 3) := dk_181 0 33 (dk_at dksX2_sign_1 8 rfl rfl)
theorem dX2_sign_33 : decode cX2_sign 33 = .ok (.aload_n 0, 1) := dk_42 (dk_at dksX2_sign_1 11 rfl rfl)
theorem dX2_sign_34 : decode cX2_sign 34 = .ok (.iload_n 1, 1) := dk_27 (dk_at dksX2_sign_1 12 rfl rfl)
theorem dX2_sign_35 : decode cX2_sign 35 = .ok (.putfield 47, 3) := dk_181 0 47 (dk_at dksX2_sign_1 13 rfl rfl)
theorem dX2_sign_38 : decode cX2_sign 38 = .ok (.iload_n 1, 1) := dk_27 (dk_at dksX2_sign_1 16 rfl rfl)
theorem dX2_sign_39 : decode cX2_sign 39 = .ok (.bipush 60, 2) := dk_16 60 (dk_at dksX2_sign_1 17 rfl rfl)
theorem dX2_sign_41 : decode cX2_sign 41 = .ok (.if_icmp .ne 22, 3) := dk_160 0 22 (dk_at dksX2_sign_1 19 rfl rfl)
theorem dX2_sign_44 : decode cX2_sign 44 = .ok (.aload_n 0, 1) := dk_42 (dk_at dksX2_sign_1 22 rfl rfl)
theorem dX2_sign_45 : decode cX2_sign 45 = .ok (.invokevirtual 26, 3) := dk_182 0 26 (dk_at dksX2_sign_2 0 rfl rfl)
theorem dX2_sign_48 : decode cX2_sign 48 = .ok (.bipush 61, 2) := dk_16 61 (dk_at dksX2_sign_2 3 rfl rfl)
theorem dX2_sign_50 : decode cX2_sign 50 = .ok (.if_icmp .ne 13, 3) := dk_160 0 13 (dk_at dksX2_sign_2 5 rfl rfl)
theorem dX2_sign_53 : decode cX2_sign 53 = .ok (.aload_n 0, 1) := dk_42 (dk_at dksX2_sign_2 8 rfl rfl)
theorem dX2_sign_54 : decode cX2_sign 54 = .ok (.sipush 256, 3) := dk_17 1 0 (dk_at dksX2_sign_2 9 rfl rfl)
theorem dX2_sign_57 : decode cX2_sign 57 = .ok (.putfield 47, 3) := dk_181 0 47 (dk_at dksX2_sign_2 12 rfl rfl)
theorem dX2_sign_60 : decode cX2_sign 60 = .ok (.goto 50, 3) := dk_167 0 50 (dk_at dksX2_sign_2 15 rfl rfl)
theorem dX2_sign_63 : decode cX2_sign 63 = .ok (.iload_n 1, 1) := dk_27 (dk_at dksX2_sign_2 18 rfl rfl)
theorem dX2_sign_64 : decode cX2_sign 64 = .ok (.bipush 60, 2) := dk_16 60 (dk_at dksX2_sign_2 19 rfl rfl)
theorem dX2_sign_66 : decode cX2_sign 66 = .ok (.if_icmp .ne 22, 3) := dk_160 0 22 (dk_at dksX2_sign_2 21 rfl rfl)
theorem dX2_sign_69 : decode cX2_sign 69 = .ok (.aload_n 0, 1) := dk_42 (dk_at dksX2_sign_3 0 rfl rfl)
theorem dX2_sign_70 : decode cX2_sign 70 = .ok (.invokevirtual 26, 3) := dk_182 0 26 (dk_at dksX2_sign_3 1 rfl rfl)
theorem dX2_sign_73 : decode cX2_sign 73 = .ok (.bipush 62, 2) := dk_16 62 (dk_at dksX2_sign_3 4 rfl rfl)
theorem dX2_sign_75 : decode cX2_sign 75 = .ok (.if_icmp .ne 13, 3) := dk_160 0 13 (dk_at dksX2_sign_3 6 rfl rfl)
theorem dX2_sign_78 : decode cX2_sign 78 = .ok (.aload_n 0, 1) := dk_42 (dk_at dksX2_sign_3 9 rfl rfl)
theorem dX2_sign_79 : decode cX2_sign 79 = .ok (.sipush 258, 3) := dk_17 1 2 (dk_at dksX2_sign_3 10 rfl rfl)
theorem dX2_sign_82 : decode cX2_sign 82 = .ok (.putfield 47, 3) := dk_181 0 47 (dk_at dksX2_sign_3 13 rfl rfl)
theorem dX2_sign_85 : decode cX2_sign 85 = .ok (.goto 25, 3) := dk_167 0 25 (dk_at dksX2_sign_3 16 rfl rfl)
theorem dX2_sign_88 : decode cX2_sign 88 = .ok (.iload_n 1, 1) := dk_27 (dk_at dksX2_sign_3 19 rfl rfl)
theorem dX2_sign_89 : decode cX2_sign 89 = .ok (.bipush 62, 2) := dk_16 62 (dk_at dksX2_sign_3 20 rfl rfl)
theorem dX2_sign_91 : decode cX2_sign 91 = .ok (.if_icmp .ne 19, 3) := dk_160 0 19 (dk_at dksX2_sign_4 0 rfl rfl)
theorem dX2_sign_94 : decode cX2_sign 94 = .ok (.aload_n 0, 1) := dk_42 (dk_at dksX2_sign_4 3 rfl rfl)
theorem dX2_sign_95 : decode cX2_sign 95 = .ok (.invokevirtual 26, 3) := dk_182 0 26 (dk_at dksX2_sign_4 4 rfl rfl)
theorem dX2_sign_98 : decode cX2_sign 98 = .ok (.bipush 61, 2) := dk_16 61 (dk_at dksX2_sign_4 7 rfl rfl)
theorem dX2_sign_100 : decode cX2_sign 100 = .ok (.if_icmp .ne 10, 3) := dk_160 0 10 (dk_at dksX2_sign_4 9 rfl rfl)
theorem dX2_sign_103 : decode cX2_sign 103 = .ok (.aload_n 0, 1) := dk_42 (dk_at dksX2_sign_4 12 rfl rfl)
theorem dX2_sign_104 : decode cX2_sign 104 = .ok (.sipush 257, 3) := dk_17 1 1 (dk_at dksX2_sign_4 13 rfl rfl)
theorem dX2_sign_107 : decode cX2_sign 107 = .ok (.putfield 47, 3) := dk_181 0 47 (dk_at dksX2_sign_4 16 rfl rfl)
theorem dX2_sign_110 : decode cX2_sign 110 = .ok (.aload_n 0, 1) := dk_42 (dk_at dksX2_sign_4 19 rfl rfl)
theorem dX2_sign_111 : decode cX2_sign 111 = .ok (.getfield 47, 3) := dk_180 0 47 (dk_at dksX2_sign_4 20 rfl rfl)
theorem dX2_sign_114 : decode cX2_sign 114 = .ok (.sipush 256, 3) := dk_17 1 0 (dk_at dksX2_sign_5 0 rfl rfl)
theorem dX2_sign_117 : decode cX2_sign 117 = .ok (.if_icmp .lt 13, 3) := dk_161 0 13 (dk_at dksX2_sign_5 3 rfl rfl)
theorem dX2_sign_120 : decode cX2_sign 120 = .ok (.aload_n 0, 1) := dk_42 (dk_at dksX2_sign_5 6 rfl rfl)
theorem dX2_sign_121 : decode cX2_sign 121 = .ok (.dup, 1) := dk_89 (dk_at dksX2_sign_5 7 rfl rfl)
theorem dX2_sign_122 : decode cX2_sign 122 = .ok (.getfield 15, 3) := dk_180 0 15 (dk_at dksX2_sign_5 8 rfl rfl)
theorem dX2_sign_125 : decode cX2_sign 125 = .ok (.iconst 1, 1) := dk_4 (dk_at dksX2_sign_5 11 rfl rfl)
theorem dX2_sign_126 : decode cX2_sign 126 = .ok (.iadd, 1) := dk_96 (dk_at dksX2_sign_5 12 rfl rfl)
theorem dX2_sign_127 : decode cX2_sign 127 = .ok (.putfield 15, 3) := dk_181 0 15 (dk_at dksX2_sign_5 13 rfl rfl)
theorem dX2_sign_130 : decode cX2_sign 130 = .ok (.return_, 1) := dk_177 (dk_at dksX2_sign_5 16 rfl rfl)
def dkwX2_word_4 : List UInt8 := [27, 172, 132, 1, 1, 167, 255, 160, 2, 172]
abbrev dktX2_word_4 : List UInt8 := dkwX2_word_4 ++ []
def dkwX2_word_3 : List UInt8 := [96, 51, 160, 0, 9, 132, 2, 1, 167, 255, 214, 42, 180, 0, 30, 28, 96, 42, 180, 0, 15, 160, 0, 5]
abbrev dktX2_word_3 : List UInt8 := dkwX2_word_3 ++ dktX2_word_4
def dkwX2_word_2 : List UInt8 := [162, 0, 35, 178, 0, 69, 27, 50, 28, 182, 0, 76, 42, 180, 0, 3, 180, 0, 22, 42, 180, 0, 30, 28]
abbrev dktX2_word_2 : List UInt8 := dkwX2_word_2 ++ dktX2_word_3
def dkwX2_word_1 : List UInt8 := [180, 0, 30, 100, 159, 0, 6, 167, 0, 65, 3, 61, 42, 180, 0, 30, 28, 96, 42, 180, 0, 15]
abbrev dktX2_word_1 : List UInt8 := dkwX2_word_1 ++ dktX2_word_2
def dkwX2_word_0 : List UInt8 := [3, 60, 27, 178, 0, 69, 190, 162, 0, 94, 178, 0, 69, 27, 50, 182, 0, 73, 42, 180, 0, 15, 42]
abbrev dktX2_word_0 : List UInt8 := dkwX2_word_0 ++ dktX2_word_1
theorem dksX2_word_0 : cX2_word.data.toList.drop 0 = dktX2_word_0 := by decide +kernel
theorem dksX2_word_1 : cX2_word.data.toList.drop 23 = dktX2_word_1 := dk_seg dksX2_word_0 23 rfl rfl
theorem dksX2_word_2 : cX2_word.data.toList.drop 45 = dktX2_word_2 := dk_seg dksX2_word_1 22 rfl rfl
theorem dksX2_word_3 : cX2_word.data.toList.drop 69 = dktX2_word_3 := dk_seg dksX2_word_2 24 rfl rfl
theorem dksX2_word_4 : cX2_word.data.toList.drop 93 = dktX2_word_4 := dk_seg dksX2_word_3 24 rfl rfl
theorem dX2_word_0 : decode cX2_word 0 = .ok (.iconst 0, 1) := dk_3 (dk_at dksX2_word_0 0 rfl rfl)
theorem dX2_word_1 : decode cX2_word 1 = .ok (.istore_n 1, 1) := dk_60 (dk_at dksX2_word_0 1 rfl rfl)
theorem dX2_word_2 : decode cX2_word 2 = .ok (.iload_n 1, 1) := dk_27 (dk_at dksX2_word_0 2 rfl rfl)
theorem dX2_word_3 : decode cX2_word 3 = .ok (.getstatic 69, 3) := dk_178 0 69 (dk_at dksX2_word_0 3 rfl rfl)
theorem dX2_word_6 : decode cX2_word 6 = .ok (.arraylength, 1) := dk_190 (dk_at dksX2_word_0 6 rfl rfl)
theorem dX2_word_7 : decode cX2_word 7 = .ok (.if_icmp .ge 94, 3) := dk_162 0 94 (dk_at dksX2_word_0 7 rfl rfl)
theorem dX2_word_10 : decode cX2_word 10 = .ok (.getstatic 69, 3) := dk_178 0 69 (dk_at dksX2_word_0 10 rfl rfl)
theorem dX2_word_13 : decode cX2_word 13 = .ok (.iload_n 1, 1) := dk_27 (dk_at dksX2_word_0 13 rfl rfl)
theorem dX2_word_14 : decode cX2_word 14 = .ok (.aaload, 1) := dk_50 (dk_at dksX2_word_0 14 rfl rfl)
theorem dX2_word_15 : decode cX2_word 15 = .ok (.invokevirtual 73, 3) := dk_182 0 73 (dk_at dksX2_word_0 15 rfl rfl)
theorem dX2_word_18 : decode cX2_word 18 = .ok (.aload_n 0, 1) := dk_42 (dk_at dksX2_word_0 18 rfl rfl)
theorem dX2_word_19 : decode cX2_word 19 = .ok (.getfield 15, 3) := dk_180 0 15 (dk_at dksX2_word_0 19 rfl rfl)
theorem dX2_word_22 : decode cX2_word 22 = .ok (.aload_n 0, 1) := dk_42 (dk_at dksX2_word_0 22 rfl rfl)
theorem dX2_word_23 : decode cX2_word 23 = .ok (.getfield 30, 3) := dk_180 0 30 (dk_at dksX2_word_1 0 rfl rfl)
theorem dX2_word_26 : decode cX2_word 26 = .ok (.isub, 1) := dk_100 (dk_at dksX2_word_1 3 rfl rfl)
theorem dX2_word_27 : decode cX2_word 27 = .ok (.if_icmp .eq 6, 3) := dk_159 0 6 (dk_at dksX2_word_1 4 rfl rfl)
theorem dX2_word_30 : decode cX2_word 30 = .ok (.goto 65, 3) := dk_167 0 65 (dk_at dksX2_word_1 7 rfl rfl)
theorem dX2_word_33 : decode cX2_word 33 = .ok (.iconst 0, 1) := dk_3 (dk_at dksX2_word_1 10 rfl rfl)
theorem dX2_word_34 : decode cX2_word 34 = .ok (.istore_n 2, 1) := dk_61 (dk_at dksX2_word_1 11 rfl rfl)
theorem dX2_word_35 : decode cX2_word 35 = .ok (.aload_n 0, 1) := dk_42 (dk_at dksX2_word_1 12 rfl rfl)
theorem dX2_word_36 : decode cX2_word 36 = .ok (.getfield 30, 3) := dk_180 0 30 (dk_at dksX2_word_1 13 rfl rfl)
theorem dX2_word_39 : decode cX2_word 39 = .ok (.iload_n 2, 1) := dk_28 (dk_at dksX2_word_1 16 rfl rfl)
theorem dX2_word_40 : decode cX2_word 40 = .ok (.iadd, 1) := dk_96 (dk_at dksX2_word_1 17 rfl rfl)
theorem dX2_word_41 : decode cX2_word 41 = .ok (.aload_n 0, 1) := dk_42 (dk_at dksX2_word_1 18 rfl rfl)
theorem dX2_word_42 : decode cX2_word 42 = .ok (.getfield 15, 3) := dk_180 0 15 (dk_at dksX2_word_1 19 rfl rfl)
theorem dX2_word_45 : decode cX2_word 45 = .ok (.if_icmp .ge 35, 3) := dk_162 0 35 (dk_at dksX2_word_2 0 rfl rfl)
theorem dX2_word_48 : decode cX2_word 48 = .ok (.getstatic 69, 3) := dk_178 0 69 (dk_at dksX2_word_2 3 rfl rfl)
theorem dX2_word_51 : decode cX2_word 51 = .ok (.iload_n 1, 1) := dk_27 (dk_at dksX2_word_2 6 rfl rfl)
theorem dX2_word_52 : decode cX2_word 52 = .ok (.aaload, 1) := dk_50 (dk_at dksX2_word_2 7 rfl rfl)
theorem dX2_word_53 : decode cX2_word 53 = .ok (.iload_n 2, 1) := dk_28 (dk_at dksX2_word_2 8 rfl rfl)
theorem dX2_word_54 : decode cX2_word 54 = .ok (.invokevirtual 76, 3) := dk_182 0 76 (dk_at dksX2_word_2 9 rfl rfl)
theorem dX2_word_57 : decode cX2_word 57 = .ok (.aload_n 0, 1) := dk_42 (dk_at dksX2_word_2 12 rfl rfl)
theorem dX2_word_58 : decode cX2_word 58 = .ok (.getfield 3, 3) := dk_180 0 3 (dk_at dksX2_word_2 13 rfl rfl)
theorem dX2_word_61 : decode cX2_word 61 = .ok (.getfield 22, 3) := dk_180 0 22 (dk_at dksX2_word_2 16 rfl rfl)
theorem dX2_word_64 : decode cX2_word 64 = .ok (.aload_n 0, 1) := dk_42 (dk_at dksX2_word_2 19 rfl rfl)
theorem dX2_word_65 : decode cX2_word 65 = .ok (.getfield 30, 3) := dk_180 0 30 (dk_at dksX2_word_2 20 rfl rfl)
theorem dX2_word_68 : decode cX2_word 68 = .ok (.iload_n 2, 1) := dk_28 (dk_at dksX2_word_2 23 rfl rfl)
theorem dX2_word_69 : decode cX2_word 69 = .ok (.iadd, 1) := dk_96 (dk_at dksX2_word_3 0 rfl rfl)
theorem dX2_word_70 : decode cX2_word 70 = .ok (.baload, 1) := dk_51 (dk_at dksX2_word_3 1 rfl rfl)
theorem dX2_word_71 : decode cX2_word 71 = .ok (.if_icmp .ne 9, 3) := dk_160 0 9 (dk_at dksX2_word_3 2 rfl rfl)
theorem dX2_word_74 : decode cX2_word 74 = .ok (.iinc 2 1, 3) := dk_132 2 1 (dk_at dksX2_word_3 5 rfl rfl)
theorem dX2_word_77 : decode cX2_word 77 = .ok (.goto (-42), 3) := dk_167 255 214 (dk_at dksX2_word_3 8 rfl rfl)
theorem dX2_word_80 : decode cX2_word 80 = .ok (.aload_n 0, 1) := dk_42 (dk_at dksX2_word_3 11 rfl rfl)
theorem dX2_word_81 : decode cX2_word 81 = .ok (.getfield 30, 3) := dk_180 0 30 (dk_at dksX2_word_3 12 rfl rfl)
theorem dX2_word_84 : decode cX2_word 84 = .ok (.iload_n 2, 1) := dk_28 (dk_at dksX2_word_3 15 rfl rfl)
theorem dX2_word_85 : decode cX2_word 85 = .ok (.iadd, 1) := dk_96 (dk_at dksX2_word_3 16 rfl rfl)
theorem dX2_word_86 : decode cX2_word 86 = .ok (.aload_n 0, 1) := dk_42 (dk_at dksX2_word_3 17 rfl rfl)
theorem dX2_word_87 : decode cX2_word 87 = .ok (.getfield 15, 3) := dk_180 0 15 (dk_at dksX2_word_3 18 rfl rfl)
theorem dX2_word_90 : decode cX2_word 90 = .ok (.if_icmp .ne 5, 3) := dk_160 0 5 (dk_at dksX2_word_3 21 rfl rfl)
theorem dX2_word_93 : decode cX2_word 93 = .ok (.iload_n 1, 1) := dk_27 (dk_at dksX2_word_4 0 rfl rfl)
theorem dX2_word_94 : decode cX2_word 94 = .ok (.ireturn, 1) := dk_172 (dk_at dksX2_word_4 1 rfl rfl)
theorem dX2_word_95 : decode cX2_word 95 = .ok (.iinc 1 1, 3) := dk_132 1 1 (dk_at dksX2_word_4 2 rfl rfl)
theorem dX2_word_98 : decode cX2_word 98 = .ok (.goto (-96), 3) := dk_167 255 160 (dk_at dksX2_word_4 5 rfl rfl)
theorem dX2_word_101 : decode cX2_word 101 = .ok (.iconst (-1), 1) := dk_2 (dk_at dksX2_word_4 8 rfl rfl)
theorem dX2_word_102 : decode cX2_word 102 = .ok (.ireturn, 1) := dk_172 (dk_at dksX2_word_4 9 rfl rfl)
def dkwX2_name_2 : List UInt8 := [16, 97, 100, 4, 96, 167, 0, 4, 3, 128, 181, 0, 47, 132, 1, 1, 167, 255, 200, 177]
abbrev dktX2_name_2 : List UInt8 := dkwX2_name_2 ++ []
def dkwX2_name_1 : List UInt8 := [27, 96, 42, 180, 0, 15, 162, 0, 25, 42, 180, 0, 3, 180, 0, 22, 42, 180, 0, 30, 27, 96, 51]
abbrev dktX2_name_1 : List UInt8 := dkwX2_name_1 ++ dktX2_name_2
def dkwX2_name_0 : List UInt8 := [42, 3, 181, 0, 47, 3, 60, 27, 16, 6, 162, 0, 56, 42, 42, 180, 0, 47, 8, 120, 42, 180, 0, 30]
abbrev dktX2_name_0 : List UInt8 := dkwX2_name_0 ++ dktX2_name_1
theorem dksX2_name_0 : cX2_name.data.toList.drop 0 = dktX2_name_0 := by decide +kernel
theorem dksX2_name_1 : cX2_name.data.toList.drop 24 = dktX2_name_1 := dk_seg dksX2_name_0 24 rfl rfl
theorem dksX2_name_2 : cX2_name.data.toList.drop 47 = dktX2_name_2 := dk_seg dksX2_name_1 23 rfl rfl
theorem dX2_name_0 : decode cX2_name 0 = .ok (.aload_n 0, 1) := dk_42 (dk_at dksX2_name_0 0 rfl rfl)
theorem dX2_name_1 : decode cX2_name 1 = .ok (.iconst 0, 1) := dk_3 (dk_at dksX2_name_0 1 rfl rfl)
theorem dX2_name_2 : decode cX2_name 2 = .ok (.putfield 47, 3) := dk_181 0 47 (dk_at dksX2_name_0 2 rfl rfl)
theorem dX2_name_5 : decode cX2_name 5 = .ok (.iconst 0, 1) := dk_3 (dk_at dksX2_name_0 5 rfl rfl)
theorem dX2_name_6 : decode cX2_name 6 = .ok (.istore_n 1, 1) := dk_60 (dk_at dksX2_name_0 6 rfl rfl)
theorem dX2_name_7 : decode cX2_name 7 = .ok (.iload_n 1, 1) := dk_27 (dk_at dksX2_name_0 7 rfl rfl)
theorem dX2_name_8 : decode cX2_name 8 = .ok (.bipush 6, 2) := dk_16 6 (dk_at dksX2_name_0 8 rfl rfl)
theorem dX2_name_10 : decode cX2_name 10 = .ok (.if_icmp .ge 56, 3) := dk_162 0 56 (dk_at dksX2_name_0 10 rfl rfl)
theorem dX2_name_13 : decode cX2_name 13 = .ok (.aload_n 0, 1) := dk_42 (dk_at dksX2_name_0 13 rfl rfl)
theorem dX2_name_14 : decode cX2_name 14 = .ok (.aload_n 0, 1) := dk_42 (dk_at dksX2_name_0 14 rfl rfl)
theorem dX2_name_15 : decode cX2_name 15 = .ok (.getfield 47, 3) := dk_180 0 47 (dk_at dksX2_name_0 15 rfl rfl)
theorem dX2_name_18 : decode cX2_name 18 = .ok (.iconst 5, 1) := dk_8 (dk_at dksX2_name_0 18 rfl rfl)
theorem dX2_name_19 : decode cX2_name 19 = .ok (.ishl, 1) := dk_120 (dk_at dksX2_name_0 19 rfl rfl)
theorem dX2_name_20 : decode cX2_name 20 = .ok (.aload_n 0, 1) := dk_42 (dk_at dksX2_name_0 20 rfl rfl)
theorem dX2_name_21 : decode cX2_name 21 = .ok (.getfield 30, 3) := dk_180 0 30 (dk_at dksX2_name_0 21 rfl rfl)
theorem dX2_name_24 : decode cX2_name 24 = .ok (.iload_n 1, 1) := dk_27 (dk_at dksX2_name_1 0 rfl rfl)
theorem dX2_name_25 : decode cX2_name 25 = .ok (.iadd, 1) := dk_96 (dk_at dksX2_name_1 1 rfl rfl)
theorem dX2_name_26 : decode cX2_name 26 = .ok (.aload_n 0, 1) := dk_42 (dk_at dksX2_name_1 2 rfl rfl)
theorem dX2_name_27 : decode cX2_name 27 = .ok (.getfield 15, 3) := dk_180 0 15 (dk_at dksX2_name_1 3 rfl rfl)
theorem dX2_name_30 : decode cX2_name 30 = .ok (.if_icmp .ge 25, 3) := dk_162 0 25 (dk_at dksX2_name_1 6 rfl rfl)
theorem dX2_name_33 : decode cX2_name 33 = .ok (.aload_n 0, 1) := dk_42 (dk_at dksX2_name_1 9 rfl rfl)
theorem dX2_name_34 : decode cX2_name 34 = .ok (.getfield 3, 3) := dk_180 0 3 (dk_at dksX2_name_1 10 rfl rfl)
theorem dX2_name_37 : decode cX2_name 37 = .ok (.getfield 22, 3) := dk_180 0 22 (dk_at dksX2_name_1 13 rfl rfl)
theorem dX2_name_40 : decode cX2_name 40 = .ok (.aload_n 0, 1) := dk_42 (dk_at dksX2_name_1 16 rfl rfl)
theorem dX2_name_41 : decode cX2_name 41 = .ok (.getfield 30, 3) := dk_180 0 30 (dk_at dksX2_name_1 17 rfl rfl)
theorem dX2_name_44 : decode cX2_name 44 = .ok (.iload_n 1, 1) := dk_27 (dk_at dksX2_name_1 20 rfl rfl)
theorem dX2_name_45 : decode cX2_name 45 = .ok (.iadd, 1) := dk_96 (dk_at dksX2_name_1 21 rfl rfl)
theorem dX2_name_46 : decode cX2_name 46 = .ok (.baload, 1) := dk_51 (dk_at dksX2_name_1 22 rfl rfl)
theorem dX2_name_47 : decode cX2_name 47 = .ok (.bipush 97, 2) := dk_16 97 (dk_at dksX2_name_2 0 rfl rfl)
theorem dX2_name_49 : decode cX2_name 49 = .ok (.isub, 1) := dk_100 (dk_at dksX2_name_2 2 rfl rfl)
theorem dX2_name_50 : decode cX2_name 50 = .ok (.iconst 1, 1) := dk_4 (dk_at dksX2_name_2 3 rfl rfl)
theorem dX2_name_51 : decode cX2_name 51 = .ok (.iadd, 1) := dk_96 (dk_at dksX2_name_2 4 rfl rfl)
theorem dX2_name_52 : decode cX2_name 52 = .ok (.goto 4, 3) := dk_167 0 4 (dk_at dksX2_name_2 5 rfl rfl)
theorem dX2_name_55 : decode cX2_name 55 = .ok (.iconst 0, 1) := dk_3 (dk_at dksX2_name_2 8 rfl rfl)
theorem dX2_name_56 : decode cX2_name 56 = .ok (.ior, 1) := dk_128 (dk_at dksX2_name_2 9 rfl rfl)
theorem dX2_name_57 : decode cX2_name 57 = .ok (.putfield 47, 3) := dk_181 0 47 (dk_at dksX2_name_2 10 rfl rfl)
theorem dX2_name_60 : decode cX2_name 60 = .ok (.iinc 1 1, 3) := dk_132 1 1 (dk_at dksX2_name_2 13 rfl rfl)
theorem dX2_name_63 : decode cX2_name 63 = .ok (.goto (-56), 3) := dk_167 255 200 (dk_at dksX2_name_2 16 rfl rfl)
theorem dX2_name_66 : decode cX2_name 66 = .ok (.return_, 1) := dk_177 (dk_at dksX2_name_2 19 rfl rfl)
def dkwX2_next_11 : List UInt8 := [181, 0, 15, 167, 255, 194, 42, 182, 0, 58, 177]
abbrev dktX2_next_11 : List UInt8 := dkwX2_next_11 ++ []
def dkwX2_next_10 : List UInt8 := [180, 0, 47, 104, 42, 182, 0, 26, 96, 16, 48, 100, 181, 0, 47, 42, 89, 180, 0, 15, 4, 96]
abbrev dktX2_next_10 : List UInt8 := dkwX2_next_10 ++ dktX2_next_11
def dkwX2_next_9 : List UInt8 := [153, 0, 55, 42, 42, 180, 0, 47, 18, 57, 164, 0, 10, 42, 180, 0, 47, 167, 0, 18, 16, 10, 42]
abbrev dktX2_next_9 : List UInt8 := dkwX2_next_9 ++ dktX2_next_10
def dkwX2_next_8 : List UInt8 := [181, 0, 33, 42, 3, 181, 0, 47, 42, 182, 0, 26, 133, 20, 0, 53, 20, 0, 55, 184, 0, 40]
abbrev dktX2_next_8 : List UInt8 := dkwX2_next_8 ++ dktX2_next_9
def dkwX2_next_7 : List UInt8 := [167, 0, 99, 42, 182, 0, 26, 133, 20, 0, 53, 20, 0, 55, 184, 0, 40, 153, 0, 78, 42, 5]
abbrev dktX2_next_7 : List UInt8 := dkwX2_next_7 ++ dktX2_next_8
def dkwX2_next_6 : List UInt8 := [164, 0, 7, 8, 167, 0, 4, 4, 181, 0, 33, 42, 180, 0, 33, 4, 160, 0, 106, 42, 182, 0, 50]
abbrev dktX2_next_6 : List UInt8 := dkwX2_next_6 ++ dktX2_next_7
def dkwX2_next_5 : List UInt8 := [180, 0, 47, 2, 159, 0, 7, 3, 167, 0, 22, 42, 180, 0, 15, 42, 180, 0, 30, 100, 16, 6]
abbrev dktX2_next_5 : List UInt8 := dkwX2_next_5 ++ dktX2_next_6
def dkwX2_next_4 : List UInt8 := [89, 180, 0, 15, 4, 96, 181, 0, 15, 167, 255, 229, 42, 42, 182, 0, 44, 181, 0, 47, 42, 42]
abbrev dktX2_next_4 : List UInt8 := dkwX2_next_4 ++ dktX2_next_5
def dkwX2_next_3 : List UInt8 := [184, 0, 40, 153, 0, 91, 42, 182, 0, 26, 133, 20, 0, 36, 20, 0, 38, 184, 0, 40, 153, 0, 16, 42]
abbrev dktX2_next_3 : List UInt8 := dkwX2_next_3 ++ dktX2_next_4
def dkwX2_next_2 : List UInt8 := [160, 0, 11, 42, 7, 181, 0, 33, 167, 0, 204, 42, 182, 0, 26, 133, 20, 0, 36, 20, 0, 38]
abbrev dktX2_next_2 : List UInt8 := dkwX2_next_2 ++ dktX2_next_3
def dkwX2_next_1 : List UInt8 := [96, 181, 0, 15, 167, 255, 228, 42, 42, 180, 0, 15, 181, 0, 30, 42, 180, 0, 15, 42, 180, 0, 19]
abbrev dktX2_next_1 : List UInt8 := dkwX2_next_1 ++ dktX2_next_2
def dkwX2_next_0 : List UInt8 := [42, 182, 0, 26, 16, 10, 159, 0, 12, 42, 182, 0, 26, 16, 32, 160, 0, 16, 42, 89, 180, 0, 15, 4]
abbrev dktX2_next_0 : List UInt8 := dkwX2_next_0 ++ dktX2_next_1
theorem dksX2_next_0 : cX2_next.data.toList.drop 0 = dktX2_next_0 := by decide +kernel
theorem dksX2_next_1 : cX2_next.data.toList.drop 24 = dktX2_next_1 := dk_seg dksX2_next_0 24 rfl rfl
theorem dksX2_next_2 : cX2_next.data.toList.drop 47 = dktX2_next_2 := dk_seg dksX2_next_1 23 rfl rfl
theorem dksX2_next_3 : cX2_next.data.toList.drop 69 = dktX2_next_3 := dk_seg dksX2_next_2 22 rfl rfl
theorem dksX2_next_4 : cX2_next.data.toList.drop 93 = dktX2_next_4 := dk_seg dksX2_next_3 24 rfl rfl
theorem dksX2_next_5 : cX2_next.data.toList.drop 115 = dktX2_next_5 := dk_seg dksX2_next_4 22 rfl rfl
theorem dksX2_next_6 : cX2_next.data.toList.drop 137 = dktX2_next_6 := dk_seg dksX2_next_5 22 rfl rfl
theorem dksX2_next_7 : cX2_next.data.toList.drop 160 = dktX2_next_7 := dk_seg dksX2_next_6 23 rfl rfl
theorem dksX2_next_8 : cX2_next.data.toList.drop 182 = dktX2_next_8 := dk_seg dksX2_next_7 22 rfl rfl
theorem dksX2_next_9 : cX2_next.data.toList.drop 204 = dktX2_next_9 := dk_seg dksX2_next_8 22 rfl rfl
theorem dksX2_next_10 : cX2_next.data.toList.drop 227 = dktX2_next_10 := dk_seg dksX2_next_9 23 rfl rfl
theorem dksX2_next_11 : cX2_next.data.toList.drop 249 = dktX2_next_11 := dk_seg dksX2_next_10 22 rfl rfl
theorem dX2_next_0 : decode cX2_next 0 = .ok (.aload_n 0, 1) := dk_42 (dk_at dksX2_next_0 0 rfl rfl)
theorem dX2_next_1 : decode cX2_next 1 = .ok (.invokevirtual 26, 3) := dk_182 0 26 (dk_at dksX2_next_0 1 rfl rfl)
theorem dX2_next_4 : decode cX2_next 4 = .ok (.bipush 10, 2) := dk_16 10 (dk_at dksX2_next_0 4 rfl rfl)
theorem dX2_next_6 : decode cX2_next 6 = .ok (.if_icmp .eq 12, 3) := dk_159 0 12 (dk_at dksX2_next_0 6 rfl rfl)
theorem dX2_next_9 : decode cX2_next 9 = .ok (.aload_n 0, 1) := dk_42 (dk_at dksX2_next_0 9 rfl rfl)
theorem dX2_next_10 : decode cX2_next 10 = .ok (.invokevirtual 26, 3) := dk_182 0 26 (dk_at dksX2_next_0 10 rfl rfl)
theorem dX2_next_13 : decode cX2_next 13 = .ok (.bipush 32, 2) := dk_16 32 (dk_at dksX2_next_0 13 rfl rfl)
theorem dX2_next_15 : decode cX2_next 15 = .ok (.if_icmp .ne 16, 3) := dk_160 0 16 (dk_at dksX2_next_0 15 rfl rfl)
theorem dX2_next_18 : decode cX2_next 18 = .ok (.aload_n 0, 1) := dk_42 (dk_at dksX2_next_0 18 rfl rfl)
theorem dX2_next_19 : decode cX2_next 19 = .ok (.dup, 1) := dk_89 (dk_at dksX2_next_0 19 rfl rfl)
theorem dX2_next_20 : decode cX2_next 20 = .ok (.getfield 15, 3) := dk_180 0 15 (dk_at dksX2_next_0 20 rfl rfl)
theorem dX2_next_23 : decode cX2_next 23 = .ok (.iconst 1, 1) := dk_4 (dk_at dksX2_next_0 23 rfl rfl)
theorem dX2_next_24 : decode cX2_next 24 = .ok (.iadd, 1) := dk_96 (dk_at dksX2_next_1 0 rfl rfl)
theorem dX2_next_25 : decode cX2_next 25 = .ok (.putfield 15, 3) := dk_181 0 15 (dk_at dksX2_next_1 1 rfl rfl)
theorem dX2_next_28 : decode cX2_next 28 = .ok (.goto (-28), 3) := dk_167 255 228 (dk_at dksX2_next_1 4 rfl rfl)
theorem dX2_next_31 : decode cX2_next 31 = .ok (.aload_n 0, 1) := dk_42 (dk_at dksX2_next_1 7 rfl rfl)
theorem dX2_next_32 : decode cX2_next 32 = .ok (.aload_n 0, 1) := dk_42 (dk_at dksX2_next_1 8 rfl rfl)
theorem dX2_next_33 : decode cX2_next 33 = .ok (.getfield 15, 3) := dk_180 0 15 (dk_at dksX2_next_1 9 rfl rfl)
theorem dX2_next_36 : decode cX2_next 36 = .ok (.putfield 30, 3) := dk_181 0 30 (dk_at dksX2_next_1 12 rfl rfl)
theorem dX2_next_39 : decode cX2_next 39 = .ok (.aload_n 0, 1) := dk_42 (dk_at dksX2_next_1 15 rfl rfl)
theorem dX2_next_40 : decode cX2_next 40 = .ok (.getfield 15, 3) := dk_180 0 15 (dk_at dksX2_next_1 16 rfl rfl)
theorem dX2_next_43 : decode cX2_next 43 = .ok (.aload_n 0, 1) := dk_42 (dk_at dksX2_next_1 19 rfl rfl)
theorem dX2_next_44 : decode cX2_next 44 = .ok (.getfield 19, 3) := dk_180 0 19 (dk_at dksX2_next_1 20 rfl rfl)
theorem dX2_next_47 : decode cX2_next 47 = .ok (.if_icmp .ne 11, 3) := dk_160 0 11 (dk_at dksX2_next_2 0 rfl rfl)
theorem dX2_next_50 : decode cX2_next 50 = .ok (.aload_n 0, 1) := dk_42 (dk_at dksX2_next_2 3 rfl rfl)
theorem dX2_next_51 : decode cX2_next 51 = .ok (.iconst 4, 1) := dk_7 (dk_at dksX2_next_2 4 rfl rfl)
theorem dX2_next_52 : decode cX2_next 52 = .ok (.putfield 33, 3) := dk_181 0 33 (dk_at dksX2_next_2 5 rfl rfl)
theorem dX2_next_55 : decode cX2_next 55 = .ok (.goto 204, 3) := dk_167 0 204 (dk_at dksX2_next_2 8 rfl rfl)
theorem dX2_next_58 : decode cX2_next 58 = .ok (.aload_n 0, 1) := dk_42 (dk_at dksX2_next_2 11 rfl rfl)
theorem dX2_next_59 : decode cX2_next 59 = .ok (.invokevirtual 26, 3) := dk_182 0 26 (dk_at dksX2_next_2 12 rfl rfl)
theorem dX2_next_62 : decode cX2_next 62 = .ok (.i2l, 1) := dk_133 (dk_at dksX2_next_2 15 rfl rfl)
theorem dX2_next_63 : decode cX2_next 63 = .ok (.ldc2_w 36, 3) := dk_20 0 36 (dk_at dksX2_next_2 16 rfl rfl)
theorem dX2_next_66 : decode cX2_next 66 = .ok (.ldc2_w 38, 3) := dk_20 0 38 (dk_at dksX2_next_2 19 rfl rfl)
theorem dX2_next_69 : decode cX2_next 69 = .ok (.invokestatic 40, 3) := dk_184 0 40 (dk_at dksX2_next_3 0 rfl rfl)
theorem dX2_next_72 : decode cX2_next 72 = .ok (.ifCond .eq 91, 3) := dk_153 0 91 (dk_at dksX2_next_3 3 rfl rfl)
theorem dX2_next_75 : decode cX2_next 75 = .ok (.aload_n 0, 1) := dk_42 (dk_at dksX2_next_3 6 rfl rfl)
theorem dX2_next_76 : decode cX2_next 76 = .ok (.invokevirtual 26, 3) := dk_182 0 26 (dk_at dksX2_next_3 7 rfl rfl)
theorem dX2_next_79 : decode cX2_next 79 = .ok (.i2l, 1) := dk_133 (dk_at dksX2_next_3 10 rfl rfl)
theorem dX2_next_80 : decode cX2_next 80 = .ok (.ldc2_w 36, 3) := dk_20 0 36 (dk_at dksX2_next_3 11 rfl rfl)
theorem dX2_next_83 : decode cX2_next 83 = .ok (.ldc2_w 38, 3) := dk_20 0 38 (dk_at dksX2_next_3 14 rfl rfl)
theorem dX2_next_86 : decode cX2_next 86 = .ok (.invokestatic 40, 3) := dk_184 0 40 (dk_at dksX2_next_3 17 rfl rfl)
theorem dX2_next_89 : decode cX2_next 89 = .ok (.ifCond .eq 16, 3) := dk_153 0 16 (dk_at dksX2_next_3 20 rfl rfl)
theorem dX2_next_92 : decode cX2_next 92 = .ok (.aload_n 0, 1) := dk_42 (dk_at dksX2_next_3 23 rfl rfl)
theorem dX2_next_93 : decode cX2_next 93 = .ok (.dup, 1) := dk_89 (dk_at dksX2_next_4 0 rfl rfl)
theorem dX2_next_94 : decode cX2_next 94 = .ok (.getfield 15, 3) := dk_180 0 15 (dk_at dksX2_next_4 1 rfl rfl)
theorem dX2_next_97 : decode cX2_next 97 = .ok (.iconst 1, 1) := dk_4 (dk_at dksX2_next_4 4 rfl rfl)
theorem dX2_next_98 : decode cX2_next 98 = .ok (.iadd, 1) := dk_96 (dk_at dksX2_next_4 5 rfl rfl)
theorem dX2_next_99 : decode cX2_next 99 = .ok (.putfield 15, 3) := dk_181 0 15 (dk_at dksX2_next_4 6 rfl rfl)
theorem dX2_next_102 : decode cX2_next 102 = .ok (.goto (-27), 3) := dk_167 255 229 (dk_at dksX2_next_4 9 rfl rfl)
theorem dX2_next_105 : decode cX2_next 105 = .ok (.aload_n 0, 1) := dk_42 (dk_at dksX2_next_4 12 rfl rfl)
theorem dX2_next_106 : decode cX2_next 106 = .ok (.aload_n 0, 1) := dk_42 (dk_at dksX2_next_4 13 rfl rfl)
theorem dX2_next_107 : decode cX2_next 107 = .ok (.invokevirtual 44, 3) := dk_182 0 44 (dk_at dksX2_next_4 14 rfl rfl)
theorem dX2_next_110 : decode cX2_next 110 = .ok (.putfield 47, 3) := dk_181 0 47 (dk_at dksX2_next_4 17 rfl rfl)
theorem dX2_next_113 : decode cX2_next 113 = .ok (.aload_n 0, 1) := dk_42 (dk_at dksX2_next_4 20 rfl rfl)
theorem dX2_next_114 : decode cX2_next 114 = .ok (.aload_n 0, 1) := dk_42 (dk_at dksX2_next_4 21 rfl rfl)
theorem dX2_next_115 : decode cX2_next 115 = .ok (.getfield 47, 3) := dk_180 0 47 (dk_at dksX2_next_5 0 rfl rfl)
theorem dX2_next_118 : decode cX2_next 118 = .ok (.iconst (-1), 1) := dk_2 (dk_at dksX2_next_5 3 rfl rfl)
theorem dX2_next_119 : decode cX2_next 119 = .ok (.if_icmp .eq 7, 3) := dk_159 0 7 (dk_at dksX2_next_5 4 rfl rfl)
theorem dX2_next_122 : decode cX2_next 122 = .ok (.iconst 0, 1) := dk_3 (dk_at dksX2_next_5 7 rfl rfl)
theorem dX2_next_123 : decode cX2_next 123 = .ok (.goto 22, 3) := dk_167 0 22 (dk_at dksX2_next_5 8 rfl rfl)
theorem dX2_next_126 : decode cX2_next 126 = .ok (.aload_n 0, 1) := dk_42 (dk_at dksX2_next_5 11 rfl rfl)
theorem dX2_next_127 : decode cX2_next 127 = .ok (.getfield 15, 3) := dk_180 0 15 (dk_at dksX2_next_5 12 rfl rfl)
theorem dX2_next_130 : decode cX2_next 130 = .ok (.aload_n 0, 1) := dk_42 (dk_at dksX2_next_5 15 rfl rfl)
theorem dX2_next_131 : decode cX2_next 131 = .ok (.getfield 30, 3) := dk_180 0 30 (dk_at dksX2_next_5 16 rfl rfl)
theorem dX2_next_134 : decode cX2_next 134 = .ok (.isub, 1) := dk_100 (dk_at dksX2_next_5 19 rfl rfl)
theorem dX2_next_135 : decode cX2_next 135 = .ok (.bipush 6, 2) := dk_16 6 (dk_at dksX2_next_5 20 rfl rfl)
theorem dX2_next_137 : decode cX2_next 137 = .ok (.if_icmp .le 7, 3) := dk_164 0 7 (dk_at dksX2_next_6 0 rfl rfl)
theorem dX2_next_140 : decode cX2_next 140 = .ok (.iconst 5, 1) := dk_8 (dk_at dksX2_next_6 3 rfl rfl)
theorem dX2_next_141 : decode cX2_next 141 = .ok (.goto 4, 3) := dk_167 0 4 (dk_at dksX2_next_6 4 rfl rfl)
theorem dX2_next_144 : decode cX2_next 144 = .ok (.iconst 1, 1) := dk_4 (dk_at dksX2_next_6 7 rfl rfl)
theorem dX2_next_145 : decode cX2_next 145 = .ok (.putfield 33, 3) := dk_181 0 33 (dk_at dksX2_next_6 8 rfl rfl)
theorem dX2_next_148 : decode cX2_next 148 = .ok (.aload_n 0, 1) := dk_42 (dk_at dksX2_next_6 11 rfl rfl)
theorem dX2_next_149 : decode cX2_next 149 = .ok (.getfield 33, 3) := dk_180 0 33 (dk_at dksX2_next_6 12 rfl rfl)
theorem dX2_next_152 : decode cX2_next 152 = .ok (.iconst 1, 1) := dk_4 (dk_at dksX2_next_6 15 rfl rfl)
theorem dX2_next_153 : decode cX2_next 153 = .ok (.if_icmp .ne 106, 3) := dk_160 0 106 (dk_at dksX2_next_6 16 rfl rfl)
theorem dX2_next_156 : decode cX2_next 156 = .ok (.aload_n 0, 1) := dk_42 (dk_at dksX2_next_6 19 rfl rfl)
theorem dX2_next_157 : decode cX2_next 157 = .ok (.invokevirtual 50, 3) := dk_182 0 50 (dk_at dksX2_next_6 20 rfl rfl)
theorem dX2_next_160 : decode cX2_next 160 = .ok (.goto 99, 3) := dk_167 0 99 (dk_at dksX2_next_7 0 rfl rfl)
theorem dX2_next_163 : decode cX2_next 163 = .ok (.aload_n 0, 1) := dk_42 (dk_at dksX2_next_7 3 rfl rfl)
theorem dX2_next_164 : decode cX2_next 164 = .ok (.invokevirtual 26, 3) := dk_182 0 26 (dk_at dksX2_next_7 4 rfl rfl)
theorem dX2_next_167 : decode cX2_next 167 = .ok (.i2l, 1) := dk_133 (dk_at dksX2_next_7 7 rfl rfl)
theorem dX2_next_168 : decode cX2_next 168 = .ok (.ldc2_w 53, 3) := dk_20 0 53 (dk_at dksX2_next_7 8 rfl rfl)
theorem dX2_next_171 : decode cX2_next 171 = .ok (.ldc2_w 55, 3) := dk_20 0 55 (dk_at dksX2_next_7 11 rfl rfl)
theorem dX2_next_174 : decode cX2_next 174 = .ok (.invokestatic 40, 3) := dk_184 0 40 (dk_at dksX2_next_7 14 rfl rfl)
theorem dX2_next_177 : decode cX2_next 177 = .ok (.ifCond .eq 78, 3) := dk_153 0 78 (dk_at dksX2_next_7 17 rfl rfl)
theorem dX2_next_180 : decode cX2_next 180 = .ok (.aload_n 0, 1) := dk_42 (dk_at dksX2_next_7 20 rfl rfl)
theorem dX2_next_181 : decode cX2_next 181 = .ok (.iconst 2, 1) := dk_5 (dk_at dksX2_next_7 21 rfl rfl)
theorem dX2_next_182 : decode cX2_next 182 = .ok (.putfield 33, 3) := dk_181 0 33 (dk_at dksX2_next_8 0 rfl rfl)
theorem dX2_next_185 : decode cX2_next 185 = .ok (.aload_n 0, 1) := dk_42 (dk_at dksX2_next_8 3 rfl rfl)
theorem dX2_next_186 : decode cX2_next 186 = .ok (.iconst 0, 1) := dk_3 (dk_at dksX2_next_8 4 rfl rfl)
theorem dX2_next_187 : decode cX2_next 187 = .ok (.putfield 47, 3) := dk_181 0 47 (dk_at dksX2_next_8 5 rfl rfl)
theorem dX2_next_190 : decode cX2_next 190 = .ok (.aload_n 0, 1) := dk_42 (dk_at dksX2_next_8 8 rfl rfl)
theorem dX2_next_191 : decode cX2_next 191 = .ok (.invokevirtual 26, 3) := dk_182 0 26 (dk_at dksX2_next_8 9 rfl rfl)
theorem dX2_next_194 : decode cX2_next 194 = .ok (.i2l, 1) := dk_133 (dk_at dksX2_next_8 12 rfl rfl)
theorem dX2_next_195 : decode cX2_next 195 = .ok (.ldc2_w 53, 3) := dk_20 0 53 (dk_at dksX2_next_8 13 rfl rfl)
theorem dX2_next_198 : decode cX2_next 198 = .ok (.ldc2_w 55, 3) := dk_20 0 55 (dk_at dksX2_next_8 16 rfl rfl)
theorem dX2_next_201 : decode cX2_next 201 = .ok (.invokestatic 40, 3) := dk_184 0 40 (dk_at dksX2_next_8 19 rfl rfl)
theorem dX2_next_204 : decode cX2_next 204 = .ok (.ifCond .eq 55, 3) := dk_153 0 55 (dk_at dksX2_next_9 0 rfl rfl)
theorem dX2_next_207 : decode cX2_next 207 = .ok (.aload_n 0, 1) := dk_42 (dk_at dksX2_next_9 3 rfl rfl)
theorem dX2_next_208 : decode cX2_next 208 = .ok (.aload_n 0, 1) := dk_42 (dk_at dksX2_next_9 4 rfl rfl)
theorem dX2_next_209 : decode cX2_next 209 = .ok (.getfield 47, 3) := dk_180 0 47 (dk_at dksX2_next_9 5 rfl rfl)
theorem dX2_next_212 : decode cX2_next 212 = .ok (.ldc 57, 2) := dk_18 57 (dk_at dksX2_next_9 8 rfl rfl)
theorem dX2_next_214 : decode cX2_next 214 = .ok (.if_icmp .le 10, 3) := dk_164 0 10 (dk_at dksX2_next_9 10 rfl rfl)
theorem dX2_next_217 : decode cX2_next 217 = .ok (.aload_n 0, 1) := dk_42 (dk_at dksX2_next_9 13 rfl rfl)
theorem dX2_next_218 : decode cX2_next 218 = .ok (.getfield 47, 3) := dk_180 0 47 (dk_at dksX2_next_9 14 rfl rfl)
theorem dX2_next_221 : decode cX2_next 221 = .ok (.goto 18, 3) := dk_167 0 18 (dk_at dksX2_next_9 17 rfl rfl)
theorem dX2_next_224 : decode cX2_next 224 = .ok (.bipush 10, 2) := dk_16 10 (dk_at dksX2_next_9 20 rfl rfl)
theorem dX2_next_226 : decode cX2_next 226 = .ok (.aload_n 0, 1) := dk_42 (dk_at dksX2_next_9 22 rfl rfl)
theorem dX2_next_227 : decode cX2_next 227 = .ok (.getfield 47, 3) := dk_180 0 47 (dk_at dksX2_next_10 0 rfl rfl)
theorem dX2_next_230 : decode cX2_next 230 = .ok (.imul, 1) := dk_104 (dk_at dksX2_next_10 3 rfl rfl)
theorem dX2_next_231 : decode cX2_next 231 = .ok (.aload_n 0, 1) := dk_42 (dk_at dksX2_next_10 4 rfl rfl)
theorem dX2_next_232 : decode cX2_next 232 = .ok (.invokevirtual 26, 3) := dk_182 0 26 (dk_at dksX2_next_10 5 rfl rfl)
theorem dX2_next_235 : decode cX2_next 235 = .ok (.iadd, 1) := dk_96 (dk_at dksX2_next_10 8 rfl rfl)
theorem dX2_next_236 : decode cX2_next 236 = .ok (.bipush 48, 2) := dk_16 48 (dk_at dksX2_next_10 9 rfl rfl)
theorem dX2_next_238 : decode cX2_next 238 = .ok (.isub, 1) := dk_100 (dk_at dksX2_next_10 11 rfl rfl)
theorem dX2_next_239 : decode cX2_next 239 = .ok (.putfield 47, 3) := dk_181 0 47 (dk_at dksX2_next_10 12 rfl rfl)
theorem dX2_next_242 : decode cX2_next 242 = .ok (.aload_n 0, 1) := dk_42 (dk_at dksX2_next_10 15 rfl rfl)
theorem dX2_next_243 : decode cX2_next 243 = .ok (.dup, 1) := dk_89 (dk_at dksX2_next_10 16 rfl rfl)
theorem dX2_next_244 : decode cX2_next 244 = .ok (.getfield 15, 3) := dk_180 0 15 (dk_at dksX2_next_10 17 rfl rfl)
theorem dX2_next_247 : decode cX2_next 247 = .ok (.iconst 1, 1) := dk_4 (dk_at dksX2_next_10 20 rfl rfl)
theorem dX2_next_248 : decode cX2_next 248 = .ok (.iadd, 1) := dk_96 (dk_at dksX2_next_10 21 rfl rfl)
theorem dX2_next_249 : decode cX2_next 249 = .ok (.putfield 15, 3) := dk_181 0 15 (dk_at dksX2_next_11 0 rfl rfl)
theorem dX2_next_252 : decode cX2_next 252 = .ok (.goto (-62), 3) := dk_167 255 194 (dk_at dksX2_next_11 3 rfl rfl)
theorem dX2_next_255 : decode cX2_next 255 = .ok (.aload_n 0, 1) := dk_42 (dk_at dksX2_next_11 6 rfl rfl)
theorem dX2_next_256 : decode cX2_next 256 = .ok (.invokevirtual 58, 3) := dk_182 0 58 (dk_at dksX2_next_11 7 rfl rfl)
theorem dX2_next_259 : decode cX2_next 259 = .ok (.return_, 1) := dk_177 (dk_at dksX2_next_11 10 rfl rfl)
def dkwX2_isWord_1 : List UInt8 := [167, 0, 4, 3, 172]
abbrev dktX2_isWord_1 : List UInt8 := dkwX2_isWord_1 ++ []
def dkwX2_isWord_0 : List UInt8 := [42, 180, 0, 33, 154, 0, 22, 42, 180, 0, 47, 133, 27, 133, 28, 133, 184, 0, 40, 153, 0, 7, 4]
abbrev dktX2_isWord_0 : List UInt8 := dkwX2_isWord_0 ++ dktX2_isWord_1
theorem dksX2_isWord_0 : cX2_isWord.data.toList.drop 0 = dktX2_isWord_0 := by decide +kernel
theorem dksX2_isWord_1 : cX2_isWord.data.toList.drop 23 = dktX2_isWord_1 := dk_seg dksX2_isWord_0 23 rfl rfl
theorem dX2_isWord_0 : decode cX2_isWord 0 = .ok (.aload_n 0, 1) := dk_42 (dk_at dksX2_isWord_0 0 rfl rfl)
theorem dX2_isWord_1 : decode cX2_isWord 1 = .ok (.getfield 33, 3) := dk_180 0 33 (dk_at dksX2_isWord_0 1 rfl rfl)
theorem dX2_isWord_4 : decode cX2_isWord 4 = .ok (.ifCond .ne 22, 3) := dk_154 0 22 (dk_at dksX2_isWord_0 4 rfl rfl)
theorem dX2_isWord_7 : decode cX2_isWord 7 = .ok (.aload_n 0, 1) := dk_42 (dk_at dksX2_isWord_0 7 rfl rfl)
theorem dX2_isWord_8 : decode cX2_isWord 8 = .ok (.getfield 47, 3) := dk_180 0 47 (dk_at dksX2_isWord_0 8 rfl rfl)
theorem dX2_isWord_11 : decode cX2_isWord 11 = .ok (.i2l, 1) := dk_133 (dk_at dksX2_isWord_0 11 rfl rfl)
theorem dX2_isWord_12 : decode cX2_isWord 12 = .ok (.iload_n 1, 1) := dk_27 (dk_at dksX2_isWord_0 12 rfl rfl)
theorem dX2_isWord_13 : decode cX2_isWord 13 = .ok (.i2l, 1) := dk_133 (dk_at dksX2_isWord_0 13 rfl rfl)
theorem dX2_isWord_14 : decode cX2_isWord 14 = .ok (.iload_n 2, 1) := dk_28 (dk_at dksX2_isWord_0 14 rfl rfl)
theorem dX2_isWord_15 : decode cX2_isWord 15 = .ok (.i2l, 1) := dk_133 (dk_at dksX2_isWord_0 15 rfl rfl)
theorem dX2_isWord_16 : decode cX2_isWord 16 = .ok (.invokestatic 40, 3) := dk_184 0 40 (dk_at dksX2_isWord_0 16 rfl rfl)
theorem dX2_isWord_19 : decode cX2_isWord 19 = .ok (.ifCond .eq 7, 3) := dk_153 0 7 (dk_at dksX2_isWord_0 19 rfl rfl)
theorem dX2_isWord_22 : decode cX2_isWord 22 = .ok (.iconst 1, 1) := dk_4 (dk_at dksX2_isWord_0 22 rfl rfl)
theorem dX2_isWord_23 : decode cX2_isWord 23 = .ok (.goto 4, 3) := dk_167 0 4 (dk_at dksX2_isWord_1 0 rfl rfl)
theorem dX2_isWord_26 : decode cX2_isWord 26 = .ok (.iconst 0, 1) := dk_3 (dk_at dksX2_isWord_1 3 rfl rfl)
theorem dX2_isWord_27 : decode cX2_isWord 27 = .ok (.ireturn, 1) := dk_172 (dk_at dksX2_isWord_1 4 rfl rfl)
def dkwX11_init_0 : List UInt8 := [42, 1, 1, 3, 3, 183, 0, 1, 42, 27, 181, 0, 7, 42, 28, 181, 0, 13, 177]
abbrev dktX11_init_0 : List UInt8 := dkwX11_init_0 ++ []
theorem dksX11_init_0 : cX11_init.data.toList.drop 0 = dktX11_init_0 := by decide +kernel
theorem dX11_init_0 : decode cX11_init 0 = .ok (.aload_n 0, 1) := dk_42 (dk_at dksX11_init_0 0 rfl rfl)
theorem dX11_init_1 : decode cX11_init 1 = .ok (.aconst_null, 1) := dk_1 (dk_at dksX11_init_0 1 rfl rfl)
theorem dX11_init_2 : decode cX11_init 2 = .ok (.aconst_null, 1) := dk_1 (dk_at dksX11_init_0 2 rfl rfl)
theorem dX11_init_3 : decode cX11_init 3 = .ok (.iconst 0, 1) := dk_3 (dk_at dksX11_init_0 3 rfl rfl)
theorem dX11_init_4 : decode cX11_init 4 = .ok (.iconst 0, 1) := dk_3 (dk_at dksX11_init_0 4 rfl rfl)
theorem dX11_init_5 : decode cX11_init 5 = .ok (.invokespecial 1, 3) := dk_183 0 1 (dk_at dksX11_init_0 5 rfl rfl)
theorem dX11_init_8 : decode cX11_init 8 = .ok (.aload_n 0, 1) := dk_42 (dk_at dksX11_init_0 8 rfl rfl)
theorem dX11_init_9 : decode cX11_init 9 = .ok (.iload_n 1, 1) := dk_27 (dk_at dksX11_init_0 9 rfl rfl)
theorem dX11_init_10 : decode cX11_init 10 = .ok (.putfield 7, 3) := dk_181 0 7 (dk_at dksX11_init_0 10 rfl rfl)
theorem dX11_init_13 : decode cX11_init 13 = .ok (.aload_n 0, 1) := dk_42 (dk_at dksX11_init_0 13 rfl rfl)
theorem dX11_init_14 : decode cX11_init 14 = .ok (.iload_n 2, 1) := dk_28 (dk_at dksX11_init_0 14 rfl rfl)
theorem dX11_init_15 : decode cX11_init 15 = .ok (.putfield 13, 3) := dk_181 0 13 (dk_at dksX11_init_0 15 rfl rfl)
theorem dX11_init_18 : decode cX11_init 18 = .ok (.return_, 1) := dk_177 (dk_at dksX11_init_0 18 rfl rfl)
def dkwX2_wrong_0 : List UInt8 := [187, 0, 80, 89, 27, 42, 180, 0, 30, 183, 0, 82, 176]
abbrev dktX2_wrong_0 : List UInt8 := dkwX2_wrong_0 ++ []
theorem dksX2_wrong_0 : cX2_wrong.data.toList.drop 0 = dktX2_wrong_0 := by decide +kernel
theorem dX2_wrong_0 : decode cX2_wrong 0 = .ok (.new 80, 3) := dk_187 0 80 (dk_at dksX2_wrong_0 0 rfl rfl)
theorem dX2_wrong_3 : decode cX2_wrong 3 = .ok (.dup, 1) := dk_89 (dk_at dksX2_wrong_0 3 rfl rfl)
theorem dX2_wrong_4 : decode cX2_wrong 4 = .ok (.iload_n 1, 1) := dk_27 (dk_at dksX2_wrong_0 4 rfl rfl)
theorem dX2_wrong_5 : decode cX2_wrong 5 = .ok (.aload_n 0, 1) := dk_42 (dk_at dksX2_wrong_0 5 rfl rfl)
theorem dX2_wrong_6 : decode cX2_wrong 6 = .ok (.getfield 30, 3) := dk_180 0 30 (dk_at dksX2_wrong_0 6 rfl rfl)
theorem dX2_wrong_9 : decode cX2_wrong 9 = .ok (.invokespecial 82, 3) := dk_183 0 82 (dk_at dksX2_wrong_0 9 rfl rfl)
theorem dX2_wrong_12 : decode cX2_wrong 12 = .ok (.areturn, 1) := dk_176 (dk_at dksX2_wrong_0 12 rfl rfl)
def dkwX2_isFull_3 : List UInt8 := [16, 10, 160, 0, 7, 4, 167, 0, 4, 3, 172]
abbrev dktX2_isFull_3 : List UInt8 := dkwX2_isFull_3 ++ []
def dkwX2_isFull_2 : List UInt8 := [180, 0, 129, 182, 0, 122, 16, 8, 159, 0, 20, 27, 7, 160, 0, 19, 42, 180, 0, 111, 180, 0, 132]
abbrev dktX2_isFull_2 : List UInt8 := dkwX2_isFull_2 ++ dktX2_isFull_3
def dkwX2_isFull_1 : List UInt8 := [42, 180, 0, 111, 180, 0, 126, 182, 0, 122, 8, 159, 0, 40, 27, 6, 160, 0, 18, 42, 180, 0, 111]
abbrev dktX2_isFull_1 : List UInt8 := dkwX2_isFull_1 ++ dktX2_isFull_2
def dkwX2_isFull_0 : List UInt8 := [27, 154, 0, 18, 42, 180, 0, 111, 180, 0, 118, 182, 0, 122, 16, 8, 159, 0, 59, 27, 4, 160, 0, 17]
abbrev dktX2_isFull_0 : List UInt8 := dkwX2_isFull_0 ++ dktX2_isFull_1
theorem dksX2_isFull_0 : cX2_isFull.data.toList.drop 0 = dktX2_isFull_0 := by decide +kernel
theorem dksX2_isFull_1 : cX2_isFull.data.toList.drop 24 = dktX2_isFull_1 := dk_seg dksX2_isFull_0 24 rfl rfl
theorem dksX2_isFull_2 : cX2_isFull.data.toList.drop 47 = dktX2_isFull_2 := dk_seg dksX2_isFull_1 23 rfl rfl
theorem dksX2_isFull_3 : cX2_isFull.data.toList.drop 70 = dktX2_isFull_3 := dk_seg dksX2_isFull_2 23 rfl rfl
theorem dX2_isFull_0 : decode cX2_isFull 0 = .ok (.iload_n 1, 1) := dk_27 (dk_at dksX2_isFull_0 0 rfl rfl)
theorem dX2_isFull_1 : decode cX2_isFull 1 = .ok (.ifCond .ne 18, 3) := dk_154 0 18 (dk_at dksX2_isFull_0 1 rfl rfl)
theorem dX2_isFull_4 : decode cX2_isFull 4 = .ok (.aload_n 0, 1) := dk_42 (dk_at dksX2_isFull_0 4 rfl rfl)
theorem dX2_isFull_5 : decode cX2_isFull 5 = .ok (.getfield 111, 3) := dk_180 0 111 (dk_at dksX2_isFull_0 5 rfl rfl)
theorem dX2_isFull_8 : decode cX2_isFull 8 = .ok (.getfield 118, 3) := dk_180 0 118 (dk_at dksX2_isFull_0 8 rfl rfl)
theorem dX2_isFull_11 : decode cX2_isFull 11 = .ok (.invokevirtual 122, 3) := dk_182 0 122 (dk_at dksX2_isFull_0 11 rfl rfl)
theorem dX2_isFull_14 : decode cX2_isFull 14 = .ok (.bipush 8, 2) := dk_16 8 (dk_at dksX2_isFull_0 14 rfl rfl)
theorem dX2_isFull_16 : decode cX2_isFull 16 = .ok (.if_icmp .eq 59, 3) := dk_159 0 59 (dk_at dksX2_isFull_0 16 rfl rfl)
theorem dX2_isFull_19 : decode cX2_isFull 19 = .ok (.iload_n 1, 1) := dk_27 (dk_at dksX2_isFull_0 19 rfl rfl)
theorem dX2_isFull_20 : decode cX2_isFull 20 = .ok (.iconst 1, 1) := dk_4 (dk_at dksX2_isFull_0 20 rfl rfl)
theorem dX2_isFull_21 : decode cX2_isFull 21 = .ok (.if_icmp .ne 17, 3) := dk_160 0 17 (dk_at dksX2_isFull_0 21 rfl rfl)
theorem dX2_isFull_24 : decode cX2_isFull 24 = .ok (.aload_n 0, 1) := dk_42 (dk_at dksX2_isFull_1 0 rfl rfl)
theorem dX2_isFull_25 : decode cX2_isFull 25 = .ok (.getfield 111, 3) := dk_180 0 111 (dk_at dksX2_isFull_1 1 rfl rfl)
theorem dX2_isFull_28 : decode cX2_isFull 28 = .ok (.getfield 126, 3) := dk_180 0 126 (dk_at dksX2_isFull_1 4 rfl rfl)
theorem dX2_isFull_31 : decode cX2_isFull 31 = .ok (.invokevirtual 122, 3) := dk_182 0 122 (dk_at dksX2_isFull_1 7 rfl rfl)
theorem dX2_isFull_34 : decode cX2_isFull 34 = .ok (.iconst 5, 1) := dk_8 (dk_at dksX2_isFull_1 10 rfl rfl)
theorem dX2_isFull_35 : decode cX2_isFull 35 = .ok (.if_icmp .eq 40, 3) := dk_159 0 40 (dk_at dksX2_isFull_1 11 rfl rfl)
theorem dX2_isFull_38 : decode cX2_isFull 38 = .ok (.iload_n 1, 1) := dk_27 (dk_at dksX2_isFull_1 14 rfl rfl)
theorem dX2_isFull_39 : decode cX2_isFull 39 = .ok (.iconst 3, 1) := dk_6 (dk_at dksX2_isFull_1 15 rfl rfl)
theorem dX2_isFull_40 : decode cX2_isFull 40 = .ok (.if_icmp .ne 18, 3) := dk_160 0 18 (dk_at dksX2_isFull_1 16 rfl rfl)
theorem dX2_isFull_43 : decode cX2_isFull 43 = .ok (.aload_n 0, 1) := dk_42 (dk_at dksX2_isFull_1 19 rfl rfl)
theorem dX2_isFull_44 : decode cX2_isFull 44 = .ok (.getfield 111, 3) := dk_180 0 111 (dk_at dksX2_isFull_1 20 rfl rfl)
theorem dX2_isFull_47 : decode cX2_isFull 47 = .ok (.getfield 129, 3) := dk_180 0 129 (dk_at dksX2_isFull_2 0 rfl rfl)
theorem dX2_isFull_50 : decode cX2_isFull 50 = .ok (.invokevirtual 122, 3) := dk_182 0 122 (dk_at dksX2_isFull_2 3 rfl rfl)
theorem dX2_isFull_53 : decode cX2_isFull 53 = .ok (.bipush 8, 2) := dk_16 8 (dk_at dksX2_isFull_2 6 rfl rfl)
theorem dX2_isFull_55 : decode cX2_isFull 55 = .ok (.if_icmp .eq 20, 3) := dk_159 0 20 (dk_at dksX2_isFull_2 8 rfl rfl)
theorem dX2_isFull_58 : decode cX2_isFull 58 = .ok (.iload_n 1, 1) := dk_27 (dk_at dksX2_isFull_2 11 rfl rfl)
theorem dX2_isFull_59 : decode cX2_isFull 59 = .ok (.iconst 4, 1) := dk_7 (dk_at dksX2_isFull_2 12 rfl rfl)
theorem dX2_isFull_60 : decode cX2_isFull 60 = .ok (.if_icmp .ne 19, 3) := dk_160 0 19 (dk_at dksX2_isFull_2 13 rfl rfl)
theorem dX2_isFull_63 : decode cX2_isFull 63 = .ok (.aload_n 0, 1) := dk_42 (dk_at dksX2_isFull_2 16 rfl rfl)
theorem dX2_isFull_64 : decode cX2_isFull 64 = .ok (.getfield 111, 3) := dk_180 0 111 (dk_at dksX2_isFull_2 17 rfl rfl)
theorem dX2_isFull_67 : decode cX2_isFull 67 = .ok (.getfield 132, 3) := dk_180 0 132 (dk_at dksX2_isFull_2 20 rfl rfl)
theorem dX2_isFull_70 : decode cX2_isFull 70 = .ok (.bipush 10, 2) := dk_16 10 (dk_at dksX2_isFull_3 0 rfl rfl)
theorem dX2_isFull_72 : decode cX2_isFull 72 = .ok (.if_icmp .ne 7, 3) := dk_160 0 7 (dk_at dksX2_isFull_3 2 rfl rfl)
theorem dX2_isFull_75 : decode cX2_isFull 75 = .ok (.iconst 1, 1) := dk_4 (dk_at dksX2_isFull_3 5 rfl rfl)
theorem dX2_isFull_76 : decode cX2_isFull 76 = .ok (.goto 4, 3) := dk_167 0 4 (dk_at dksX2_isFull_3 6 rfl rfl)
theorem dX2_isFull_79 : decode cX2_isFull 79 = .ok (.iconst 0, 1) := dk_3 (dk_at dksX2_isFull_3 9 rfl rfl)
theorem dX2_isFull_80 : decode cX2_isFull 80 = .ok (.ireturn, 1) := dk_172 (dk_at dksX2_isFull_3 10 rfl rfl)
def dkwX2_isSign_0 : List UInt8 := [42, 180, 0, 33, 6, 160, 0, 15, 42, 180, 0, 47, 27, 160, 0, 7, 4, 167, 0, 4, 3, 172]
abbrev dktX2_isSign_0 : List UInt8 := dkwX2_isSign_0 ++ []
theorem dksX2_isSign_0 : cX2_isSign.data.toList.drop 0 = dktX2_isSign_0 := by decide +kernel
theorem dX2_isSign_0 : decode cX2_isSign 0 = .ok (.aload_n 0, 1) := dk_42 (dk_at dksX2_isSign_0 0 rfl rfl)
theorem dX2_isSign_1 : decode cX2_isSign 1 = .ok (.getfield 33, 3) := dk_180 0 33 (dk_at dksX2_isSign_0 1 rfl rfl)
theorem dX2_isSign_4 : decode cX2_isSign 4 = .ok (.iconst 3, 1) := dk_6 (dk_at dksX2_isSign_0 4 rfl rfl)
theorem dX2_isSign_5 : decode cX2_isSign 5 = .ok (.if_icmp .ne 15, 3) := dk_160 0 15 (dk_at dksX2_isSign_0 5 rfl rfl)
theorem dX2_isSign_8 : decode cX2_isSign 8 = .ok (.aload_n 0, 1) := dk_42 (dk_at dksX2_isSign_0 8 rfl rfl)
theorem dX2_isSign_9 : decode cX2_isSign 9 = .ok (.getfield 47, 3) := dk_180 0 47 (dk_at dksX2_isSign_0 9 rfl rfl)
theorem dX2_isSign_12 : decode cX2_isSign 12 = .ok (.iload_n 1, 1) := dk_27 (dk_at dksX2_isSign_0 12 rfl rfl)
theorem dX2_isSign_13 : decode cX2_isSign 13 = .ok (.if_icmp .ne 7, 3) := dk_160 0 7 (dk_at dksX2_isSign_0 13 rfl rfl)
theorem dX2_isSign_16 : decode cX2_isSign 16 = .ok (.iconst 1, 1) := dk_4 (dk_at dksX2_isSign_0 16 rfl rfl)
theorem dX2_isSign_17 : decode cX2_isSign 17 = .ok (.goto 4, 3) := dk_167 0 4 (dk_at dksX2_isSign_0 17 rfl rfl)
theorem dX2_isSign_20 : decode cX2_isSign 20 = .ok (.iconst 0, 1) := dk_3 (dk_at dksX2_isSign_0 20 rfl rfl)
theorem dX2_isSign_21 : decode cX2_isSign 21 = .ok (.ireturn, 1) := dk_172 (dk_at dksX2_isSign_0 21 rfl rfl)
def dkwX12_find_1 : List UInt8 := [160, 0, 5, 28, 172, 132, 2, 1, 167, 255, 228, 2, 172]
abbrev dktX12_find_1 : List UInt8 := dkwX12_find_1 ++ []
def dkwX12_find_0 : List UInt8 := [3, 61, 28, 42, 182, 0, 15, 162, 0, 26, 42, 28, 182, 0, 21, 192, 0, 10, 180, 0, 9, 27]
abbrev dktX12_find_0 : List UInt8 := dkwX12_find_0 ++ dktX12_find_1
theorem dksX12_find_0 : cX12_find.data.toList.drop 0 = dktX12_find_0 := by decide +kernel
theorem dksX12_find_1 : cX12_find.data.toList.drop 22 = dktX12_find_1 := dk_seg dksX12_find_0 22 rfl rfl
theorem dX12_find_0 : decode cX12_find 0 = .ok (.iconst 0, 1) := dk_3 (dk_at dksX12_find_0 0 rfl rfl)
theorem dX12_find_1 : decode cX12_find 1 = .ok (.istore_n 2, 1) := dk_61 (dk_at dksX12_find_0 1 rfl rfl)
theorem dX12_find_2 : decode cX12_find 2 = .ok (.iload_n 2, 1) := dk_28 (dk_at dksX12_find_0 2 rfl rfl)
theorem dX12_find_3 : decode cX12_find 3 = .ok (.aload_n 0, 1) := dk_42 (dk_at dksX12_find_0 3 rfl rfl)
theorem dX12_find_4 : decode cX12_find 4 = .ok (.invokevirtual 15, 3) := dk_182 0 15 (dk_at dksX12_find_0 4 rfl rfl)
theorem dX12_find_7 : decode cX12_find 7 = .ok (.if_icmp .ge 26, 3) := dk_162 0 26 (dk_at dksX12_find_0 7 rfl rfl)
theorem dX12_find_10 : decode cX12_find 10 = .ok (.aload_n 0, 1) := dk_42 (dk_at dksX12_find_0 10 rfl rfl)
theorem dX12_find_11 : decode cX12_find 11 = .ok (.iload_n 2, 1) := dk_28 (dk_at dksX12_find_0 11 rfl rfl)
theorem dX12_find_12 : decode cX12_find 12 = .ok (.invokevirtual 21, 3) := dk_182 0 21 (dk_at dksX12_find_0 12 rfl rfl)
theorem dX12_find_15 : decode cX12_find 15 = .ok (.checkcast 10, 3) := dk_192 0 10 (dk_at dksX12_find_0 15 rfl rfl)
theorem dX12_find_18 : decode cX12_find 18 = .ok (.getfield 9, 3) := dk_180 0 9 (dk_at dksX12_find_0 18 rfl rfl)
theorem dX12_find_21 : decode cX12_find 21 = .ok (.iload_n 1, 1) := dk_27 (dk_at dksX12_find_0 21 rfl rfl)
theorem dX12_find_22 : decode cX12_find 22 = .ok (.if_icmp .ne 5, 3) := dk_160 0 5 (dk_at dksX12_find_1 0 rfl rfl)
theorem dX12_find_25 : decode cX12_find 25 = .ok (.iload_n 2, 1) := dk_28 (dk_at dksX12_find_1 3 rfl rfl)
theorem dX12_find_26 : decode cX12_find 26 = .ok (.ireturn, 1) := dk_172 (dk_at dksX12_find_1 4 rfl rfl)
theorem dX12_find_27 : decode cX12_find 27 = .ok (.iinc 2 1, 3) := dk_132 2 1 (dk_at dksX12_find_1 5 rfl rfl)
theorem dX12_find_30 : decode cX12_find 30 = .ok (.goto (-28), 3) := dk_167 255 228 (dk_at dksX12_find_1 8 rfl rfl)
theorem dX12_find_33 : decode cX12_find 33 = .ok (.iconst (-1), 1) := dk_2 (dk_at dksX12_find_1 11 rfl rfl)
theorem dX12_find_34 : decode cX12_find 34 = .ok (.ireturn, 1) := dk_172 (dk_at dksX12_find_1 12 rfl rfl)
def dkwX2_fresh_1 : List UInt8 := [159, 0, 9, 42, 6, 182, 0, 85, 191, 42, 180, 0, 47, 61, 42, 182, 0, 93, 28, 172]
abbrev dktX2_fresh_1 : List UInt8 := dkwX2_fresh_1 ++ []
def dkwX2_fresh_0 : List UInt8 := [42, 180, 0, 33, 4, 159, 0, 9, 42, 4, 182, 0, 85, 191, 43, 42, 180, 0, 47, 184, 0, 96, 2]
abbrev dktX2_fresh_0 : List UInt8 := dkwX2_fresh_0 ++ dktX2_fresh_1
theorem dksX2_fresh_0 : cX2_fresh.data.toList.drop 0 = dktX2_fresh_0 := by decide +kernel
theorem dksX2_fresh_1 : cX2_fresh.data.toList.drop 23 = dktX2_fresh_1 := dk_seg dksX2_fresh_0 23 rfl rfl
theorem dX2_fresh_0 : decode cX2_fresh 0 = .ok (.aload_n 0, 1) := dk_42 (dk_at dksX2_fresh_0 0 rfl rfl)
theorem dX2_fresh_1 : decode cX2_fresh 1 = .ok (.getfield 33, 3) := dk_180 0 33 (dk_at dksX2_fresh_0 1 rfl rfl)
theorem dX2_fresh_4 : decode cX2_fresh 4 = .ok (.iconst 1, 1) := dk_4 (dk_at dksX2_fresh_0 4 rfl rfl)
theorem dX2_fresh_5 : decode cX2_fresh 5 = .ok (.if_icmp .eq 9, 3) := dk_159 0 9 (dk_at dksX2_fresh_0 5 rfl rfl)
theorem dX2_fresh_8 : decode cX2_fresh 8 = .ok (.aload_n 0, 1) := dk_42 (dk_at dksX2_fresh_0 8 rfl rfl)
theorem dX2_fresh_9 : decode cX2_fresh 9 = .ok (.iconst 1, 1) := dk_4 (dk_at dksX2_fresh_0 9 rfl rfl)
theorem dX2_fresh_10 : decode cX2_fresh 10 = .ok (.invokevirtual 85, 3) := dk_182 0 85 (dk_at dksX2_fresh_0 10 rfl rfl)
theorem dX2_fresh_13 : decode cX2_fresh 13 = .ok (.athrow, 1) := dk_191 (dk_at dksX2_fresh_0 13 rfl rfl)
theorem dX2_fresh_14 : decode cX2_fresh 14 = .ok (.aload_n 1, 1) := dk_43 (dk_at dksX2_fresh_0 14 rfl rfl)
theorem dX2_fresh_15 : decode cX2_fresh 15 = .ok (.aload_n 0, 1) := dk_42 (dk_at dksX2_fresh_0 15 rfl rfl)
theorem dX2_fresh_16 : decode cX2_fresh 16 = .ok (.getfield 47, 3) := dk_180 0 47 (dk_at dksX2_fresh_0 16 rfl rfl)
theorem dX2_fresh_19 : decode cX2_fresh 19 = .ok (.invokestatic 96, 3) := dk_184 0 96 (dk_at dksX2_fresh_0 19 rfl rfl)
theorem dX2_fresh_22 : decode cX2_fresh 22 = .ok (.iconst (-1), 1) := dk_2 (dk_at dksX2_fresh_0 22 rfl rfl)
theorem dX2_fresh_23 : decode cX2_fresh 23 = .ok (.if_icmp .eq 9, 3) := dk_159 0 9 (dk_at dksX2_fresh_1 0 rfl rfl)
theorem dX2_fresh_26 : decode cX2_fresh 26 = .ok (.aload_n 0, 1) := dk_42 (dk_at dksX2_fresh_1 3 rfl rfl)
theorem dX2_fresh_27 : decode cX2_fresh 27 = .ok (.iconst 3, 1) := dk_6 (dk_at dksX2_fresh_1 4 rfl rfl)
theorem dX2_fresh_28 : decode cX2_fresh 28 = .ok (.invokevirtual 85, 3) := dk_182 0 85 (dk_at dksX2_fresh_1 5 rfl rfl)
theorem dX2_fresh_31 : decode cX2_fresh 31 = .ok (.athrow, 1) := dk_191 (dk_at dksX2_fresh_1 8 rfl rfl)
theorem dX2_fresh_32 : decode cX2_fresh 32 = .ok (.aload_n 0, 1) := dk_42 (dk_at dksX2_fresh_1 9 rfl rfl)
theorem dX2_fresh_33 : decode cX2_fresh 33 = .ok (.getfield 47, 3) := dk_180 0 47 (dk_at dksX2_fresh_1 10 rfl rfl)
theorem dX2_fresh_36 : decode cX2_fresh 36 = .ok (.istore_n 2, 1) := dk_61 (dk_at dksX2_fresh_1 13 rfl rfl)
theorem dX2_fresh_37 : decode cX2_fresh 37 = .ok (.aload_n 0, 1) := dk_42 (dk_at dksX2_fresh_1 14 rfl rfl)
theorem dX2_fresh_38 : decode cX2_fresh 38 = .ok (.invokevirtual 93, 3) := dk_182 0 93 (dk_at dksX2_fresh_1 15 rfl rfl)
theorem dX2_fresh_41 : decode cX2_fresh 41 = .ok (.iload_n 2, 1) := dk_28 (dk_at dksX2_fresh_1 18 rfl rfl)
theorem dX2_fresh_42 : decode cX2_fresh 42 = .ok (.ireturn, 1) := dk_172 (dk_at dksX2_fresh_1 19 rfl rfl)
def dkwX12_init_0 : List UInt8 := [42, 183, 0, 3, 42, 27, 181, 0, 9, 177]
abbrev dktX12_init_0 : List UInt8 := dkwX12_init_0 ++ []
theorem dksX12_init_0 : cX12_init.data.toList.drop 0 = dktX12_init_0 := by decide +kernel
theorem dX12_init_0 : decode cX12_init 0 = .ok (.aload_n 0, 1) := dk_42 (dk_at dksX12_init_0 0 rfl rfl)
theorem dX12_init_1 : decode cX12_init 1 = .ok (.invokespecial 3, 3) := dk_183 0 3 (dk_at dksX12_init_0 1 rfl rfl)
theorem dX12_init_4 : decode cX12_init 4 = .ok (.aload_n 0, 1) := dk_42 (dk_at dksX12_init_0 4 rfl rfl)
theorem dX12_init_5 : decode cX12_init 5 = .ok (.iload_n 1, 1) := dk_27 (dk_at dksX12_init_0 5 rfl rfl)
theorem dX12_init_6 : decode cX12_init 6 = .ok (.putfield 9, 3) := dk_181 0 9 (dk_at dksX12_init_0 6 rfl rfl)
theorem dX12_init_9 : decode cX12_init 9 = .ok (.return_, 1) := dk_177 (dk_at dksX12_init_0 9 rfl rfl)
def dkwX13_init_0 : List UInt8 := [42, 27, 183, 0, 1, 177]
abbrev dktX13_init_0 : List UInt8 := dkwX13_init_0 ++ []
theorem dksX13_init_0 : cX13_init.data.toList.drop 0 = dktX13_init_0 := by decide +kernel
theorem dX13_init_0 : decode cX13_init 0 = .ok (.aload_n 0, 1) := dk_42 (dk_at dksX13_init_0 0 rfl rfl)
theorem dX13_init_1 : decode cX13_init 1 = .ok (.iload_n 1, 1) := dk_27 (dk_at dksX13_init_0 1 rfl rfl)
theorem dX13_init_2 : decode cX13_init 2 = .ok (.invokespecial 1, 3) := dk_183 0 1 (dk_at dksX13_init_0 2 rfl rfl)
theorem dX13_init_5 : decode cX13_init 5 = .ok (.return_, 1) := dk_177 (dk_at dksX13_init_0 5 rfl rfl)
def dkwX2_numberAtHand_1 : List UInt8 := [184, 0, 40, 154, 0, 9, 42, 5, 182, 0, 85, 191, 42, 180, 0, 47, 172]
abbrev dktX2_numberAtHand_1 : List UInt8 := dkwX2_numberAtHand_1 ++ []
def dkwX2_numberAtHand_0 : List UInt8 := [42, 180, 0, 33, 5, 159, 0, 9, 42, 4, 182, 0, 85, 191, 42, 180, 0, 47, 133, 27, 133, 28, 133]
abbrev dktX2_numberAtHand_0 : List UInt8 := dkwX2_numberAtHand_0 ++ dktX2_numberAtHand_1
theorem dksX2_numberAtHand_0 : cX2_numberAtHand.data.toList.drop 0 = dktX2_numberAtHand_0 := by decide +kernel
theorem dksX2_numberAtHand_1 : cX2_numberAtHand.data.toList.drop 23 = dktX2_numberAtHand_1 := dk_seg dksX2_numberAtHand_0 23 rfl rfl
theorem dX2_numberAtHand_0 : decode cX2_numberAtHand 0 = .ok (.aload_n 0, 1) := dk_42 (dk_at dksX2_numberAtHand_0 0 rfl rfl)
theorem dX2_numberAtHand_1 : decode cX2_numberAtHand 1 = .ok (.getfield 33, 3) := dk_180 0 33 (dk_at dksX2_numberAtHand_0 1 rfl rfl)
theorem dX2_numberAtHand_4 : decode cX2_numberAtHand 4 = .ok (.iconst 2, 1) := dk_5 (dk_at dksX2_numberAtHand_0 4 rfl rfl)
theorem dX2_numberAtHand_5 : decode cX2_numberAtHand 5 = .ok (.if_icmp .eq 9, 3) := dk_159 0 9 (dk_at dksX2_numberAtHand_0 5 rfl rfl)
theorem dX2_numberAtHand_8 : decode cX2_numberAtHand 8 = .ok (.aload_n 0, 1) := dk_42 (dk_at dksX2_numberAtHand_0 8 rfl rfl)
theorem dX2_numberAtHand_9 : decode cX2_numberAtHand 9 = .ok (.iconst 1, 1) := dk_4 (dk_at dksX2_numberAtHand_0 9 rfl rfl)
theorem dX2_numberAtHand_10 : decode cX2_numberAtHand 10 = .ok (.invokevirtual 85, 3) := dk_182 0 85 (dk_at dksX2_numberAtHand_0 10 rfl rfl)
theorem dX2_numberAtHand_13 : decode cX2_numberAtHand 13 = .ok (.athrow, 1) := dk_191 (dk_at dksX2_numberAtHand_0 13 rfl rfl)
theorem dX2_numberAtHand_14 : decode cX2_numberAtHand 14 = .ok (.aload_n 0, 1) := dk_42 (dk_at dksX2_numberAtHand_0 14 rfl rfl)
theorem dX2_numberAtHand_15 : decode cX2_numberAtHand 15 = .ok (.getfield 47, 3) := dk_180 0 47 (dk_at dksX2_numberAtHand_0 15 rfl rfl)
theorem dX2_numberAtHand_18 : decode cX2_numberAtHand 18 = .ok (.i2l, 1) := dk_133 (dk_at dksX2_numberAtHand_0 18 rfl rfl)
theorem dX2_numberAtHand_19 : decode cX2_numberAtHand 19 = .ok (.iload_n 1, 1) := dk_27 (dk_at dksX2_numberAtHand_0 19 rfl rfl)
theorem dX2_numberAtHand_20 : decode cX2_numberAtHand 20 = .ok (.i2l, 1) := dk_133 (dk_at dksX2_numberAtHand_0 20 rfl rfl)
theorem dX2_numberAtHand_21 : decode cX2_numberAtHand 21 = .ok (.iload_n 2, 1) := dk_28 (dk_at dksX2_numberAtHand_0 21 rfl rfl)
theorem dX2_numberAtHand_22 : decode cX2_numberAtHand 22 = .ok (.i2l, 1) := dk_133 (dk_at dksX2_numberAtHand_0 22 rfl rfl)
theorem dX2_numberAtHand_23 : decode cX2_numberAtHand 23 = .ok (.invokestatic 40, 3) := dk_184 0 40 (dk_at dksX2_numberAtHand_1 0 rfl rfl)
theorem dX2_numberAtHand_26 : decode cX2_numberAtHand 26 = .ok (.ifCond .ne 9, 3) := dk_154 0 9 (dk_at dksX2_numberAtHand_1 3 rfl rfl)
theorem dX2_numberAtHand_29 : decode cX2_numberAtHand 29 = .ok (.aload_n 0, 1) := dk_42 (dk_at dksX2_numberAtHand_1 6 rfl rfl)
theorem dX2_numberAtHand_30 : decode cX2_numberAtHand 30 = .ok (.iconst 2, 1) := dk_5 (dk_at dksX2_numberAtHand_1 7 rfl rfl)
theorem dX2_numberAtHand_31 : decode cX2_numberAtHand 31 = .ok (.invokevirtual 85, 3) := dk_182 0 85 (dk_at dksX2_numberAtHand_1 8 rfl rfl)
theorem dX2_numberAtHand_34 : decode cX2_numberAtHand 34 = .ok (.athrow, 1) := dk_191 (dk_at dksX2_numberAtHand_1 11 rfl rfl)
theorem dX2_numberAtHand_35 : decode cX2_numberAtHand 35 = .ok (.aload_n 0, 1) := dk_42 (dk_at dksX2_numberAtHand_1 12 rfl rfl)
theorem dX2_numberAtHand_36 : decode cX2_numberAtHand 36 = .ok (.getfield 47, 3) := dk_180 0 47 (dk_at dksX2_numberAtHand_1 13 rfl rfl)
theorem dX2_numberAtHand_39 : decode cX2_numberAtHand 39 = .ok (.ireturn, 1) := dk_172 (dk_at dksX2_numberAtHand_1 16 rfl rfl)
def dkwX2_number_0 : List UInt8 := [42, 27, 28, 182, 0, 89, 62, 42, 182, 0, 93, 29, 172]
abbrev dktX2_number_0 : List UInt8 := dkwX2_number_0 ++ []
theorem dksX2_number_0 : cX2_number.data.toList.drop 0 = dktX2_number_0 := by decide +kernel
theorem dX2_number_0 : decode cX2_number 0 = .ok (.aload_n 0, 1) := dk_42 (dk_at dksX2_number_0 0 rfl rfl)
theorem dX2_number_1 : decode cX2_number 1 = .ok (.iload_n 1, 1) := dk_27 (dk_at dksX2_number_0 1 rfl rfl)
theorem dX2_number_2 : decode cX2_number 2 = .ok (.iload_n 2, 1) := dk_28 (dk_at dksX2_number_0 2 rfl rfl)
theorem dX2_number_3 : decode cX2_number 3 = .ok (.invokevirtual 89, 3) := dk_182 0 89 (dk_at dksX2_number_0 3 rfl rfl)
theorem dX2_number_6 : decode cX2_number 6 = .ok (.istore_n 3, 1) := dk_62 (dk_at dksX2_number_0 6 rfl rfl)
theorem dX2_number_7 : decode cX2_number 7 = .ok (.aload_n 0, 1) := dk_42 (dk_at dksX2_number_0 7 rfl rfl)
theorem dX2_number_8 : decode cX2_number 8 = .ok (.invokevirtual 93, 3) := dk_182 0 93 (dk_at dksX2_number_0 8 rfl rfl)
theorem dX2_number_11 : decode cX2_number 11 = .ok (.iload_n 3, 1) := dk_29 (dk_at dksX2_number_0 11 rfl rfl)
theorem dX2_number_12 : decode cX2_number 12 = .ok (.ireturn, 1) := dk_172 (dk_at dksX2_number_0 12 rfl rfl)
def dkwX2_person_2 : List UInt8 := [181, 0, 200, 42, 180, 0, 111, 180, 0, 126, 43, 182, 0, 150, 87, 177]
abbrev dktX2_person_2 : List UInt8 := dkwX2_person_2 ++ []
def dkwX2_person_1 : List UInt8 := [182, 0, 165, 181, 0, 194, 43, 42, 3, 16, 9, 182, 0, 165, 181, 0, 197, 43, 42, 3, 6, 182, 0, 165]
abbrev dktX2_person_1 : List UInt8 := dkwX2_person_1 ++ dktX2_person_2
def dkwX2_person_0 : List UInt8 := [187, 0, 191, 89, 42, 42, 180, 0, 111, 180, 0, 126, 182, 0, 143, 183, 0, 193, 76, 43, 42, 3, 16, 9]
abbrev dktX2_person_0 : List UInt8 := dkwX2_person_0 ++ dktX2_person_1
theorem dksX2_person_0 : cX2_person.data.toList.drop 0 = dktX2_person_0 := by decide +kernel
theorem dksX2_person_1 : cX2_person.data.toList.drop 24 = dktX2_person_1 := dk_seg dksX2_person_0 24 rfl rfl
theorem dksX2_person_2 : cX2_person.data.toList.drop 48 = dktX2_person_2 := dk_seg dksX2_person_1 24 rfl rfl
theorem dX2_person_0 : decode cX2_person 0 = .ok (.new 191, 3) := dk_187 0 191 (dk_at dksX2_person_0 0 rfl rfl)
theorem dX2_person_3 : decode cX2_person 3 = .ok (.dup, 1) := dk_89 (dk_at dksX2_person_0 3 rfl rfl)
theorem dX2_person_4 : decode cX2_person 4 = .ok (.aload_n 0, 1) := dk_42 (dk_at dksX2_person_0 4 rfl rfl)
theorem dX2_person_5 : decode cX2_person 5 = .ok (.aload_n 0, 1) := dk_42 (dk_at dksX2_person_0 5 rfl rfl)
theorem dX2_person_6 : decode cX2_person 6 = .ok (.getfield 111, 3) := dk_180 0 111 (dk_at dksX2_person_0 6 rfl rfl)
theorem dX2_person_9 : decode cX2_person 9 = .ok (.getfield 126, 3) := dk_180 0 126 (dk_at dksX2_person_0 9 rfl rfl)
theorem dX2_person_12 : decode cX2_person 12 = .ok (.invokevirtual 143, 3) := dk_182 0 143 (dk_at dksX2_person_0 12 rfl rfl)
theorem dX2_person_15 : decode cX2_person 15 = .ok (.invokespecial 193, 3) := dk_183 0 193 (dk_at dksX2_person_0 15 rfl rfl)
theorem dX2_person_18 : decode cX2_person 18 = .ok (.astore_n 1, 1) := dk_76 (dk_at dksX2_person_0 18 rfl rfl)
theorem dX2_person_19 : decode cX2_person 19 = .ok (.aload_n 1, 1) := dk_43 (dk_at dksX2_person_0 19 rfl rfl)
theorem dX2_person_20 : decode cX2_person 20 = .ok (.aload_n 0, 1) := dk_42 (dk_at dksX2_person_0 20 rfl rfl)
theorem dX2_person_21 : decode cX2_person 21 = .ok (.iconst 0, 1) := dk_3 (dk_at dksX2_person_0 21 rfl rfl)
theorem dX2_person_22 : decode cX2_person 22 = .ok (.bipush 9, 2) := dk_16 9 (dk_at dksX2_person_0 22 rfl rfl)
theorem dX2_person_24 : decode cX2_person 24 = .ok (.invokevirtual 165, 3) := dk_182 0 165 (dk_at dksX2_person_1 0 rfl rfl)
theorem dX2_person_27 : decode cX2_person 27 = .ok (.putfield 194, 3) := dk_181 0 194 (dk_at dksX2_person_1 3 rfl rfl)
theorem dX2_person_30 : decode cX2_person 30 = .ok (.aload_n 1, 1) := dk_43 (dk_at dksX2_person_1 6 rfl rfl)
theorem dX2_person_31 : decode cX2_person 31 = .ok (.aload_n 0, 1) := dk_42 (dk_at dksX2_person_1 7 rfl rfl)
theorem dX2_person_32 : decode cX2_person 32 = .ok (.iconst 0, 1) := dk_3 (dk_at dksX2_person_1 8 rfl rfl)
theorem dX2_person_33 : decode cX2_person 33 = .ok (.bipush 9, 2) := dk_16 9 (dk_at dksX2_person_1 9 rfl rfl)
theorem dX2_person_35 : decode cX2_person 35 = .ok (.invokevirtual 165, 3) := dk_182 0 165 (dk_at dksX2_person_1 11 rfl rfl)
theorem dX2_person_38 : decode cX2_person 38 = .ok (.putfield 197, 3) := dk_181 0 197 (dk_at dksX2_person_1 14 rfl rfl)
theorem dX2_person_41 : decode cX2_person 41 = .ok (.aload_n 1, 1) := dk_43 (dk_at dksX2_person_1 17 rfl rfl)
theorem dX2_person_42 : decode cX2_person 42 = .ok (.aload_n 0, 1) := dk_42 (dk_at dksX2_person_1 18 rfl rfl)
theorem dX2_person_43 : decode cX2_person 43 = .ok (.iconst 0, 1) := dk_3 (dk_at dksX2_person_1 19 rfl rfl)
theorem dX2_person_44 : decode cX2_person 44 = .ok (.iconst 3, 1) := dk_6 (dk_at dksX2_person_1 20 rfl rfl)
theorem dX2_person_45 : decode cX2_person 45 = .ok (.invokevirtual 165, 3) := dk_182 0 165 (dk_at dksX2_person_1 21 rfl rfl)
theorem dX2_person_48 : decode cX2_person 48 = .ok (.putfield 200, 3) := dk_181 0 200 (dk_at dksX2_person_2 0 rfl rfl)
theorem dX2_person_51 : decode cX2_person 51 = .ok (.aload_n 0, 1) := dk_42 (dk_at dksX2_person_2 3 rfl rfl)
theorem dX2_person_52 : decode cX2_person 52 = .ok (.getfield 111, 3) := dk_180 0 111 (dk_at dksX2_person_2 4 rfl rfl)
theorem dX2_person_55 : decode cX2_person 55 = .ok (.getfield 126, 3) := dk_180 0 126 (dk_at dksX2_person_2 7 rfl rfl)
theorem dX2_person_58 : decode cX2_person 58 = .ok (.aload_n 1, 1) := dk_43 (dk_at dksX2_person_2 10 rfl rfl)
theorem dX2_person_59 : decode cX2_person 59 = .ok (.invokevirtual 150, 3) := dk_182 0 150 (dk_at dksX2_person_2 11 rfl rfl)
theorem dX2_person_62 : decode cX2_person 62 = .ok (.pop, 1) := dk_87 (dk_at dksX2_person_2 14 rfl rfl)
theorem dX2_person_63 : decode cX2_person 63 = .ok (.return_, 1) := dk_177 (dk_at dksX2_person_2 15 rfl rfl)
def dkwX2_atHand_1 : List UInt8 := [2, 160, 0, 9, 42, 7, 182, 0, 85, 191, 28, 172]
abbrev dktX2_atHand_1 : List UInt8 := dkwX2_atHand_1 ++ []
def dkwX2_atHand_0 : List UInt8 := [42, 180, 0, 33, 4, 159, 0, 9, 42, 4, 182, 0, 85, 191, 43, 42, 180, 0, 47, 184, 0, 96, 61, 28]
abbrev dktX2_atHand_0 : List UInt8 := dkwX2_atHand_0 ++ dktX2_atHand_1
theorem dksX2_atHand_0 : cX2_atHand.data.toList.drop 0 = dktX2_atHand_0 := by decide +kernel
theorem dksX2_atHand_1 : cX2_atHand.data.toList.drop 24 = dktX2_atHand_1 := dk_seg dksX2_atHand_0 24 rfl rfl
theorem dX2_atHand_0 : decode cX2_atHand 0 = .ok (.aload_n 0, 1) := dk_42 (dk_at dksX2_atHand_0 0 rfl rfl)
theorem dX2_atHand_1 : decode cX2_atHand 1 = .ok (.getfield 33, 3) := dk_180 0 33 (dk_at dksX2_atHand_0 1 rfl rfl)
theorem dX2_atHand_4 : decode cX2_atHand 4 = .ok (.iconst 1, 1) := dk_4 (dk_at dksX2_atHand_0 4 rfl rfl)
theorem dX2_atHand_5 : decode cX2_atHand 5 = .ok (.if_icmp .eq 9, 3) := dk_159 0 9 (dk_at dksX2_atHand_0 5 rfl rfl)
theorem dX2_atHand_8 : decode cX2_atHand 8 = .ok (.aload_n 0, 1) := dk_42 (dk_at dksX2_atHand_0 8 rfl rfl)
theorem dX2_atHand_9 : decode cX2_atHand 9 = .ok (.iconst 1, 1) := dk_4 (dk_at dksX2_atHand_0 9 rfl rfl)
theorem dX2_atHand_10 : decode cX2_atHand 10 = .ok (.invokevirtual 85, 3) := dk_182 0 85 (dk_at dksX2_atHand_0 10 rfl rfl)
theorem dX2_atHand_13 : decode cX2_atHand 13 = .ok (.athrow, 1) := dk_191 (dk_at dksX2_atHand_0 13 rfl rfl)
theorem dX2_atHand_14 : decode cX2_atHand 14 = .ok (.aload_n 1, 1) := dk_43 (dk_at dksX2_atHand_0 14 rfl rfl)
theorem dX2_atHand_15 : decode cX2_atHand 15 = .ok (.aload_n 0, 1) := dk_42 (dk_at dksX2_atHand_0 15 rfl rfl)
theorem dX2_atHand_16 : decode cX2_atHand 16 = .ok (.getfield 47, 3) := dk_180 0 47 (dk_at dksX2_atHand_0 16 rfl rfl)
theorem dX2_atHand_19 : decode cX2_atHand 19 = .ok (.invokestatic 96, 3) := dk_184 0 96 (dk_at dksX2_atHand_0 19 rfl rfl)
theorem dX2_atHand_22 : decode cX2_atHand 22 = .ok (.istore_n 2, 1) := dk_61 (dk_at dksX2_atHand_0 22 rfl rfl)
theorem dX2_atHand_23 : decode cX2_atHand 23 = .ok (.iload_n 2, 1) := dk_28 (dk_at dksX2_atHand_0 23 rfl rfl)
theorem dX2_atHand_24 : decode cX2_atHand 24 = .ok (.iconst (-1), 1) := dk_2 (dk_at dksX2_atHand_1 0 rfl rfl)
theorem dX2_atHand_25 : decode cX2_atHand 25 = .ok (.if_icmp .ne 9, 3) := dk_160 0 9 (dk_at dksX2_atHand_1 1 rfl rfl)
theorem dX2_atHand_28 : decode cX2_atHand 28 = .ok (.aload_n 0, 1) := dk_42 (dk_at dksX2_atHand_1 4 rfl rfl)
theorem dX2_atHand_29 : decode cX2_atHand 29 = .ok (.iconst 4, 1) := dk_7 (dk_at dksX2_atHand_1 5 rfl rfl)
theorem dX2_atHand_30 : decode cX2_atHand 30 = .ok (.invokevirtual 85, 3) := dk_182 0 85 (dk_at dksX2_atHand_1 6 rfl rfl)
theorem dX2_atHand_33 : decode cX2_atHand 33 = .ok (.athrow, 1) := dk_191 (dk_at dksX2_atHand_1 9 rfl rfl)
theorem dX2_atHand_34 : decode cX2_atHand 34 = .ok (.iload_n 2, 1) := dk_28 (dk_at dksX2_atHand_1 10 rfl rfl)
theorem dX2_atHand_35 : decode cX2_atHand 35 = .ok (.ireturn, 1) := dk_172 (dk_at dksX2_atHand_1 11 rfl rfl)
def dkwX2_ahead_0 : List UInt8 := [42, 43, 182, 0, 188, 61, 42, 182, 0, 93, 28, 172]
abbrev dktX2_ahead_0 : List UInt8 := dkwX2_ahead_0 ++ []
theorem dksX2_ahead_0 : cX2_ahead.data.toList.drop 0 = dktX2_ahead_0 := by decide +kernel
theorem dX2_ahead_0 : decode cX2_ahead 0 = .ok (.aload_n 0, 1) := dk_42 (dk_at dksX2_ahead_0 0 rfl rfl)
theorem dX2_ahead_1 : decode cX2_ahead 1 = .ok (.aload_n 1, 1) := dk_43 (dk_at dksX2_ahead_0 1 rfl rfl)
theorem dX2_ahead_2 : decode cX2_ahead 2 = .ok (.invokevirtual 188, 3) := dk_182 0 188 (dk_at dksX2_ahead_0 2 rfl rfl)
theorem dX2_ahead_5 : decode cX2_ahead 5 = .ok (.istore_n 2, 1) := dk_61 (dk_at dksX2_ahead_0 5 rfl rfl)
theorem dX2_ahead_6 : decode cX2_ahead 6 = .ok (.aload_n 0, 1) := dk_42 (dk_at dksX2_ahead_0 6 rfl rfl)
theorem dX2_ahead_7 : decode cX2_ahead 7 = .ok (.invokevirtual 93, 3) := dk_182 0 93 (dk_at dksX2_ahead_0 7 rfl rfl)
theorem dX2_ahead_10 : decode cX2_ahead 10 = .ok (.iload_n 2, 1) := dk_28 (dk_at dksX2_ahead_0 10 rfl rfl)
theorem dX2_ahead_11 : decode cX2_ahead 11 = .ok (.ireturn, 1) := dk_172 (dk_at dksX2_ahead_0 11 rfl rfl)
def dkwX2_knows_3 : List UInt8 := [181, 0, 210, 177]
abbrev dktX2_knows_3 : List UInt8 := dkwX2_knows_3 ++ []
def dkwX2_knows_2 : List UInt8 := [160, 0, 9, 42, 6, 182, 0, 85, 191, 42, 182, 0, 93, 43, 89, 180, 0, 210, 4, 28, 120, 128]
abbrev dktX2_knows_2 : List UInt8 := dkwX2_knows_2 ++ dktX2_knows_3
def dkwX2_knows_1 : List UInt8 := [76, 42, 42, 180, 0, 111, 180, 0, 118, 182, 0, 188, 61, 43, 180, 0, 210, 28, 122, 4, 126, 4]
abbrev dktX2_knows_1 : List UInt8 := dkwX2_knows_1 ++ dktX2_knows_2
def dkwX2_knows_0 : List UInt8 := [42, 180, 0, 111, 180, 0, 126, 42, 42, 180, 0, 111, 180, 0, 126, 182, 0, 203, 182, 0, 206, 192, 0, 191]
abbrev dktX2_knows_0 : List UInt8 := dkwX2_knows_0 ++ dktX2_knows_1
theorem dksX2_knows_0 : cX2_knows.data.toList.drop 0 = dktX2_knows_0 := by decide +kernel
theorem dksX2_knows_1 : cX2_knows.data.toList.drop 24 = dktX2_knows_1 := dk_seg dksX2_knows_0 24 rfl rfl
theorem dksX2_knows_2 : cX2_knows.data.toList.drop 46 = dktX2_knows_2 := dk_seg dksX2_knows_1 22 rfl rfl
theorem dksX2_knows_3 : cX2_knows.data.toList.drop 68 = dktX2_knows_3 := dk_seg dksX2_knows_2 22 rfl rfl
theorem dX2_knows_0 : decode cX2_knows 0 = .ok (.aload_n 0, 1) := dk_42 (dk_at dksX2_knows_0 0 rfl rfl)
theorem dX2_knows_1 : decode cX2_knows 1 = .ok (.getfield 111, 3) := dk_180 0 111 (dk_at dksX2_knows_0 1 rfl rfl)
theorem dX2_knows_4 : decode cX2_knows 4 = .ok (.getfield 126, 3) := dk_180 0 126 (dk_at dksX2_knows_0 4 rfl rfl)
theorem dX2_knows_7 : decode cX2_knows 7 = .ok (.aload_n 0, 1) := dk_42 (dk_at dksX2_knows_0 7 rfl rfl)
theorem dX2_knows_8 : decode cX2_knows 8 = .ok (.aload_n 0, 1) := dk_42 (dk_at dksX2_knows_0 8 rfl rfl)
theorem dX2_knows_9 : decode cX2_knows 9 = .ok (.getfield 111, 3) := dk_180 0 111 (dk_at dksX2_knows_0 9 rfl rfl)
theorem dX2_knows_12 : decode cX2_knows 12 = .ok (.getfield 126, 3) := dk_180 0 126 (dk_at dksX2_knows_0 12 rfl rfl)
theorem dX2_knows_15 : decode cX2_knows 15 = .ok (.invokevirtual 203, 3) := dk_182 0 203 (dk_at dksX2_knows_0 15 rfl rfl)
theorem dX2_knows_18 : decode cX2_knows 18 = .ok (.invokevirtual 206, 3) := dk_182 0 206 (dk_at dksX2_knows_0 18 rfl rfl)
theorem dX2_knows_21 : decode cX2_knows 21 = .ok (.checkcast 191, 3) := dk_192 0 191 (dk_at dksX2_knows_0 21 rfl rfl)
theorem dX2_knows_24 : decode cX2_knows 24 = .ok (.astore_n 1, 1) := dk_76 (dk_at dksX2_knows_1 0 rfl rfl)
theorem dX2_knows_25 : decode cX2_knows 25 = .ok (.aload_n 0, 1) := dk_42 (dk_at dksX2_knows_1 1 rfl rfl)
theorem dX2_knows_26 : decode cX2_knows 26 = .ok (.aload_n 0, 1) := dk_42 (dk_at dksX2_knows_1 2 rfl rfl)
theorem dX2_knows_27 : decode cX2_knows 27 = .ok (.getfield 111, 3) := dk_180 0 111 (dk_at dksX2_knows_1 3 rfl rfl)
theorem dX2_knows_30 : decode cX2_knows 30 = .ok (.getfield 118, 3) := dk_180 0 118 (dk_at dksX2_knows_1 6 rfl rfl)
theorem dX2_knows_33 : decode cX2_knows 33 = .ok (.invokevirtual 188, 3) := dk_182 0 188 (dk_at dksX2_knows_1 9 rfl rfl)
theorem dX2_knows_36 : decode cX2_knows 36 = .ok (.istore_n 2, 1) := dk_61 (dk_at dksX2_knows_1 12 rfl rfl)
theorem dX2_knows_37 : decode cX2_knows 37 = .ok (.aload_n 1, 1) := dk_43 (dk_at dksX2_knows_1 13 rfl rfl)
theorem dX2_knows_38 : decode cX2_knows 38 = .ok (.getfield 210, 3) := dk_180 0 210 (dk_at dksX2_knows_1 14 rfl rfl)
theorem dX2_knows_41 : decode cX2_knows 41 = .ok (.iload_n 2, 1) := dk_28 (dk_at dksX2_knows_1 17 rfl rfl)
theorem dX2_knows_42 : decode cX2_knows 42 = .ok (.ishr, 1) := dk_122 (dk_at dksX2_knows_1 18 rfl rfl)
theorem dX2_knows_43 : decode cX2_knows 43 = .ok (.iconst 1, 1) := dk_4 (dk_at dksX2_knows_1 19 rfl rfl)
theorem dX2_knows_44 : decode cX2_knows 44 = .ok (.iand, 1) := dk_126 (dk_at dksX2_knows_1 20 rfl rfl)
theorem dX2_knows_45 : decode cX2_knows 45 = .ok (.iconst 1, 1) := dk_4 (dk_at dksX2_knows_1 21 rfl rfl)
theorem dX2_knows_46 : decode cX2_knows 46 = .ok (.if_icmp .ne 9, 3) := dk_160 0 9 (dk_at dksX2_knows_2 0 rfl rfl)
theorem dX2_knows_49 : decode cX2_knows 49 = .ok (.aload_n 0, 1) := dk_42 (dk_at dksX2_knows_2 3 rfl rfl)
theorem dX2_knows_50 : decode cX2_knows 50 = .ok (.iconst 3, 1) := dk_6 (dk_at dksX2_knows_2 4 rfl rfl)
theorem dX2_knows_51 : decode cX2_knows 51 = .ok (.invokevirtual 85, 3) := dk_182 0 85 (dk_at dksX2_knows_2 5 rfl rfl)
theorem dX2_knows_54 : decode cX2_knows 54 = .ok (.athrow, 1) := dk_191 (dk_at dksX2_knows_2 8 rfl rfl)
theorem dX2_knows_55 : decode cX2_knows 55 = .ok (.aload_n 0, 1) := dk_42 (dk_at dksX2_knows_2 9 rfl rfl)
theorem dX2_knows_56 : decode cX2_knows 56 = .ok (.invokevirtual 93, 3) := dk_182 0 93 (dk_at dksX2_knows_2 10 rfl rfl)
theorem dX2_knows_59 : decode cX2_knows 59 = .ok (.aload_n 1, 1) := dk_43 (dk_at dksX2_knows_2 13 rfl rfl)
theorem dX2_knows_60 : decode cX2_knows 60 = .ok (.dup, 1) := dk_89 (dk_at dksX2_knows_2 14 rfl rfl)
theorem dX2_knows_61 : decode cX2_knows 61 = .ok (.getfield 210, 3) := dk_180 0 210 (dk_at dksX2_knows_2 15 rfl rfl)
theorem dX2_knows_64 : decode cX2_knows 64 = .ok (.iconst 1, 1) := dk_4 (dk_at dksX2_knows_2 18 rfl rfl)
theorem dX2_knows_65 : decode cX2_knows 65 = .ok (.iload_n 2, 1) := dk_28 (dk_at dksX2_knows_2 19 rfl rfl)
theorem dX2_knows_66 : decode cX2_knows 66 = .ok (.ishl, 1) := dk_120 (dk_at dksX2_knows_2 20 rfl rfl)
theorem dX2_knows_67 : decode cX2_knows 67 = .ok (.ior, 1) := dk_128 (dk_at dksX2_knows_2 21 rfl rfl)
theorem dX2_knows_68 : decode cX2_knows 68 = .ok (.putfield 210, 3) := dk_181 0 210 (dk_at dksX2_knows_3 0 rfl rfl)
theorem dX2_knows_71 : decode cX2_knows 71 = .ok (.return_, 1) := dk_177 (dk_at dksX2_knows_3 3 rfl rfl)
def dkwX14_init_0 : List UInt8 := [42, 27, 183, 0, 1, 177]
abbrev dktX14_init_0 : List UInt8 := dkwX14_init_0 ++ []
theorem dksX14_init_0 : cX14_init.data.toList.drop 0 = dktX14_init_0 := by decide +kernel
theorem dX14_init_0 : decode cX14_init 0 = .ok (.aload_n 0, 1) := dk_42 (dk_at dksX14_init_0 0 rfl rfl)
theorem dX14_init_1 : decode cX14_init 1 = .ok (.iload_n 1, 1) := dk_27 (dk_at dksX14_init_0 1 rfl rfl)
theorem dX14_init_2 : decode cX14_init 2 = .ok (.invokespecial 1, 3) := dk_183 0 1 (dk_at dksX14_init_0 2 rfl rfl)
theorem dX14_init_5 : decode cX14_init 5 = .ok (.return_, 1) := dk_177 (dk_at dksX14_init_0 5 rfl rfl)
def dkwX2_some_1 : List UInt8 := [182, 0, 93, 2, 172]
abbrev dktX2_some_1 : List UInt8 := dkwX2_some_1 ++ []
def dkwX2_some_0 : List UInt8 := [42, 16, 12, 16, 12, 182, 0, 135, 154, 0, 15, 42, 42, 180, 0, 111, 180, 0, 118, 182, 0, 203, 172, 42]
abbrev dktX2_some_0 : List UInt8 := dkwX2_some_0 ++ dktX2_some_1
theorem dksX2_some_0 : cX2_some.data.toList.drop 0 = dktX2_some_0 := by decide +kernel
theorem dksX2_some_1 : cX2_some.data.toList.drop 24 = dktX2_some_1 := dk_seg dksX2_some_0 24 rfl rfl
theorem dX2_some_0 : decode cX2_some 0 = .ok (.aload_n 0, 1) := dk_42 (dk_at dksX2_some_0 0 rfl rfl)
theorem dX2_some_1 : decode cX2_some 1 = .ok (.bipush 12, 2) := dk_16 12 (dk_at dksX2_some_0 1 rfl rfl)
theorem dX2_some_3 : decode cX2_some 3 = .ok (.bipush 12, 2) := dk_16 12 (dk_at dksX2_some_0 3 rfl rfl)
theorem dX2_some_5 : decode cX2_some 5 = .ok (.invokevirtual 135, 3) := dk_182 0 135 (dk_at dksX2_some_0 5 rfl rfl)
theorem dX2_some_8 : decode cX2_some 8 = .ok (.ifCond .ne 15, 3) := dk_154 0 15 (dk_at dksX2_some_0 8 rfl rfl)
theorem dX2_some_11 : decode cX2_some 11 = .ok (.aload_n 0, 1) := dk_42 (dk_at dksX2_some_0 11 rfl rfl)
theorem dX2_some_12 : decode cX2_some 12 = .ok (.aload_n 0, 1) := dk_42 (dk_at dksX2_some_0 12 rfl rfl)
theorem dX2_some_13 : decode cX2_some 13 = .ok (.getfield 111, 3) := dk_180 0 111 (dk_at dksX2_some_0 13 rfl rfl)
theorem dX2_some_16 : decode cX2_some 16 = .ok (.getfield 118, 3) := dk_180 0 118 (dk_at dksX2_some_0 16 rfl rfl)
theorem dX2_some_19 : decode cX2_some 19 = .ok (.invokevirtual 203, 3) := dk_182 0 203 (dk_at dksX2_some_0 19 rfl rfl)
theorem dX2_some_22 : decode cX2_some 22 = .ok (.ireturn, 1) := dk_172 (dk_at dksX2_some_0 22 rfl rfl)
theorem dX2_some_23 : decode cX2_some 23 = .ok (.aload_n 0, 1) := dk_42 (dk_at dksX2_some_0 23 rfl rfl)
theorem dX2_some_24 : decode cX2_some 24 = .ok (.invokevirtual 93, 3) := dk_182 0 93 (dk_at dksX2_some_1 0 rfl rfl)
theorem dX2_some_27 : decode cX2_some 27 = .ok (.iconst (-1), 1) := dk_2 (dk_at dksX2_some_1 3 rfl rfl)
theorem dX2_some_28 : decode cX2_some 28 = .ok (.ireturn, 1) := dk_172 (dk_at dksX2_some_1 4 rfl rfl)
def dkwX2_question_3 : List UInt8 := [181, 0, 227, 42, 180, 0, 111, 180, 0, 129, 43, 182, 0, 150, 87, 177]
abbrev dktX2_question_3 : List UInt8 := dkwX2_question_3 ++ []
def dkwX2_question_2 : List UInt8 := [182, 0, 93, 43, 42, 182, 0, 218, 181, 0, 221, 43, 42, 182, 0, 218, 181, 0, 224, 43, 42, 182, 0, 218]
abbrev dktX2_question_2 : List UInt8 := dkwX2_question_2 ++ dktX2_question_3
def dkwX2_question_1 : List UInt8 := [182, 0, 135, 154, 0, 9, 42, 4, 182, 0, 85, 191, 43, 42, 180, 0, 47, 16, 8, 100, 181, 0, 215, 42]
abbrev dktX2_question_1 : List UInt8 := dkwX2_question_1 ++ dktX2_question_2
def dkwX2_question_0 : List UInt8 := [187, 0, 212, 89, 42, 42, 180, 0, 111, 180, 0, 129, 182, 0, 143, 183, 0, 214, 76, 42, 16, 8, 16, 11]
abbrev dktX2_question_0 : List UInt8 := dkwX2_question_0 ++ dktX2_question_1
theorem dksX2_question_0 : cX2_question.data.toList.drop 0 = dktX2_question_0 := by decide +kernel
theorem dksX2_question_1 : cX2_question.data.toList.drop 24 = dktX2_question_1 := dk_seg dksX2_question_0 24 rfl rfl
theorem dksX2_question_2 : cX2_question.data.toList.drop 48 = dktX2_question_2 := dk_seg dksX2_question_1 24 rfl rfl
theorem dksX2_question_3 : cX2_question.data.toList.drop 72 = dktX2_question_3 := dk_seg dksX2_question_2 24 rfl rfl
theorem dX2_question_0 : decode cX2_question 0 = .ok (.new 212, 3) := dk_187 0 212 (dk_at dksX2_question_0 0 rfl rfl)
theorem dX2_question_3 : decode cX2_question 3 = .ok (.dup, 1) := dk_89 (dk_at dksX2_question_0 3 rfl rfl)
theorem dX2_question_4 : decode cX2_question 4 = .ok (.aload_n 0, 1) := dk_42 (dk_at dksX2_question_0 4 rfl rfl)
theorem dX2_question_5 : decode cX2_question 5 = .ok (.aload_n 0, 1) := dk_42 (dk_at dksX2_question_0 5 rfl rfl)
theorem dX2_question_6 : decode cX2_question 6 = .ok (.getfield 111, 3) := dk_180 0 111 (dk_at dksX2_question_0 6 rfl rfl)
theorem dX2_question_9 : decode cX2_question 9 = .ok (.getfield 129, 3) := dk_180 0 129 (dk_at dksX2_question_0 9 rfl rfl)
theorem dX2_question_12 : decode cX2_question 12 = .ok (.invokevirtual 143, 3) := dk_182 0 143 (dk_at dksX2_question_0 12 rfl rfl)
theorem dX2_question_15 : decode cX2_question 15 = .ok (.invokespecial 214, 3) := dk_183 0 214 (dk_at dksX2_question_0 15 rfl rfl)
theorem dX2_question_18 : decode cX2_question 18 = .ok (.astore_n 1, 1) := dk_76 (dk_at dksX2_question_0 18 rfl rfl)
theorem dX2_question_19 : decode cX2_question 19 = .ok (.aload_n 0, 1) := dk_42 (dk_at dksX2_question_0 19 rfl rfl)
theorem dX2_question_20 : decode cX2_question 20 = .ok (.bipush 8, 2) := dk_16 8 (dk_at dksX2_question_0 20 rfl rfl)
theorem dX2_question_22 : decode cX2_question 22 = .ok (.bipush 11, 2) := dk_16 11 (dk_at dksX2_question_0 22 rfl rfl)
theorem dX2_question_24 : decode cX2_question 24 = .ok (.invokevirtual 135, 3) := dk_182 0 135 (dk_at dksX2_question_1 0 rfl rfl)
theorem dX2_question_27 : decode cX2_question 27 = .ok (.ifCond .ne 9, 3) := dk_154 0 9 (dk_at dksX2_question_1 3 rfl rfl)
theorem dX2_question_30 : decode cX2_question 30 = .ok (.aload_n 0, 1) := dk_42 (dk_at dksX2_question_1 6 rfl rfl)
theorem dX2_question_31 : decode cX2_question 31 = .ok (.iconst 1, 1) := dk_4 (dk_at dksX2_question_1 7 rfl rfl)
theorem dX2_question_32 : decode cX2_question 32 = .ok (.invokevirtual 85, 3) := dk_182 0 85 (dk_at dksX2_question_1 8 rfl rfl)
theorem dX2_question_35 : decode cX2_question 35 = .ok (.athrow, 1) := dk_191 (dk_at dksX2_question_1 11 rfl rfl)
theorem dX2_question_36 : decode cX2_question 36 = .ok (.aload_n 1, 1) := dk_43 (dk_at dksX2_question_1 12 rfl rfl)
theorem dX2_question_37 : decode cX2_question 37 = .ok (.aload_n 0, 1) := dk_42 (dk_at dksX2_question_1 13 rfl rfl)
theorem dX2_question_38 : decode cX2_question 38 = .ok (.getfield 47, 3) := dk_180 0 47 (dk_at dksX2_question_1 14 rfl rfl)
theorem dX2_question_41 : decode cX2_question 41 = .ok (.bipush 8, 2) := dk_16 8 (dk_at dksX2_question_1 17 rfl rfl)
theorem dX2_question_43 : decode cX2_question 43 = .ok (.isub, 1) := dk_100 (dk_at dksX2_question_1 19 rfl rfl)
theorem dX2_question_44 : decode cX2_question 44 = .ok (.putfield 215, 3) := dk_181 0 215 (dk_at dksX2_question_1 20 rfl rfl)
theorem dX2_question_47 : decode cX2_question 47 = .ok (.aload_n 0, 1) := dk_42 (dk_at dksX2_question_1 23 rfl rfl)
theorem dX2_question_48 : decode cX2_question 48 = .ok (.invokevirtual 93, 3) := dk_182 0 93 (dk_at dksX2_question_2 0 rfl rfl)
theorem dX2_question_51 : decode cX2_question 51 = .ok (.aload_n 1, 1) := dk_43 (dk_at dksX2_question_2 3 rfl rfl)
theorem dX2_question_52 : decode cX2_question 52 = .ok (.aload_n 0, 1) := dk_42 (dk_at dksX2_question_2 4 rfl rfl)
theorem dX2_question_53 : decode cX2_question 53 = .ok (.invokevirtual 218, 3) := dk_182 0 218 (dk_at dksX2_question_2 5 rfl rfl)
theorem dX2_question_56 : decode cX2_question 56 = .ok (.putfield 221, 3) := dk_181 0 221 (dk_at dksX2_question_2 8 rfl rfl)
theorem dX2_question_59 : decode cX2_question 59 = .ok (.aload_n 1, 1) := dk_43 (dk_at dksX2_question_2 11 rfl rfl)
theorem dX2_question_60 : decode cX2_question 60 = .ok (.aload_n 0, 1) := dk_42 (dk_at dksX2_question_2 12 rfl rfl)
theorem dX2_question_61 : decode cX2_question 61 = .ok (.invokevirtual 218, 3) := dk_182 0 218 (dk_at dksX2_question_2 13 rfl rfl)
theorem dX2_question_64 : decode cX2_question 64 = .ok (.putfield 224, 3) := dk_181 0 224 (dk_at dksX2_question_2 16 rfl rfl)
theorem dX2_question_67 : decode cX2_question 67 = .ok (.aload_n 1, 1) := dk_43 (dk_at dksX2_question_2 19 rfl rfl)
theorem dX2_question_68 : decode cX2_question 68 = .ok (.aload_n 0, 1) := dk_42 (dk_at dksX2_question_2 20 rfl rfl)
theorem dX2_question_69 : decode cX2_question 69 = .ok (.invokevirtual 218, 3) := dk_182 0 218 (dk_at dksX2_question_2 21 rfl rfl)
theorem dX2_question_72 : decode cX2_question 72 = .ok (.putfield 227, 3) := dk_181 0 227 (dk_at dksX2_question_3 0 rfl rfl)
theorem dX2_question_75 : decode cX2_question 75 = .ok (.aload_n 0, 1) := dk_42 (dk_at dksX2_question_3 3 rfl rfl)
theorem dX2_question_76 : decode cX2_question 76 = .ok (.getfield 111, 3) := dk_180 0 111 (dk_at dksX2_question_3 4 rfl rfl)
theorem dX2_question_79 : decode cX2_question 79 = .ok (.getfield 129, 3) := dk_180 0 129 (dk_at dksX2_question_3 7 rfl rfl)
theorem dX2_question_82 : decode cX2_question 82 = .ok (.aload_n 1, 1) := dk_43 (dk_at dksX2_question_3 10 rfl rfl)
theorem dX2_question_83 : decode cX2_question 83 = .ok (.invokevirtual 150, 3) := dk_182 0 150 (dk_at dksX2_question_3 11 rfl rfl)
theorem dX2_question_86 : decode cX2_question 86 = .ok (.pop, 1) := dk_87 (dk_at dksX2_question_3 14 rfl rfl)
theorem dX2_question_87 : decode cX2_question 87 = .ok (.return_, 1) := dk_177 (dk_at dksX2_question_3 15 rfl rfl)
def dkwX2_talk_4 : List UInt8 := [180, 0, 132, 4, 96, 181, 0, 132, 177]
abbrev dktX2_talk_4 : List UInt8 := dkwX2_talk_4 ++ []
def dkwX2_talk_3 : List UInt8 := [180, 0, 111, 180, 0, 237, 27, 42, 42, 180, 0, 111, 180, 0, 129, 182, 0, 203, 79, 42, 180, 0, 111, 89]
abbrev dktX2_talk_3 : List UInt8 := dkwX2_talk_3 ++ dktX2_talk_4
def dkwX2_talk_2 : List UInt8 := [182, 0, 93, 42, 180, 0, 111, 180, 0, 230, 27, 28, 79, 42, 180, 0, 111, 180, 0, 234, 27, 29, 79, 42]
abbrev dktX2_talk_2 : List UInt8 := dkwX2_talk_2 ++ dktX2_talk_3
def dkwX2_talk_1 : List UInt8 := [180, 0, 111, 180, 0, 126, 182, 0, 188, 62, 28, 29, 160, 0, 9, 42, 8, 182, 0, 85, 191, 42]
abbrev dktX2_talk_1 : List UInt8 := dkwX2_talk_1 ++ dktX2_talk_2
def dkwX2_talk_0 : List UInt8 := [42, 180, 0, 111, 180, 0, 132, 60, 42, 42, 180, 0, 111, 180, 0, 126, 182, 0, 203, 61, 42, 42]
abbrev dktX2_talk_0 : List UInt8 := dkwX2_talk_0 ++ dktX2_talk_1
theorem dksX2_talk_0 : cX2_talk.data.toList.drop 0 = dktX2_talk_0 := by decide +kernel
theorem dksX2_talk_1 : cX2_talk.data.toList.drop 22 = dktX2_talk_1 := dk_seg dksX2_talk_0 22 rfl rfl
theorem dksX2_talk_2 : cX2_talk.data.toList.drop 44 = dktX2_talk_2 := dk_seg dksX2_talk_1 22 rfl rfl
theorem dksX2_talk_3 : cX2_talk.data.toList.drop 68 = dktX2_talk_3 := dk_seg dksX2_talk_2 24 rfl rfl
theorem dksX2_talk_4 : cX2_talk.data.toList.drop 92 = dktX2_talk_4 := dk_seg dksX2_talk_3 24 rfl rfl
theorem dX2_talk_0 : decode cX2_talk 0 = .ok (.aload_n 0, 1) := dk_42 (dk_at dksX2_talk_0 0 rfl rfl)
theorem dX2_talk_1 : decode cX2_talk 1 = .ok (.getfield 111, 3) := dk_180 0 111 (dk_at dksX2_talk_0 1 rfl rfl)
theorem dX2_talk_4 : decode cX2_talk 4 = .ok (.getfield 132, 3) := dk_180 0 132 (dk_at dksX2_talk_0 4 rfl rfl)
theorem dX2_talk_7 : decode cX2_talk 7 = .ok (.istore_n 1, 1) := dk_60 (dk_at dksX2_talk_0 7 rfl rfl)
theorem dX2_talk_8 : decode cX2_talk 8 = .ok (.aload_n 0, 1) := dk_42 (dk_at dksX2_talk_0 8 rfl rfl)
theorem dX2_talk_9 : decode cX2_talk 9 = .ok (.aload_n 0, 1) := dk_42 (dk_at dksX2_talk_0 9 rfl rfl)
theorem dX2_talk_10 : decode cX2_talk 10 = .ok (.getfield 111, 3) := dk_180 0 111 (dk_at dksX2_talk_0 10 rfl rfl)
theorem dX2_talk_13 : decode cX2_talk 13 = .ok (.getfield 126, 3) := dk_180 0 126 (dk_at dksX2_talk_0 13 rfl rfl)
theorem dX2_talk_16 : decode cX2_talk 16 = .ok (.invokevirtual 203, 3) := dk_182 0 203 (dk_at dksX2_talk_0 16 rfl rfl)
theorem dX2_talk_19 : decode cX2_talk 19 = .ok (.istore_n 2, 1) := dk_61 (dk_at dksX2_talk_0 19 rfl rfl)
theorem dX2_talk_20 : decode cX2_talk 20 = .ok (.aload_n 0, 1) := dk_42 (dk_at dksX2_talk_0 20 rfl rfl)
theorem dX2_talk_21 : decode cX2_talk 21 = .ok (.aload_n 0, 1) := dk_42 (dk_at dksX2_talk_0 21 rfl rfl)
theorem dX2_talk_22 : decode cX2_talk 22 = .ok (.getfield 111, 3) := dk_180 0 111 (dk_at dksX2_talk_1 0 rfl rfl)
theorem dX2_talk_25 : decode cX2_talk 25 = .ok (.getfield 126, 3) := dk_180 0 126 (dk_at dksX2_talk_1 3 rfl rfl)
theorem dX2_talk_28 : decode cX2_talk 28 = .ok (.invokevirtual 188, 3) := dk_182 0 188 (dk_at dksX2_talk_1 6 rfl rfl)
theorem dX2_talk_31 : decode cX2_talk 31 = .ok (.istore_n 3, 1) := dk_62 (dk_at dksX2_talk_1 9 rfl rfl)
theorem dX2_talk_32 : decode cX2_talk 32 = .ok (.iload_n 2, 1) := dk_28 (dk_at dksX2_talk_1 10 rfl rfl)
theorem dX2_talk_33 : decode cX2_talk 33 = .ok (.iload_n 3, 1) := dk_29 (dk_at dksX2_talk_1 11 rfl rfl)
theorem dX2_talk_34 : decode cX2_talk 34 = .ok (.if_icmp .ne 9, 3) := dk_160 0 9 (dk_at dksX2_talk_1 12 rfl rfl)
theorem dX2_talk_37 : decode cX2_talk 37 = .ok (.aload_n 0, 1) := dk_42 (dk_at dksX2_talk_1 15 rfl rfl)
theorem dX2_talk_38 : decode cX2_talk 38 = .ok (.iconst 5, 1) := dk_8 (dk_at dksX2_talk_1 16 rfl rfl)
theorem dX2_talk_39 : decode cX2_talk 39 = .ok (.invokevirtual 85, 3) := dk_182 0 85 (dk_at dksX2_talk_1 17 rfl rfl)
theorem dX2_talk_42 : decode cX2_talk 42 = .ok (.athrow, 1) := dk_191 (dk_at dksX2_talk_1 20 rfl rfl)
theorem dX2_talk_43 : decode cX2_talk 43 = .ok (.aload_n 0, 1) := dk_42 (dk_at dksX2_talk_1 21 rfl rfl)
theorem dX2_talk_44 : decode cX2_talk 44 = .ok (.invokevirtual 93, 3) := dk_182 0 93 (dk_at dksX2_talk_2 0 rfl rfl)
theorem dX2_talk_47 : decode cX2_talk 47 = .ok (.aload_n 0, 1) := dk_42 (dk_at dksX2_talk_2 3 rfl rfl)
theorem dX2_talk_48 : decode cX2_talk 48 = .ok (.getfield 111, 3) := dk_180 0 111 (dk_at dksX2_talk_2 4 rfl rfl)
theorem dX2_talk_51 : decode cX2_talk 51 = .ok (.getfield 230, 3) := dk_180 0 230 (dk_at dksX2_talk_2 7 rfl rfl)
theorem dX2_talk_54 : decode cX2_talk 54 = .ok (.iload_n 1, 1) := dk_27 (dk_at dksX2_talk_2 10 rfl rfl)
theorem dX2_talk_55 : decode cX2_talk 55 = .ok (.iload_n 2, 1) := dk_28 (dk_at dksX2_talk_2 11 rfl rfl)
theorem dX2_talk_56 : decode cX2_talk 56 = .ok (.iastore, 1) := dk_79 (dk_at dksX2_talk_2 12 rfl rfl)
theorem dX2_talk_57 : decode cX2_talk 57 = .ok (.aload_n 0, 1) := dk_42 (dk_at dksX2_talk_2 13 rfl rfl)
theorem dX2_talk_58 : decode cX2_talk 58 = .ok (.getfield 111, 3) := dk_180 0 111 (dk_at dksX2_talk_2 14 rfl rfl)
theorem dX2_talk_61 : decode cX2_talk 61 = .ok (.getfield 234, 3) := dk_180 0 234 (dk_at dksX2_talk_2 17 rfl rfl)
theorem dX2_talk_64 : decode cX2_talk 64 = .ok (.iload_n 1, 1) := dk_27 (dk_at dksX2_talk_2 20 rfl rfl)
theorem dX2_talk_65 : decode cX2_talk 65 = .ok (.iload_n 3, 1) := dk_29 (dk_at dksX2_talk_2 21 rfl rfl)
theorem dX2_talk_66 : decode cX2_talk 66 = .ok (.iastore, 1) := dk_79 (dk_at dksX2_talk_2 22 rfl rfl)
theorem dX2_talk_67 : decode cX2_talk 67 = .ok (.aload_n 0, 1) := dk_42 (dk_at dksX2_talk_2 23 rfl rfl)
theorem dX2_talk_68 : decode cX2_talk 68 = .ok (.getfield 111, 3) := dk_180 0 111 (dk_at dksX2_talk_3 0 rfl rfl)
theorem dX2_talk_71 : decode cX2_talk 71 = .ok (.getfield 237, 3) := dk_180 0 237 (dk_at dksX2_talk_3 3 rfl rfl)
theorem dX2_talk_74 : decode cX2_talk 74 = .ok (.iload_n 1, 1) := dk_27 (dk_at dksX2_talk_3 6 rfl rfl)
theorem dX2_talk_75 : decode cX2_talk 75 = .ok (.aload_n 0, 1) := dk_42 (dk_at dksX2_talk_3 7 rfl rfl)
theorem dX2_talk_76 : decode cX2_talk 76 = .ok (.aload_n 0, 1) := dk_42 (dk_at dksX2_talk_3 8 rfl rfl)
theorem dX2_talk_77 : decode cX2_talk 77 = .ok (.getfield 111, 3) := dk_180 0 111 (dk_at dksX2_talk_3 9 rfl rfl)
theorem dX2_talk_80 : decode cX2_talk 80 = .ok (.getfield 129, 3) := dk_180 0 129 (dk_at dksX2_talk_3 12 rfl rfl)
theorem dX2_talk_83 : decode cX2_talk 83 = .ok (.invokevirtual 203, 3) := dk_182 0 203 (dk_at dksX2_talk_3 15 rfl rfl)
theorem dX2_talk_86 : decode cX2_talk 86 = .ok (.iastore, 1) := dk_79 (dk_at dksX2_talk_3 18 rfl rfl)
theorem dX2_talk_87 : decode cX2_talk 87 = .ok (.aload_n 0, 1) := dk_42 (dk_at dksX2_talk_3 19 rfl rfl)
theorem dX2_talk_88 : decode cX2_talk 88 = .ok (.getfield 111, 3) := dk_180 0 111 (dk_at dksX2_talk_3 20 rfl rfl)
theorem dX2_talk_91 : decode cX2_talk 91 = .ok (.dup, 1) := dk_89 (dk_at dksX2_talk_3 23 rfl rfl)
theorem dX2_talk_92 : decode cX2_talk 92 = .ok (.getfield 132, 3) := dk_180 0 132 (dk_at dksX2_talk_4 0 rfl rfl)
theorem dX2_talk_95 : decode cX2_talk 95 = .ok (.iconst 1, 1) := dk_4 (dk_at dksX2_talk_4 3 rfl rfl)
theorem dX2_talk_96 : decode cX2_talk 96 = .ok (.iadd, 1) := dk_96 (dk_at dksX2_talk_4 4 rfl rfl)
theorem dX2_talk_97 : decode cX2_talk 97 = .ok (.putfield 132, 3) := dk_181 0 132 (dk_at dksX2_talk_4 5 rfl rfl)
theorem dX2_talk_100 : decode cX2_talk 100 = .ok (.return_, 1) := dk_177 (dk_at dksX2_talk_4 8 rfl rfl)
def dkwX2_knot_1 : List UInt8 := [180, 0, 240, 4, 96, 181, 0, 240, 42, 180, 0, 47, 60, 42, 182, 0, 93, 27, 172]
abbrev dktX2_knot_1 : List UInt8 := dkwX2_knot_1 ++ []
def dkwX2_knot_0 : List UInt8 := [42, 180, 0, 111, 180, 0, 240, 16, 64, 160, 0, 9, 42, 5, 182, 0, 85, 191, 42, 180, 0, 111, 89]
abbrev dktX2_knot_0 : List UInt8 := dkwX2_knot_0 ++ dktX2_knot_1
theorem dksX2_knot_0 : cX2_knot.data.toList.drop 0 = dktX2_knot_0 := by decide +kernel
theorem dksX2_knot_1 : cX2_knot.data.toList.drop 23 = dktX2_knot_1 := dk_seg dksX2_knot_0 23 rfl rfl
theorem dX2_knot_0 : decode cX2_knot 0 = .ok (.aload_n 0, 1) := dk_42 (dk_at dksX2_knot_0 0 rfl rfl)
theorem dX2_knot_1 : decode cX2_knot 1 = .ok (.getfield 111, 3) := dk_180 0 111 (dk_at dksX2_knot_0 1 rfl rfl)
theorem dX2_knot_4 : decode cX2_knot 4 = .ok (.getfield 240, 3) := dk_180 0 240 (dk_at dksX2_knot_0 4 rfl rfl)
theorem dX2_knot_7 : decode cX2_knot 7 = .ok (.bipush 64, 2) := dk_16 64 (dk_at dksX2_knot_0 7 rfl rfl)
theorem dX2_knot_9 : decode cX2_knot 9 = .ok (.if_icmp .ne 9, 3) := dk_160 0 9 (dk_at dksX2_knot_0 9 rfl rfl)
theorem dX2_knot_12 : decode cX2_knot 12 = .ok (.aload_n 0, 1) := dk_42 (dk_at dksX2_knot_0 12 rfl rfl)
theorem dX2_knot_13 : decode cX2_knot 13 = .ok (.iconst 2, 1) := dk_5 (dk_at dksX2_knot_0 13 rfl rfl)
theorem dX2_knot_14 : decode cX2_knot 14 = .ok (.invokevirtual 85, 3) := dk_182 0 85 (dk_at dksX2_knot_0 14 rfl rfl)
theorem dX2_knot_17 : decode cX2_knot 17 = .ok (.athrow, 1) := dk_191 (dk_at dksX2_knot_0 17 rfl rfl)
theorem dX2_knot_18 : decode cX2_knot 18 = .ok (.aload_n 0, 1) := dk_42 (dk_at dksX2_knot_0 18 rfl rfl)
theorem dX2_knot_19 : decode cX2_knot 19 = .ok (.getfield 111, 3) := dk_180 0 111 (dk_at dksX2_knot_0 19 rfl rfl)
theorem dX2_knot_22 : decode cX2_knot 22 = .ok (.dup, 1) := dk_89 (dk_at dksX2_knot_0 22 rfl rfl)
theorem dX2_knot_23 : decode cX2_knot 23 = .ok (.getfield 240, 3) := dk_180 0 240 (dk_at dksX2_knot_1 0 rfl rfl)
theorem dX2_knot_26 : decode cX2_knot 26 = .ok (.iconst 1, 1) := dk_4 (dk_at dksX2_knot_1 3 rfl rfl)
theorem dX2_knot_27 : decode cX2_knot 27 = .ok (.iadd, 1) := dk_96 (dk_at dksX2_knot_1 4 rfl rfl)
theorem dX2_knot_28 : decode cX2_knot 28 = .ok (.putfield 240, 3) := dk_181 0 240 (dk_at dksX2_knot_1 5 rfl rfl)
theorem dX2_knot_31 : decode cX2_knot 31 = .ok (.aload_n 0, 1) := dk_42 (dk_at dksX2_knot_1 8 rfl rfl)
theorem dX2_knot_32 : decode cX2_knot 32 = .ok (.getfield 47, 3) := dk_180 0 47 (dk_at dksX2_knot_1 9 rfl rfl)
theorem dX2_knot_35 : decode cX2_knot 35 = .ok (.istore_n 1, 1) := dk_60 (dk_at dksX2_knot_1 12 rfl rfl)
theorem dX2_knot_36 : decode cX2_knot 36 = .ok (.aload_n 0, 1) := dk_42 (dk_at dksX2_knot_1 13 rfl rfl)
theorem dX2_knot_37 : decode cX2_knot 37 = .ok (.invokevirtual 93, 3) := dk_182 0 93 (dk_at dksX2_knot_1 14 rfl rfl)
theorem dX2_knot_40 : decode cX2_knot 40 = .ok (.iload_n 1, 1) := dk_27 (dk_at dksX2_knot_1 17 rfl rfl)
theorem dX2_knot_41 : decode cX2_knot 41 = .ok (.ireturn, 1) := dk_172 (dk_at dksX2_knot_1 18 rfl rfl)
theorem dX15_init_0 : decode cX15_init 0 = .ok (.aload_n 0, 1) := by decide +kernel
theorem dX15_init_1 : decode cX15_init 1 = .ok (.invokespecial 1, 3) := by decide +kernel
theorem dX15_init_4 : decode cX15_init 4 = .ok (.return_, 1) := by decide +kernel
def dkwX18_init_0 : List UInt8 := [42, 183, 0, 1, 42, 43, 181, 0, 7, 177]
abbrev dktX18_init_0 : List UInt8 := dkwX18_init_0 ++ []
theorem dksX18_init_0 : cX18_init.data.toList.drop 0 = dktX18_init_0 := by decide +kernel
theorem dX18_init_0 : decode cX18_init 0 = .ok (.aload_n 0, 1) := dk_42 (dk_at dksX18_init_0 0 rfl rfl)
theorem dX18_init_1 : decode cX18_init 1 = .ok (.invokespecial 1, 3) := dk_183 0 1 (dk_at dksX18_init_0 1 rfl rfl)
theorem dX18_init_4 : decode cX18_init 4 = .ok (.aload_n 0, 1) := dk_42 (dk_at dksX18_init_0 4 rfl rfl)
theorem dX18_init_5 : decode cX18_init 5 = .ok (.aload_n 1, 1) := dk_43 (dk_at dksX18_init_0 5 rfl rfl)
theorem dX18_init_6 : decode cX18_init 6 = .ok (.putfield 7, 3) := dk_181 0 7 (dk_at dksX18_init_0 6 rfl rfl)
theorem dX18_init_9 : decode cX18_init 9 = .ok (.return_, 1) := dk_177 (dk_at dksX18_init_0 9 rfl rfl)
def dkwX19_init_0 : List UInt8 := [42, 44, 183, 0, 3, 42, 27, 181, 0, 9, 42, 45, 181, 0, 15, 177]
abbrev dktX19_init_0 : List UInt8 := dkwX19_init_0 ++ []
theorem dksX19_init_0 : cX19_init.data.toList.drop 0 = dktX19_init_0 := by decide +kernel
theorem dX19_init_0 : decode cX19_init 0 = .ok (.aload_n 0, 1) := dk_42 (dk_at dksX19_init_0 0 rfl rfl)
theorem dX19_init_1 : decode cX19_init 1 = .ok (.aload_n 2, 1) := dk_44 (dk_at dksX19_init_0 1 rfl rfl)
theorem dX19_init_2 : decode cX19_init 2 = .ok (.invokespecial 3, 3) := dk_183 0 3 (dk_at dksX19_init_0 2 rfl rfl)
theorem dX19_init_5 : decode cX19_init 5 = .ok (.aload_n 0, 1) := dk_42 (dk_at dksX19_init_0 5 rfl rfl)
theorem dX19_init_6 : decode cX19_init 6 = .ok (.iload_n 1, 1) := dk_27 (dk_at dksX19_init_0 6 rfl rfl)
theorem dX19_init_7 : decode cX19_init 7 = .ok (.putfield 9, 3) := dk_181 0 9 (dk_at dksX19_init_0 7 rfl rfl)
theorem dX19_init_10 : decode cX19_init 10 = .ok (.aload_n 0, 1) := dk_42 (dk_at dksX19_init_0 10 rfl rfl)
theorem dX19_init_11 : decode cX19_init 11 = .ok (.aload_n 3, 1) := dk_45 (dk_at dksX19_init_0 11 rfl rfl)
theorem dX19_init_12 : decode cX19_init 12 = .ok (.putfield 15, 3) := dk_181 0 15 (dk_at dksX19_init_0 12 rfl rfl)
theorem dX19_init_15 : decode cX19_init 15 = .ok (.return_, 1) := dk_177 (dk_at dksX19_init_0 15 rfl rfl)
def dkwX2_and_1 : List UInt8 := [89, 28, 43, 42, 182, 0, 254, 183, 0, 251, 76, 167, 255, 226, 43, 176]
abbrev dktX2_and_1 : List UInt8 := dkwX2_and_1 ++ []
def dkwX2_and_0 : List UInt8 := [42, 182, 0, 254, 76, 42, 16, 16, 16, 16, 182, 0, 135, 153, 0, 25, 42, 182, 0, 246, 61, 187, 0, 249]
abbrev dktX2_and_0 : List UInt8 := dkwX2_and_0 ++ dktX2_and_1
theorem dksX2_and_0 : cX2_and.data.toList.drop 0 = dktX2_and_0 := by decide +kernel
theorem dksX2_and_1 : cX2_and.data.toList.drop 24 = dktX2_and_1 := dk_seg dksX2_and_0 24 rfl rfl
theorem dX2_and_0 : decode cX2_and 0 = .ok (.aload_n 0, 1) := dk_42 (dk_at dksX2_and_0 0 rfl rfl)
theorem dX2_and_1 : decode cX2_and 1 = .ok (.invokevirtual 254, 3) := dk_182 0 254 (dk_at dksX2_and_0 1 rfl rfl)
theorem dX2_and_4 : decode cX2_and 4 = .ok (.astore_n 1, 1) := dk_76 (dk_at dksX2_and_0 4 rfl rfl)
theorem dX2_and_5 : decode cX2_and 5 = .ok (.aload_n 0, 1) := dk_42 (dk_at dksX2_and_0 5 rfl rfl)
theorem dX2_and_6 : decode cX2_and 6 = .ok (.bipush 16, 2) := dk_16 16 (dk_at dksX2_and_0 6 rfl rfl)
theorem dX2_and_8 : decode cX2_and 8 = .ok (.bipush 16, 2) := dk_16 16 (dk_at dksX2_and_0 8 rfl rfl)
theorem dX2_and_10 : decode cX2_and 10 = .ok (.invokevirtual 135, 3) := dk_182 0 135 (dk_at dksX2_and_0 10 rfl rfl)
theorem dX2_and_13 : decode cX2_and 13 = .ok (.ifCond .eq 25, 3) := dk_153 0 25 (dk_at dksX2_and_0 13 rfl rfl)
theorem dX2_and_16 : decode cX2_and 16 = .ok (.aload_n 0, 1) := dk_42 (dk_at dksX2_and_0 16 rfl rfl)
theorem dX2_and_17 : decode cX2_and 17 = .ok (.invokevirtual 246, 3) := dk_182 0 246 (dk_at dksX2_and_0 17 rfl rfl)
theorem dX2_and_20 : decode cX2_and 20 = .ok (.istore_n 2, 1) := dk_61 (dk_at dksX2_and_0 20 rfl rfl)
theorem dX2_and_21 : decode cX2_and 21 = .ok (.new 249, 3) := dk_187 0 249 (dk_at dksX2_and_0 21 rfl rfl)
theorem dX2_and_24 : decode cX2_and 24 = .ok (.dup, 1) := dk_89 (dk_at dksX2_and_1 0 rfl rfl)
theorem dX2_and_25 : decode cX2_and 25 = .ok (.iload_n 2, 1) := dk_28 (dk_at dksX2_and_1 1 rfl rfl)
theorem dX2_and_26 : decode cX2_and 26 = .ok (.aload_n 1, 1) := dk_43 (dk_at dksX2_and_1 2 rfl rfl)
theorem dX2_and_27 : decode cX2_and 27 = .ok (.aload_n 0, 1) := dk_42 (dk_at dksX2_and_1 3 rfl rfl)
theorem dX2_and_28 : decode cX2_and 28 = .ok (.invokevirtual 254, 3) := dk_182 0 254 (dk_at dksX2_and_1 4 rfl rfl)
theorem dX2_and_31 : decode cX2_and 31 = .ok (.invokespecial 251, 3) := dk_183 0 251 (dk_at dksX2_and_1 7 rfl rfl)
theorem dX2_and_34 : decode cX2_and 34 = .ok (.astore_n 1, 1) := dk_76 (dk_at dksX2_and_1 10 rfl rfl)
theorem dX2_and_35 : decode cX2_and 35 = .ok (.goto (-30), 3) := dk_167 255 226 (dk_at dksX2_and_1 11 rfl rfl)
theorem dX2_and_38 : decode cX2_and 38 = .ok (.aload_n 1, 1) := dk_43 (dk_at dksX2_and_1 14 rfl rfl)
theorem dX2_and_39 : decode cX2_and 39 = .ok (.areturn, 1) := dk_176 (dk_at dksX2_and_1 15 rfl rfl)
def dkwX2_or_1 : List UInt8 := [89, 28, 43, 42, 182, 0, 243, 183, 0, 251, 76, 167, 255, 226, 43, 176]
abbrev dktX2_or_1 : List UInt8 := dkwX2_or_1 ++ []
def dkwX2_or_0 : List UInt8 := [42, 182, 0, 243, 76, 42, 16, 15, 16, 15, 182, 0, 135, 153, 0, 25, 42, 182, 0, 246, 61, 187, 0, 249]
abbrev dktX2_or_0 : List UInt8 := dkwX2_or_0 ++ dktX2_or_1
theorem dksX2_or_0 : cX2_or.data.toList.drop 0 = dktX2_or_0 := by decide +kernel
theorem dksX2_or_1 : cX2_or.data.toList.drop 24 = dktX2_or_1 := dk_seg dksX2_or_0 24 rfl rfl
theorem dX2_or_0 : decode cX2_or 0 = .ok (.aload_n 0, 1) := dk_42 (dk_at dksX2_or_0 0 rfl rfl)
theorem dX2_or_1 : decode cX2_or 1 = .ok (.invokevirtual 243, 3) := dk_182 0 243 (dk_at dksX2_or_0 1 rfl rfl)
theorem dX2_or_4 : decode cX2_or 4 = .ok (.astore_n 1, 1) := dk_76 (dk_at dksX2_or_0 4 rfl rfl)
theorem dX2_or_5 : decode cX2_or 5 = .ok (.aload_n 0, 1) := dk_42 (dk_at dksX2_or_0 5 rfl rfl)
theorem dX2_or_6 : decode cX2_or 6 = .ok (.bipush 15, 2) := dk_16 15 (dk_at dksX2_or_0 6 rfl rfl)
theorem dX2_or_8 : decode cX2_or 8 = .ok (.bipush 15, 2) := dk_16 15 (dk_at dksX2_or_0 8 rfl rfl)
theorem dX2_or_10 : decode cX2_or 10 = .ok (.invokevirtual 135, 3) := dk_182 0 135 (dk_at dksX2_or_0 10 rfl rfl)
theorem dX2_or_13 : decode cX2_or 13 = .ok (.ifCond .eq 25, 3) := dk_153 0 25 (dk_at dksX2_or_0 13 rfl rfl)
theorem dX2_or_16 : decode cX2_or 16 = .ok (.aload_n 0, 1) := dk_42 (dk_at dksX2_or_0 16 rfl rfl)
theorem dX2_or_17 : decode cX2_or 17 = .ok (.invokevirtual 246, 3) := dk_182 0 246 (dk_at dksX2_or_0 17 rfl rfl)
theorem dX2_or_20 : decode cX2_or 20 = .ok (.istore_n 2, 1) := dk_61 (dk_at dksX2_or_0 20 rfl rfl)
theorem dX2_or_21 : decode cX2_or 21 = .ok (.new 249, 3) := dk_187 0 249 (dk_at dksX2_or_0 21 rfl rfl)
theorem dX2_or_24 : decode cX2_or 24 = .ok (.dup, 1) := dk_89 (dk_at dksX2_or_1 0 rfl rfl)
theorem dX2_or_25 : decode cX2_or 25 = .ok (.iload_n 2, 1) := dk_28 (dk_at dksX2_or_1 1 rfl rfl)
theorem dX2_or_26 : decode cX2_or 26 = .ok (.aload_n 1, 1) := dk_43 (dk_at dksX2_or_1 2 rfl rfl)
theorem dX2_or_27 : decode cX2_or 27 = .ok (.aload_n 0, 1) := dk_42 (dk_at dksX2_or_1 3 rfl rfl)
theorem dX2_or_28 : decode cX2_or 28 = .ok (.invokevirtual 243, 3) := dk_182 0 243 (dk_at dksX2_or_1 4 rfl rfl)
theorem dX2_or_31 : decode cX2_or 31 = .ok (.invokespecial 251, 3) := dk_183 0 251 (dk_at dksX2_or_1 7 rfl rfl)
theorem dX2_or_34 : decode cX2_or 34 = .ok (.astore_n 1, 1) := dk_76 (dk_at dksX2_or_1 10 rfl rfl)
theorem dX2_or_35 : decode cX2_or 35 = .ok (.goto (-30), 3) := dk_167 255 226 (dk_at dksX2_or_1 11 rfl rfl)
theorem dX2_or_38 : decode cX2_or 38 = .ok (.aload_n 1, 1) := dk_43 (dk_at dksX2_or_1 14 rfl rfl)
theorem dX2_or_39 : decode cX2_or 39 = .ok (.areturn, 1) := dk_176 (dk_at dksX2_or_1 15 rfl rfl)
def dkwX16_init_0 : List UInt8 := [42, 183, 0, 1, 42, 27, 181, 0, 7, 177]
abbrev dktX16_init_0 : List UInt8 := dkwX16_init_0 ++ []
theorem dksX16_init_0 : cX16_init.data.toList.drop 0 = dktX16_init_0 := by decide +kernel
theorem dX16_init_0 : decode cX16_init 0 = .ok (.aload_n 0, 1) := dk_42 (dk_at dksX16_init_0 0 rfl rfl)
theorem dX16_init_1 : decode cX16_init 1 = .ok (.invokespecial 1, 3) := dk_183 0 1 (dk_at dksX16_init_0 1 rfl rfl)
theorem dX16_init_4 : decode cX16_init 4 = .ok (.aload_n 0, 1) := dk_42 (dk_at dksX16_init_0 4 rfl rfl)
theorem dX16_init_5 : decode cX16_init 5 = .ok (.iload_n 1, 1) := dk_27 (dk_at dksX16_init_0 5 rfl rfl)
theorem dX16_init_6 : decode cX16_init 6 = .ok (.putfield 7, 3) := dk_181 0 7 (dk_at dksX16_init_0 6 rfl rfl)
theorem dX16_init_9 : decode cX16_init 9 = .ok (.return_, 1) := dk_177 (dk_at dksX16_init_0 9 rfl rfl)
def dkwX17_init_0 : List UInt8 := [42, 183, 0, 1, 42, 27, 181, 0, 7, 177]
abbrev dktX17_init_0 : List UInt8 := dkwX17_init_0 ++ []
theorem dksX17_init_0 : cX17_init.data.toList.drop 0 = dktX17_init_0 := by decide +kernel
theorem dX17_init_0 : decode cX17_init 0 = .ok (.aload_n 0, 1) := dk_42 (dk_at dksX17_init_0 0 rfl rfl)
theorem dX17_init_1 : decode cX17_init 1 = .ok (.invokespecial 1, 3) := dk_183 0 1 (dk_at dksX17_init_0 1 rfl rfl)
theorem dX17_init_4 : decode cX17_init 4 = .ok (.aload_n 0, 1) := dk_42 (dk_at dksX17_init_0 4 rfl rfl)
theorem dX17_init_5 : decode cX17_init 5 = .ok (.iload_n 1, 1) := dk_27 (dk_at dksX17_init_0 5 rfl rfl)
theorem dX17_init_6 : decode cX17_init 6 = .ok (.putfield 7, 3) := dk_181 0 7 (dk_at dksX17_init_0 6 rfl rfl)
theorem dX17_init_9 : decode cX17_init 9 = .ok (.return_, 1) := dk_177 (dk_at dksX17_init_0 9 rfl rfl)
def dkwX2_one_6 : List UInt8 := [16, 18, 100, 183, 1, 23, 176]
abbrev dktX2_one_6 : List UInt8 := dkwX2_one_6 ++ []
def dkwX2_one_5 : List UInt8 := [42, 180, 0, 47, 16, 18, 162, 0, 9, 42, 4, 182, 0, 85, 191, 187, 1, 21, 89, 42, 182, 0, 246]
abbrev dktX2_one_5 : List UInt8 := dkwX2_one_5 ++ dktX2_one_6
def dkwX2_one_4 : List UInt8 := [5, 182, 0, 85, 191, 187, 1, 18, 89, 42, 182, 0, 246, 183, 1, 20, 176, 42, 180, 0, 33, 154, 0, 12]
abbrev dktX2_one_4 : List UInt8 := dkwX2_one_4 ++ dktX2_one_5
def dkwX2_one_3 : List UInt8 := [182, 0, 93, 43, 176, 42, 180, 0, 33, 5, 160, 0, 31, 42, 180, 0, 47, 17, 39, 15, 164, 0, 9, 42]
abbrev dktX2_one_3 : List UInt8 := dkwX2_one_3 ++ dktX2_one_4
def dkwX2_one_2 : List UInt8 := [182, 0, 182, 154, 0, 9, 42, 4, 182, 0, 85, 191, 42, 89, 180, 0, 102, 4, 100, 181, 0, 102, 42]
abbrev dktX2_one_2 : List UInt8 := dkwX2_one_2 ++ dktX2_one_3
def dkwX2_one_1 : List UInt8 := [42, 89, 180, 0, 102, 4, 96, 181, 0, 102, 42, 182, 0, 93, 42, 182, 0, 178, 76, 42, 16, 41]
abbrev dktX2_one_1 : List UInt8 := dkwX2_one_1 ++ dktX2_one_2
def dkwX2_one_0 : List UInt8 := [42, 16, 40, 182, 0, 182, 153, 0, 68, 42, 180, 0, 102, 16, 8, 160, 0, 9, 42, 5, 182, 0, 85, 191]
abbrev dktX2_one_0 : List UInt8 := dkwX2_one_0 ++ dktX2_one_1
theorem dksX2_one_0 : cX2_one.data.toList.drop 0 = dktX2_one_0 := by decide +kernel
theorem dksX2_one_1 : cX2_one.data.toList.drop 24 = dktX2_one_1 := dk_seg dksX2_one_0 24 rfl rfl
theorem dksX2_one_2 : cX2_one.data.toList.drop 46 = dktX2_one_2 := dk_seg dksX2_one_1 22 rfl rfl
theorem dksX2_one_3 : cX2_one.data.toList.drop 69 = dktX2_one_3 := dk_seg dksX2_one_2 23 rfl rfl
theorem dksX2_one_4 : cX2_one.data.toList.drop 93 = dktX2_one_4 := dk_seg dksX2_one_3 24 rfl rfl
theorem dksX2_one_5 : cX2_one.data.toList.drop 117 = dktX2_one_5 := dk_seg dksX2_one_4 24 rfl rfl
theorem dksX2_one_6 : cX2_one.data.toList.drop 140 = dktX2_one_6 := dk_seg dksX2_one_5 23 rfl rfl
theorem dX2_one_0 : decode cX2_one 0 = .ok (.aload_n 0, 1) := dk_42 (dk_at dksX2_one_0 0 rfl rfl)
theorem dX2_one_1 : decode cX2_one 1 = .ok (.bipush 40, 2) := dk_16 40 (dk_at dksX2_one_0 1 rfl rfl)
theorem dX2_one_3 : decode cX2_one 3 = .ok (.invokevirtual 182, 3) := dk_182 0 182 (dk_at dksX2_one_0 3 rfl rfl)
theorem dX2_one_6 : decode cX2_one 6 = .ok (.ifCond .eq 68, 3) := dk_153 0 68 (dk_at dksX2_one_0 6 rfl rfl)
theorem dX2_one_9 : decode cX2_one 9 = .ok (.aload_n 0, 1) := dk_42 (dk_at dksX2_one_0 9 rfl rfl)
theorem dX2_one_10 : decode cX2_one 10 = .ok (.getfield 102, 3) := dk_180 0 102 (dk_at dksX2_one_0 10 rfl rfl)
theorem dX2_one_13 : decode cX2_one 13 = .ok (.bipush 8, 2) := dk_16 8 (dk_at dksX2_one_0 13 rfl rfl)
theorem dX2_one_15 : decode cX2_one 15 = .ok (.if_icmp .ne 9, 3) := dk_160 0 9 (dk_at dksX2_one_0 15 rfl rfl)
theorem dX2_one_18 : decode cX2_one 18 = .ok (.aload_n 0, 1) := dk_42 (dk_at dksX2_one_0 18 rfl rfl)
theorem dX2_one_19 : decode cX2_one 19 = .ok (.iconst 2, 1) := dk_5 (dk_at dksX2_one_0 19 rfl rfl)
theorem dX2_one_20 : decode cX2_one 20 = .ok (.invokevirtual 85, 3) := dk_182 0 85 (dk_at dksX2_one_0 20 rfl rfl)
theorem dX2_one_23 : decode cX2_one 23 = .ok (.athrow, 1) := dk_191 (dk_at dksX2_one_0 23 rfl rfl)
theorem dX2_one_24 : decode cX2_one 24 = .ok (.aload_n 0, 1) := dk_42 (dk_at dksX2_one_1 0 rfl rfl)
theorem dX2_one_25 : decode cX2_one 25 = .ok (.dup, 1) := dk_89 (dk_at dksX2_one_1 1 rfl rfl)
theorem dX2_one_26 : decode cX2_one 26 = .ok (.getfield 102, 3) := dk_180 0 102 (dk_at dksX2_one_1 2 rfl rfl)
theorem dX2_one_29 : decode cX2_one 29 = .ok (.iconst 1, 1) := dk_4 (dk_at dksX2_one_1 5 rfl rfl)
theorem dX2_one_30 : decode cX2_one 30 = .ok (.iadd, 1) := dk_96 (dk_at dksX2_one_1 6 rfl rfl)
theorem dX2_one_31 : decode cX2_one 31 = .ok (.putfield 102, 3) := dk_181 0 102 (dk_at dksX2_one_1 7 rfl rfl)
theorem dX2_one_34 : decode cX2_one 34 = .ok (.aload_n 0, 1) := dk_42 (dk_at dksX2_one_1 10 rfl rfl)
theorem dX2_one_35 : decode cX2_one 35 = .ok (.invokevirtual 93, 3) := dk_182 0 93 (dk_at dksX2_one_1 11 rfl rfl)
theorem dX2_one_38 : decode cX2_one 38 = .ok (.aload_n 0, 1) := dk_42 (dk_at dksX2_one_1 14 rfl rfl)
theorem dX2_one_39 : decode cX2_one 39 = .ok (.invokevirtual 178, 3) := dk_182 0 178 (dk_at dksX2_one_1 15 rfl rfl)
theorem dX2_one_42 : decode cX2_one 42 = .ok (.astore_n 1, 1) := dk_76 (dk_at dksX2_one_1 18 rfl rfl)
theorem dX2_one_43 : decode cX2_one 43 = .ok (.aload_n 0, 1) := dk_42 (dk_at dksX2_one_1 19 rfl rfl)
theorem dX2_one_44 : decode cX2_one 44 = .ok (.bipush 41, 2) := dk_16 41 (dk_at dksX2_one_1 20 rfl rfl)
theorem dX2_one_46 : decode cX2_one 46 = .ok (.invokevirtual 182, 3) := dk_182 0 182 (dk_at dksX2_one_2 0 rfl rfl)
theorem dX2_one_49 : decode cX2_one 49 = .ok (.ifCond .ne 9, 3) := dk_154 0 9 (dk_at dksX2_one_2 3 rfl rfl)
theorem dX2_one_52 : decode cX2_one 52 = .ok (.aload_n 0, 1) := dk_42 (dk_at dksX2_one_2 6 rfl rfl)
theorem dX2_one_53 : decode cX2_one 53 = .ok (.iconst 1, 1) := dk_4 (dk_at dksX2_one_2 7 rfl rfl)
theorem dX2_one_54 : decode cX2_one 54 = .ok (.invokevirtual 85, 3) := dk_182 0 85 (dk_at dksX2_one_2 8 rfl rfl)
theorem dX2_one_57 : decode cX2_one 57 = .ok (.athrow, 1) := dk_191 (dk_at dksX2_one_2 11 rfl rfl)
theorem dX2_one_58 : decode cX2_one 58 = .ok (.aload_n 0, 1) := dk_42 (dk_at dksX2_one_2 12 rfl rfl)
theorem dX2_one_59 : decode cX2_one 59 = .ok (.dup, 1) := dk_89 (dk_at dksX2_one_2 13 rfl rfl)
theorem dX2_one_60 : decode cX2_one 60 = .ok (.getfield 102, 3) := dk_180 0 102 (dk_at dksX2_one_2 14 rfl rfl)
theorem dX2_one_63 : decode cX2_one 63 = .ok (.iconst 1, 1) := dk_4 (dk_at dksX2_one_2 17 rfl rfl)
theorem dX2_one_64 : decode cX2_one 64 = .ok (.isub, 1) := dk_100 (dk_at dksX2_one_2 18 rfl rfl)
theorem dX2_one_65 : decode cX2_one 65 = .ok (.putfield 102, 3) := dk_181 0 102 (dk_at dksX2_one_2 19 rfl rfl)
theorem dX2_one_68 : decode cX2_one 68 = .ok (.aload_n 0, 1) := dk_42 (dk_at dksX2_one_2 22 rfl rfl)
theorem dX2_one_69 : decode cX2_one 69 = .ok (.invokevirtual 93, 3) := dk_182 0 93 (dk_at dksX2_one_3 0 rfl rfl)
theorem dX2_one_72 : decode cX2_one 72 = .ok (.aload_n 1, 1) := dk_43 (dk_at dksX2_one_3 3 rfl rfl)
theorem dX2_one_73 : decode cX2_one 73 = .ok (.areturn, 1) := dk_176 (dk_at dksX2_one_3 4 rfl rfl)
theorem dX2_one_74 : decode cX2_one 74 = .ok (.aload_n 0, 1) := dk_42 (dk_at dksX2_one_3 5 rfl rfl)
theorem dX2_one_75 : decode cX2_one 75 = .ok (.getfield 33, 3) := dk_180 0 33 (dk_at dksX2_one_3 6 rfl rfl)
theorem dX2_one_78 : decode cX2_one 78 = .ok (.iconst 2, 1) := dk_5 (dk_at dksX2_one_3 9 rfl rfl)
theorem dX2_one_79 : decode cX2_one 79 = .ok (.if_icmp .ne 31, 3) := dk_160 0 31 (dk_at dksX2_one_3 10 rfl rfl)
theorem dX2_one_82 : decode cX2_one 82 = .ok (.aload_n 0, 1) := dk_42 (dk_at dksX2_one_3 13 rfl rfl)
theorem dX2_one_83 : decode cX2_one 83 = .ok (.getfield 47, 3) := dk_180 0 47 (dk_at dksX2_one_3 14 rfl rfl)
theorem dX2_one_86 : decode cX2_one 86 = .ok (.sipush 9999, 3) := dk_17 39 15 (dk_at dksX2_one_3 17 rfl rfl)
theorem dX2_one_89 : decode cX2_one 89 = .ok (.if_icmp .le 9, 3) := dk_164 0 9 (dk_at dksX2_one_3 20 rfl rfl)
theorem dX2_one_92 : decode cX2_one 92 = .ok (.aload_n 0, 1) := dk_42 (dk_at dksX2_one_3 23 rfl rfl)
theorem dX2_one_93 : decode cX2_one 93 = .ok (.iconst 2, 1) := dk_5 (dk_at dksX2_one_4 0 rfl rfl)
theorem dX2_one_94 : decode cX2_one 94 = .ok (.invokevirtual 85, 3) := dk_182 0 85 (dk_at dksX2_one_4 1 rfl rfl)
theorem dX2_one_97 : decode cX2_one 97 = .ok (.athrow, 1) := dk_191 (dk_at dksX2_one_4 4 rfl rfl)
theorem dX2_one_98 : decode cX2_one 98 = .ok (.new 274, 3) := dk_187 1 18 (dk_at dksX2_one_4 5 rfl rfl)
theorem dX2_one_101 : decode cX2_one 101 = .ok (.dup, 1) := dk_89 (dk_at dksX2_one_4 8 rfl rfl)
theorem dX2_one_102 : decode cX2_one 102 = .ok (.aload_n 0, 1) := dk_42 (dk_at dksX2_one_4 9 rfl rfl)
theorem dX2_one_103 : decode cX2_one 103 = .ok (.invokevirtual 246, 3) := dk_182 0 246 (dk_at dksX2_one_4 10 rfl rfl)
theorem dX2_one_106 : decode cX2_one 106 = .ok (.invokespecial 276, 3) := dk_183 1 20 (dk_at dksX2_one_4 13 rfl rfl)
theorem dX2_one_109 : decode cX2_one 109 = .ok (.areturn, 1) := dk_176 (dk_at dksX2_one_4 16 rfl rfl)
theorem dX2_one_110 : decode cX2_one 110 = .ok (.aload_n 0, 1) := dk_42 (dk_at dksX2_one_4 17 rfl rfl)
theorem dX2_one_111 : decode cX2_one 111 = .ok (.getfield 33, 3) := dk_180 0 33 (dk_at dksX2_one_4 18 rfl rfl)
theorem dX2_one_114 : decode cX2_one 114 = .ok (.ifCond .ne 12, 3) := dk_154 0 12 (dk_at dksX2_one_4 21 rfl rfl)
theorem dX2_one_117 : decode cX2_one 117 = .ok (.aload_n 0, 1) := dk_42 (dk_at dksX2_one_5 0 rfl rfl)
theorem dX2_one_118 : decode cX2_one 118 = .ok (.getfield 47, 3) := dk_180 0 47 (dk_at dksX2_one_5 1 rfl rfl)
theorem dX2_one_121 : decode cX2_one 121 = .ok (.bipush 18, 2) := dk_16 18 (dk_at dksX2_one_5 4 rfl rfl)
theorem dX2_one_123 : decode cX2_one 123 = .ok (.if_icmp .ge 9, 3) := dk_162 0 9 (dk_at dksX2_one_5 6 rfl rfl)
theorem dX2_one_126 : decode cX2_one 126 = .ok (.aload_n 0, 1) := dk_42 (dk_at dksX2_one_5 9 rfl rfl)
theorem dX2_one_127 : decode cX2_one 127 = .ok (.iconst 1, 1) := dk_4 (dk_at dksX2_one_5 10 rfl rfl)
theorem dX2_one_128 : decode cX2_one 128 = .ok (.invokevirtual 85, 3) := dk_182 0 85 (dk_at dksX2_one_5 11 rfl rfl)
theorem dX2_one_131 : decode cX2_one 131 = .ok (.athrow, 1) := dk_191 (dk_at dksX2_one_5 14 rfl rfl)
theorem dX2_one_132 : decode cX2_one 132 = .ok (.new 277, 3) := dk_187 1 21 (dk_at dksX2_one_5 15 rfl rfl)
theorem dX2_one_135 : decode cX2_one 135 = .ok (.dup, 1) := dk_89 (dk_at dksX2_one_5 18 rfl rfl)
theorem dX2_one_136 : decode cX2_one 136 = .ok (.aload_n 0, 1) := dk_42 (dk_at dksX2_one_5 19 rfl rfl)
theorem dX2_one_137 : decode cX2_one 137 = .ok (.invokevirtual 246, 3) := dk_182 0 246 (dk_at dksX2_one_5 20 rfl rfl)
theorem dX2_one_140 : decode cX2_one 140 = .ok (.bipush 18, 2) := dk_16 18 (dk_at dksX2_one_6 0 rfl rfl)
theorem dX2_one_142 : decode cX2_one 142 = .ok (.isub, 1) := dk_100 (dk_at dksX2_one_6 2 rfl rfl)
theorem dX2_one_143 : decode cX2_one 143 = .ok (.invokespecial 279, 3) := dk_183 1 23 (dk_at dksX2_one_6 3 rfl rfl)
theorem dX2_one_146 : decode cX2_one 146 = .ok (.areturn, 1) := dk_176 (dk_at dksX2_one_6 6 rfl rfl)
def dkwX2_product_1 : List UInt8 := [182, 0, 246, 61, 187, 0, 249, 89, 28, 43, 42, 182, 1, 15, 183, 0, 251, 76, 167, 255, 219, 43, 176]
abbrev dktX2_product_1 : List UInt8 := dkwX2_product_1 ++ []
def dkwX2_product_0 : List UInt8 := [42, 182, 1, 15, 76, 42, 16, 42, 182, 0, 182, 154, 0, 12, 42, 16, 47, 182, 0, 182, 153, 0, 25, 42]
abbrev dktX2_product_0 : List UInt8 := dkwX2_product_0 ++ dktX2_product_1
theorem dksX2_product_0 : cX2_product.data.toList.drop 0 = dktX2_product_0 := by decide +kernel
theorem dksX2_product_1 : cX2_product.data.toList.drop 24 = dktX2_product_1 := dk_seg dksX2_product_0 24 rfl rfl
theorem dX2_product_0 : decode cX2_product 0 = .ok (.aload_n 0, 1) := dk_42 (dk_at dksX2_product_0 0 rfl rfl)
theorem dX2_product_1 : decode cX2_product 1 = .ok (.invokevirtual 271, 3) := dk_182 1 15 (dk_at dksX2_product_0 1 rfl rfl)
theorem dX2_product_4 : decode cX2_product 4 = .ok (.astore_n 1, 1) := dk_76 (dk_at dksX2_product_0 4 rfl rfl)
theorem dX2_product_5 : decode cX2_product 5 = .ok (.aload_n 0, 1) := dk_42 (dk_at dksX2_product_0 5 rfl rfl)
theorem dX2_product_6 : decode cX2_product 6 = .ok (.bipush 42, 2) := dk_16 42 (dk_at dksX2_product_0 6 rfl rfl)
theorem dX2_product_8 : decode cX2_product 8 = .ok (.invokevirtual 182, 3) := dk_182 0 182 (dk_at dksX2_product_0 8 rfl rfl)
theorem dX2_product_11 : decode cX2_product 11 = .ok (.ifCond .ne 12, 3) := dk_154 0 12 (dk_at dksX2_product_0 11 rfl rfl)
theorem dX2_product_14 : decode cX2_product 14 = .ok (.aload_n 0, 1) := dk_42 (dk_at dksX2_product_0 14 rfl rfl)
theorem dX2_product_15 : decode cX2_product 15 = .ok (.bipush 47, 2) := dk_16 47 (dk_at dksX2_product_0 15 rfl rfl)
theorem dX2_product_17 : decode cX2_product 17 = .ok (.invokevirtual 182, 3) := dk_182 0 182 (dk_at dksX2_product_0 17 rfl rfl)
theorem dX2_product_20 : decode cX2_product 20 = .ok (.ifCond .eq 25, 3) := dk_153 0 25 (dk_at dksX2_product_0 20 rfl rfl)
theorem dX2_product_23 : decode cX2_product 23 = .ok (.aload_n 0, 1) := dk_42 (dk_at dksX2_product_0 23 rfl rfl)
theorem dX2_product_24 : decode cX2_product 24 = .ok (.invokevirtual 246, 3) := dk_182 0 246 (dk_at dksX2_product_1 0 rfl rfl)
theorem dX2_product_27 : decode cX2_product 27 = .ok (.istore_n 2, 1) := dk_61 (dk_at dksX2_product_1 3 rfl rfl)
theorem dX2_product_28 : decode cX2_product 28 = .ok (.new 249, 3) := dk_187 0 249 (dk_at dksX2_product_1 4 rfl rfl)
theorem dX2_product_31 : decode cX2_product 31 = .ok (.dup, 1) := dk_89 (dk_at dksX2_product_1 7 rfl rfl)
theorem dX2_product_32 : decode cX2_product 32 = .ok (.iload_n 2, 1) := dk_28 (dk_at dksX2_product_1 8 rfl rfl)
theorem dX2_product_33 : decode cX2_product 33 = .ok (.aload_n 1, 1) := dk_43 (dk_at dksX2_product_1 9 rfl rfl)
theorem dX2_product_34 : decode cX2_product 34 = .ok (.aload_n 0, 1) := dk_42 (dk_at dksX2_product_1 10 rfl rfl)
theorem dX2_product_35 : decode cX2_product 35 = .ok (.invokevirtual 271, 3) := dk_182 1 15 (dk_at dksX2_product_1 11 rfl rfl)
theorem dX2_product_38 : decode cX2_product 38 = .ok (.invokespecial 251, 3) := dk_183 0 251 (dk_at dksX2_product_1 14 rfl rfl)
theorem dX2_product_41 : decode cX2_product 41 = .ok (.astore_n 1, 1) := dk_76 (dk_at dksX2_product_1 17 rfl rfl)
theorem dX2_product_42 : decode cX2_product 42 = .ok (.goto (-37), 3) := dk_167 255 219 (dk_at dksX2_product_1 18 rfl rfl)
theorem dX2_product_45 : decode cX2_product 45 = .ok (.aload_n 1, 1) := dk_43 (dk_at dksX2_product_1 21 rfl rfl)
theorem dX2_product_46 : decode cX2_product 46 = .ok (.areturn, 1) := dk_176 (dk_at dksX2_product_1 22 rfl rfl)
def dkwX2_sum_1 : List UInt8 := [182, 0, 246, 61, 187, 0, 249, 89, 28, 43, 42, 182, 1, 12, 183, 0, 251, 76, 167, 255, 219, 43, 176]
abbrev dktX2_sum_1 : List UInt8 := dkwX2_sum_1 ++ []
def dkwX2_sum_0 : List UInt8 := [42, 182, 1, 12, 76, 42, 16, 43, 182, 0, 182, 154, 0, 12, 42, 16, 45, 182, 0, 182, 153, 0, 25, 42]
abbrev dktX2_sum_0 : List UInt8 := dkwX2_sum_0 ++ dktX2_sum_1
theorem dksX2_sum_0 : cX2_sum.data.toList.drop 0 = dktX2_sum_0 := by decide +kernel
theorem dksX2_sum_1 : cX2_sum.data.toList.drop 24 = dktX2_sum_1 := dk_seg dksX2_sum_0 24 rfl rfl
theorem dX2_sum_0 : decode cX2_sum 0 = .ok (.aload_n 0, 1) := dk_42 (dk_at dksX2_sum_0 0 rfl rfl)
theorem dX2_sum_1 : decode cX2_sum 1 = .ok (.invokevirtual 268, 3) := dk_182 1 12 (dk_at dksX2_sum_0 1 rfl rfl)
theorem dX2_sum_4 : decode cX2_sum 4 = .ok (.astore_n 1, 1) := dk_76 (dk_at dksX2_sum_0 4 rfl rfl)
theorem dX2_sum_5 : decode cX2_sum 5 = .ok (.aload_n 0, 1) := dk_42 (dk_at dksX2_sum_0 5 rfl rfl)
theorem dX2_sum_6 : decode cX2_sum 6 = .ok (.bipush 43, 2) := dk_16 43 (dk_at dksX2_sum_0 6 rfl rfl)
theorem dX2_sum_8 : decode cX2_sum 8 = .ok (.invokevirtual 182, 3) := dk_182 0 182 (dk_at dksX2_sum_0 8 rfl rfl)
theorem dX2_sum_11 : decode cX2_sum 11 = .ok (.ifCond .ne 12, 3) := dk_154 0 12 (dk_at dksX2_sum_0 11 rfl rfl)
theorem dX2_sum_14 : decode cX2_sum 14 = .ok (.aload_n 0, 1) := dk_42 (dk_at dksX2_sum_0 14 rfl rfl)
theorem dX2_sum_15 : decode cX2_sum 15 = .ok (.bipush 45, 2) := dk_16 45 (dk_at dksX2_sum_0 15 rfl rfl)
theorem dX2_sum_17 : decode cX2_sum 17 = .ok (.invokevirtual 182, 3) := dk_182 0 182 (dk_at dksX2_sum_0 17 rfl rfl)
theorem dX2_sum_20 : decode cX2_sum 20 = .ok (.ifCond .eq 25, 3) := dk_153 0 25 (dk_at dksX2_sum_0 20 rfl rfl)
theorem dX2_sum_23 : decode cX2_sum 23 = .ok (.aload_n 0, 1) := dk_42 (dk_at dksX2_sum_0 23 rfl rfl)
theorem dX2_sum_24 : decode cX2_sum 24 = .ok (.invokevirtual 246, 3) := dk_182 0 246 (dk_at dksX2_sum_1 0 rfl rfl)
theorem dX2_sum_27 : decode cX2_sum 27 = .ok (.istore_n 2, 1) := dk_61 (dk_at dksX2_sum_1 3 rfl rfl)
theorem dX2_sum_28 : decode cX2_sum 28 = .ok (.new 249, 3) := dk_187 0 249 (dk_at dksX2_sum_1 4 rfl rfl)
theorem dX2_sum_31 : decode cX2_sum 31 = .ok (.dup, 1) := dk_89 (dk_at dksX2_sum_1 7 rfl rfl)
theorem dX2_sum_32 : decode cX2_sum 32 = .ok (.iload_n 2, 1) := dk_28 (dk_at dksX2_sum_1 8 rfl rfl)
theorem dX2_sum_33 : decode cX2_sum 33 = .ok (.aload_n 1, 1) := dk_43 (dk_at dksX2_sum_1 9 rfl rfl)
theorem dX2_sum_34 : decode cX2_sum 34 = .ok (.aload_n 0, 1) := dk_42 (dk_at dksX2_sum_1 10 rfl rfl)
theorem dX2_sum_35 : decode cX2_sum 35 = .ok (.invokevirtual 268, 3) := dk_182 1 12 (dk_at dksX2_sum_1 11 rfl rfl)
theorem dX2_sum_38 : decode cX2_sum 38 = .ok (.invokespecial 251, 3) := dk_183 0 251 (dk_at dksX2_sum_1 14 rfl rfl)
theorem dX2_sum_41 : decode cX2_sum 41 = .ok (.astore_n 1, 1) := dk_76 (dk_at dksX2_sum_1 17 rfl rfl)
theorem dX2_sum_42 : decode cX2_sum 42 = .ok (.goto (-37), 3) := dk_167 255 219 (dk_at dksX2_sum_1 18 rfl rfl)
theorem dX2_sum_45 : decode cX2_sum 45 = .ok (.aload_n 1, 1) := dk_43 (dk_at dksX2_sum_1 21 rfl rfl)
theorem dX2_sum_46 : decode cX2_sum 46 = .ok (.areturn, 1) := dk_176 (dk_at dksX2_sum_1 22 rfl rfl)
def dkwX2_compare_2 : List UInt8 := [162, 0, 5, 43, 176, 42, 182, 0, 246, 61, 187, 0, 249, 89, 28, 43, 42, 182, 1, 9, 183, 0, 251, 176]
abbrev dktX2_compare_2 : List UInt8 := dkwX2_compare_2 ++ []
def dkwX2_compare_1 : List UInt8 := [16, 61, 182, 0, 182, 154, 0, 23, 42, 180, 0, 33, 6, 160, 0, 13, 42, 180, 0, 47, 17, 1, 0]
abbrev dktX2_compare_1 : List UInt8 := dkwX2_compare_1 ++ dktX2_compare_2
def dkwX2_compare_0 : List UInt8 := [42, 182, 1, 9, 76, 42, 16, 60, 182, 0, 182, 154, 0, 41, 42, 16, 62, 182, 0, 182, 154, 0, 32, 42]
abbrev dktX2_compare_0 : List UInt8 := dkwX2_compare_0 ++ dktX2_compare_1
theorem dksX2_compare_0 : cX2_compare.data.toList.drop 0 = dktX2_compare_0 := by decide +kernel
theorem dksX2_compare_1 : cX2_compare.data.toList.drop 24 = dktX2_compare_1 := dk_seg dksX2_compare_0 24 rfl rfl
theorem dksX2_compare_2 : cX2_compare.data.toList.drop 47 = dktX2_compare_2 := dk_seg dksX2_compare_1 23 rfl rfl
theorem dX2_compare_0 : decode cX2_compare 0 = .ok (.aload_n 0, 1) := dk_42 (dk_at dksX2_compare_0 0 rfl rfl)
theorem dX2_compare_1 : decode cX2_compare 1 = .ok (.invokevirtual 265, 3) := dk_182 1 9 (dk_at dksX2_compare_0 1 rfl rfl)
theorem dX2_compare_4 : decode cX2_compare 4 = .ok (.astore_n 1, 1) := dk_76 (dk_at dksX2_compare_0 4 rfl rfl)
theorem dX2_compare_5 : decode cX2_compare 5 = .ok (.aload_n 0, 1) := dk_42 (dk_at dksX2_compare_0 5 rfl rfl)
theorem dX2_compare_6 : decode cX2_compare 6 = .ok (.bipush 60, 2) := dk_16 60 (dk_at dksX2_compare_0 6 rfl rfl)
theorem dX2_compare_8 : decode cX2_compare 8 = .ok (.invokevirtual 182, 3) := dk_182 0 182 (dk_at dksX2_compare_0 8 rfl rfl)
theorem dX2_compare_11 : decode cX2_compare 11 = .ok (.ifCond .ne 41, 3) := dk_154 0 41 (dk_at dksX2_compare_0 11 rfl rfl)
theorem dX2_compare_14 : decode cX2_compare 14 = .ok (.aload_n 0, 1) := dk_42 (dk_at dksX2_compare_0 14 rfl rfl)
theorem dX2_compare_15 : decode cX2_compare 15 = .ok (.bipush 62, 2) := dk_16 62 (dk_at dksX2_compare_0 15 rfl rfl)
theorem dX2_compare_17 : decode cX2_compare 17 = .ok (.invokevirtual 182, 3) := dk_182 0 182 (dk_at dksX2_compare_0 17 rfl rfl)
theorem dX2_compare_20 : decode cX2_compare 20 = .ok (.ifCond .ne 32, 3) := dk_154 0 32 (dk_at dksX2_compare_0 20 rfl rfl)
theorem dX2_compare_23 : decode cX2_compare 23 = .ok (.aload_n 0, 1) := dk_42 (dk_at dksX2_compare_0 23 rfl rfl)
theorem dX2_compare_24 : decode cX2_compare 24 = .ok (.bipush 61, 2) := dk_16 61 (dk_at dksX2_compare_1 0 rfl rfl)
theorem dX2_compare_26 : decode cX2_compare 26 = .ok (.invokevirtual 182, 3) := dk_182 0 182 (dk_at dksX2_compare_1 2 rfl rfl)
theorem dX2_compare_29 : decode cX2_compare 29 = .ok (.ifCond .ne 23, 3) := dk_154 0 23 (dk_at dksX2_compare_1 5 rfl rfl)
theorem dX2_compare_32 : decode cX2_compare 32 = .ok (.aload_n 0, 1) := dk_42 (dk_at dksX2_compare_1 8 rfl rfl)
theorem dX2_compare_33 : decode cX2_compare 33 = .ok (.getfield 33, 3) := dk_180 0 33 (dk_at dksX2_compare_1 9 rfl rfl)
theorem dX2_compare_36 : decode cX2_compare 36 = .ok (.iconst 3, 1) := dk_6 (dk_at dksX2_compare_1 12 rfl rfl)
theorem dX2_compare_37 : decode cX2_compare 37 = .ok (.if_icmp .ne 13, 3) := dk_160 0 13 (dk_at dksX2_compare_1 13 rfl rfl)
theorem dX2_compare_40 : decode cX2_compare 40 = .ok (.aload_n 0, 1) := dk_42 (dk_at dksX2_compare_1 16 rfl rfl)
theorem dX2_compare_41 : decode cX2_compare 41 = .ok (.getfield 47, 3) := dk_180 0 47 (dk_at dksX2_compare_1 17 rfl rfl)
theorem dX2_compare_44 : decode cX2_compare 44 = .ok (.sipush 256, 3) := dk_17 1 0 (dk_at dksX2_compare_1 20 rfl rfl)
theorem dX2_compare_47 : decode cX2_compare 47 = .ok (.if_icmp .ge 5, 3) := dk_162 0 5 (dk_at dksX2_compare_2 0 rfl rfl)
theorem dX2_compare_50 : decode cX2_compare 50 = .ok (.aload_n 1, 1) := dk_43 (dk_at dksX2_compare_2 3 rfl rfl)
theorem dX2_compare_51 : decode cX2_compare 51 = .ok (.areturn, 1) := dk_176 (dk_at dksX2_compare_2 4 rfl rfl)
theorem dX2_compare_52 : decode cX2_compare 52 = .ok (.aload_n 0, 1) := dk_42 (dk_at dksX2_compare_2 5 rfl rfl)
theorem dX2_compare_53 : decode cX2_compare 53 = .ok (.invokevirtual 246, 3) := dk_182 0 246 (dk_at dksX2_compare_2 6 rfl rfl)
theorem dX2_compare_56 : decode cX2_compare 56 = .ok (.istore_n 2, 1) := dk_61 (dk_at dksX2_compare_2 9 rfl rfl)
theorem dX2_compare_57 : decode cX2_compare 57 = .ok (.new 249, 3) := dk_187 0 249 (dk_at dksX2_compare_2 10 rfl rfl)
theorem dX2_compare_60 : decode cX2_compare 60 = .ok (.dup, 1) := dk_89 (dk_at dksX2_compare_2 13 rfl rfl)
theorem dX2_compare_61 : decode cX2_compare 61 = .ok (.iload_n 2, 1) := dk_28 (dk_at dksX2_compare_2 14 rfl rfl)
theorem dX2_compare_62 : decode cX2_compare 62 = .ok (.aload_n 1, 1) := dk_43 (dk_at dksX2_compare_2 15 rfl rfl)
theorem dX2_compare_63 : decode cX2_compare 63 = .ok (.aload_n 0, 1) := dk_42 (dk_at dksX2_compare_2 16 rfl rfl)
theorem dX2_compare_64 : decode cX2_compare 64 = .ok (.invokevirtual 265, 3) := dk_182 1 9 (dk_at dksX2_compare_2 17 rfl rfl)
theorem dX2_compare_67 : decode cX2_compare 67 = .ok (.invokespecial 251, 3) := dk_183 0 251 (dk_at dksX2_compare_2 20 rfl rfl)
theorem dX2_compare_70 : decode cX2_compare 70 = .ok (.areturn, 1) := dk_176 (dk_at dksX2_compare_2 23 rfl rfl)
def dkwX2_not_1 : List UInt8 := [89, 42, 182, 0, 254, 183, 1, 6, 176]
abbrev dktX2_not_1 : List UInt8 := dkwX2_not_1 ++ []
def dkwX2_not_0 : List UInt8 := [42, 16, 17, 16, 17, 182, 0, 135, 154, 0, 8, 42, 182, 1, 1, 176, 42, 182, 0, 246, 87, 187, 1, 4]
abbrev dktX2_not_0 : List UInt8 := dkwX2_not_0 ++ dktX2_not_1
theorem dksX2_not_0 : cX2_not.data.toList.drop 0 = dktX2_not_0 := by decide +kernel
theorem dksX2_not_1 : cX2_not.data.toList.drop 24 = dktX2_not_1 := dk_seg dksX2_not_0 24 rfl rfl
theorem dX2_not_0 : decode cX2_not 0 = .ok (.aload_n 0, 1) := dk_42 (dk_at dksX2_not_0 0 rfl rfl)
theorem dX2_not_1 : decode cX2_not 1 = .ok (.bipush 17, 2) := dk_16 17 (dk_at dksX2_not_0 1 rfl rfl)
theorem dX2_not_3 : decode cX2_not 3 = .ok (.bipush 17, 2) := dk_16 17 (dk_at dksX2_not_0 3 rfl rfl)
theorem dX2_not_5 : decode cX2_not 5 = .ok (.invokevirtual 135, 3) := dk_182 0 135 (dk_at dksX2_not_0 5 rfl rfl)
theorem dX2_not_8 : decode cX2_not 8 = .ok (.ifCond .ne 8, 3) := dk_154 0 8 (dk_at dksX2_not_0 8 rfl rfl)
theorem dX2_not_11 : decode cX2_not 11 = .ok (.aload_n 0, 1) := dk_42 (dk_at dksX2_not_0 11 rfl rfl)
theorem dX2_not_12 : decode cX2_not 12 = .ok (.invokevirtual 257, 3) := dk_182 1 1 (dk_at dksX2_not_0 12 rfl rfl)
theorem dX2_not_15 : decode cX2_not 15 = .ok (.areturn, 1) := dk_176 (dk_at dksX2_not_0 15 rfl rfl)
theorem dX2_not_16 : decode cX2_not 16 = .ok (.aload_n 0, 1) := dk_42 (dk_at dksX2_not_0 16 rfl rfl)
theorem dX2_not_17 : decode cX2_not 17 = .ok (.invokevirtual 246, 3) := dk_182 0 246 (dk_at dksX2_not_0 17 rfl rfl)
theorem dX2_not_20 : decode cX2_not 20 = .ok (.pop, 1) := dk_87 (dk_at dksX2_not_0 20 rfl rfl)
theorem dX2_not_21 : decode cX2_not 21 = .ok (.new 260, 3) := dk_187 1 4 (dk_at dksX2_not_0 21 rfl rfl)
theorem dX2_not_24 : decode cX2_not 24 = .ok (.dup, 1) := dk_89 (dk_at dksX2_not_1 0 rfl rfl)
theorem dX2_not_25 : decode cX2_not 25 = .ok (.aload_n 0, 1) := dk_42 (dk_at dksX2_not_1 1 rfl rfl)
theorem dX2_not_26 : decode cX2_not 26 = .ok (.invokevirtual 254, 3) := dk_182 0 254 (dk_at dksX2_not_1 2 rfl rfl)
theorem dX2_not_29 : decode cX2_not 29 = .ok (.invokespecial 262, 3) := dk_183 1 6 (dk_at dksX2_not_1 5 rfl rfl)
theorem dX2_not_32 : decode cX2_not 32 = .ok (.areturn, 1) := dk_176 (dk_at dksX2_not_1 8 rfl rfl)
def dkwX2_line_13 : List UInt8 := [181, 0, 185, 177]
abbrev dktX2_line_13 : List UInt8 := dkwX2_line_13 ++ []
def dkwX2_line_12 : List UInt8 := [154, 0, 9, 42, 4, 182, 0, 85, 191, 42, 182, 0, 93, 42, 180, 0, 111, 89, 180, 0, 185, 4, 96]
abbrev dktX2_line_12 : List UInt8 := dkwX2_line_12 ++ dktX2_line_13
def dkwX2_line_11 : List UInt8 := [182, 0, 93, 42, 180, 0, 111, 180, 0, 174, 28, 42, 182, 0, 178, 83, 42, 16, 59, 182, 0, 182]
abbrev dktX2_line_11 : List UInt8 := dkwX2_line_11 ++ dktX2_line_12
def dkwX2_line_10 : List UInt8 := [16, 13, 100, 61, 42, 180, 0, 111, 180, 0, 174, 28, 50, 198, 0, 9, 42, 6, 182, 0, 85, 191, 42]
abbrev dktX2_line_10 : List UInt8 := dkwX2_line_10 ++ dktX2_line_11
def dkwX2_line_9 : List UInt8 := [167, 0, 63, 42, 16, 13, 16, 14, 182, 0, 135, 154, 0, 9, 42, 4, 182, 0, 85, 191, 42, 180, 0, 47]
abbrev dktX2_line_9 : List UInt8 := dkwX2_line_9 ++ dktX2_line_10
def dkwX2_line_8 : List UInt8 := [182, 0, 165, 181, 0, 168, 167, 0, 80, 42, 180, 0, 111, 42, 3, 18, 57, 182, 0, 165, 181, 0, 171]
abbrev dktX2_line_8 : List UInt8 := dkwX2_line_8 ++ dktX2_line_9
def dkwX2_line_7 : List UInt8 := [42, 182, 0, 160, 167, 0, 104, 42, 182, 0, 163, 167, 0, 97, 42, 180, 0, 111, 42, 3, 16, 99]
abbrev dktX2_line_7 : List UInt8 := dkwX2_line_7 ++ dktX2_line_8
def dkwX2_line_6 : List UInt8 := [183, 0, 147, 182, 0, 150, 87, 167, 0, 125, 42, 182, 0, 154, 167, 0, 118, 42, 182, 0, 157, 167, 0, 111]
abbrev dktX2_line_6 : List UInt8 := dkwX2_line_6 ++ dktX2_line_7
def dkwX2_line_5 : List UInt8 := [42, 180, 0, 111, 180, 0, 118, 187, 0, 97, 89, 42, 42, 180, 0, 111, 180, 0, 118, 182, 0, 143]
abbrev dktX2_line_5 : List UInt8 := dkwX2_line_5 ++ dktX2_line_6
def dkwX2_line_4 : List UInt8 := [170, 0, 0, 0, 0, 0, 137, 0, 0, 0, 0, 0, 0, 0, 6, 0, 0, 0, 43, 0, 0, 0, 75, 0, 0, 0, 82, 0, 0, 0, 89, 0, 0, 0, 96, 0, 0, 0, 103, 0, 0, 0, 120]
abbrev dktX2_line_4 : List UInt8 := dkwX2_line_4 ++ dktX2_line_5
def dkwX2_line_3 : List UInt8 := [120, 128, 181, 0, 105, 42, 182, 0, 93, 27]
abbrev dktX2_line_3 : List UInt8 := dkwX2_line_3 ++ dktX2_line_4
def dkwX2_line_2 : List UInt8 := [180, 0, 105, 27, 122, 4, 126, 4, 160, 0, 9, 42, 6, 182, 0, 85, 191, 42, 89, 180, 0, 105, 4, 27]
abbrev dktX2_line_2 : List UInt8 := dkwX2_line_2 ++ dktX2_line_3
def dkwX2_line_1 : List UInt8 := [182, 0, 139, 153, 0, 9, 42, 5, 182, 0, 85, 191, 27, 8, 159, 0, 9, 27, 16, 6, 160, 0, 21, 42]
abbrev dktX2_line_1 : List UInt8 := dkwX2_line_1 ++ dktX2_line_2
def dkwX2_line_0 : List UInt8 := [42, 3, 16, 7, 182, 0, 135, 154, 0, 9, 42, 4, 182, 0, 85, 191, 42, 180, 0, 47, 60, 42, 27]
abbrev dktX2_line_0 : List UInt8 := dkwX2_line_0 ++ dktX2_line_1
theorem dksX2_line_0 : cX2_line.data.toList.drop 0 = dktX2_line_0 := by decide +kernel
theorem dksX2_line_1 : cX2_line.data.toList.drop 23 = dktX2_line_1 := dk_seg dksX2_line_0 23 rfl rfl
theorem dksX2_line_2 : cX2_line.data.toList.drop 47 = dktX2_line_2 := dk_seg dksX2_line_1 24 rfl rfl
theorem dksX2_line_3 : cX2_line.data.toList.drop 71 = dktX2_line_3 := dk_seg dksX2_line_2 24 rfl rfl
theorem dksX2_line_4 : cX2_line.data.toList.drop 81 = dktX2_line_4 := dk_seg dksX2_line_3 10 rfl rfl
theorem dksX2_line_5 : cX2_line.data.toList.drop 124 = dktX2_line_5 := dk_seg dksX2_line_4 43 rfl rfl
theorem dksX2_line_6 : cX2_line.data.toList.drop 146 = dktX2_line_6 := dk_seg dksX2_line_5 22 rfl rfl
theorem dksX2_line_7 : cX2_line.data.toList.drop 170 = dktX2_line_7 := dk_seg dksX2_line_6 24 rfl rfl
theorem dksX2_line_8 : cX2_line.data.toList.drop 192 = dktX2_line_8 := dk_seg dksX2_line_7 22 rfl rfl
theorem dksX2_line_9 : cX2_line.data.toList.drop 215 = dktX2_line_9 := dk_seg dksX2_line_8 23 rfl rfl
theorem dksX2_line_10 : cX2_line.data.toList.drop 239 = dktX2_line_10 := dk_seg dksX2_line_9 24 rfl rfl
theorem dksX2_line_11 : cX2_line.data.toList.drop 262 = dktX2_line_11 := dk_seg dksX2_line_10 23 rfl rfl
theorem dksX2_line_12 : cX2_line.data.toList.drop 284 = dktX2_line_12 := dk_seg dksX2_line_11 22 rfl rfl
theorem dksX2_line_13 : cX2_line.data.toList.drop 307 = dktX2_line_13 := dk_seg dksX2_line_12 23 rfl rfl
theorem dX2_line_0 : decode cX2_line 0 = .ok (.aload_n 0, 1) := dk_42 (dk_at dksX2_line_0 0 rfl rfl)
theorem dX2_line_1 : decode cX2_line 1 = .ok (.iconst 0, 1) := dk_3 (dk_at dksX2_line_0 1 rfl rfl)
theorem dX2_line_2 : decode cX2_line 2 = .ok (.bipush 7, 2) := dk_16 7 (dk_at dksX2_line_0 2 rfl rfl)
theorem dX2_line_4 : decode cX2_line 4 = .ok (.invokevirtual 135, 3) := dk_182 0 135 (dk_at dksX2_line_0 4 rfl rfl)
theorem dX2_line_7 : decode cX2_line 7 = .ok (.ifCond .ne 9, 3) := dk_154 0 9 (dk_at dksX2_line_0 7 rfl rfl)
theorem dX2_line_10 : decode cX2_line 10 = .ok (.aload_n 0, 1) := dk_42 (dk_at dksX2_line_0 10 rfl rfl)
theorem dX2_line_11 : decode cX2_line 11 = .ok (.iconst 1, 1) := dk_4 (dk_at dksX2_line_0 11 rfl rfl)
theorem dX2_line_12 : decode cX2_line 12 = .ok (.invokevirtual 85, 3) := dk_182 0 85 (dk_at dksX2_line_0 12 rfl rfl)
theorem dX2_line_15 : decode cX2_line 15 = .ok (.athrow, 1) := dk_191 (dk_at dksX2_line_0 15 rfl rfl)
theorem dX2_line_16 : decode cX2_line 16 = .ok (.aload_n 0, 1) := dk_42 (dk_at dksX2_line_0 16 rfl rfl)
theorem dX2_line_17 : decode cX2_line 17 = .ok (.getfield 47, 3) := dk_180 0 47 (dk_at dksX2_line_0 17 rfl rfl)
theorem dX2_line_20 : decode cX2_line 20 = .ok (.istore_n 1, 1) := dk_60 (dk_at dksX2_line_0 20 rfl rfl)
theorem dX2_line_21 : decode cX2_line 21 = .ok (.aload_n 0, 1) := dk_42 (dk_at dksX2_line_0 21 rfl rfl)
theorem dX2_line_22 : decode cX2_line 22 = .ok (.iload_n 1, 1) := dk_27 (dk_at dksX2_line_0 22 rfl rfl)
theorem dX2_line_23 : decode cX2_line 23 = .ok (.invokevirtual 139, 3) := dk_182 0 139 (dk_at dksX2_line_1 0 rfl rfl)
theorem dX2_line_26 : decode cX2_line 26 = .ok (.ifCond .eq 9, 3) := dk_153 0 9 (dk_at dksX2_line_1 3 rfl rfl)
theorem dX2_line_29 : decode cX2_line 29 = .ok (.aload_n 0, 1) := dk_42 (dk_at dksX2_line_1 6 rfl rfl)
theorem dX2_line_30 : decode cX2_line 30 = .ok (.iconst 2, 1) := dk_5 (dk_at dksX2_line_1 7 rfl rfl)
theorem dX2_line_31 : decode cX2_line 31 = .ok (.invokevirtual 85, 3) := dk_182 0 85 (dk_at dksX2_line_1 8 rfl rfl)
theorem dX2_line_34 : decode cX2_line 34 = .ok (.athrow, 1) := dk_191 (dk_at dksX2_line_1 11 rfl rfl)
theorem dX2_line_35 : decode cX2_line 35 = .ok (.iload_n 1, 1) := dk_27 (dk_at dksX2_line_1 12 rfl rfl)
theorem dX2_line_36 : decode cX2_line 36 = .ok (.iconst 5, 1) := dk_8 (dk_at dksX2_line_1 13 rfl rfl)
theorem dX2_line_37 : decode cX2_line 37 = .ok (.if_icmp .eq 9, 3) := dk_159 0 9 (dk_at dksX2_line_1 14 rfl rfl)
theorem dX2_line_40 : decode cX2_line 40 = .ok (.iload_n 1, 1) := dk_27 (dk_at dksX2_line_1 17 rfl rfl)
theorem dX2_line_41 : decode cX2_line 41 = .ok (.bipush 6, 2) := dk_16 6 (dk_at dksX2_line_1 18 rfl rfl)
theorem dX2_line_43 : decode cX2_line 43 = .ok (.if_icmp .ne 21, 3) := dk_160 0 21 (dk_at dksX2_line_1 20 rfl rfl)
theorem dX2_line_46 : decode cX2_line 46 = .ok (.aload_n 0, 1) := dk_42 (dk_at dksX2_line_1 23 rfl rfl)
theorem dX2_line_47 : decode cX2_line 47 = .ok (.getfield 105, 3) := dk_180 0 105 (dk_at dksX2_line_2 0 rfl rfl)
theorem dX2_line_50 : decode cX2_line 50 = .ok (.iload_n 1, 1) := dk_27 (dk_at dksX2_line_2 3 rfl rfl)
theorem dX2_line_51 : decode cX2_line 51 = .ok (.ishr, 1) := dk_122 (dk_at dksX2_line_2 4 rfl rfl)
theorem dX2_line_52 : decode cX2_line 52 = .ok (.iconst 1, 1) := dk_4 (dk_at dksX2_line_2 5 rfl rfl)
theorem dX2_line_53 : decode cX2_line 53 = .ok (.iand, 1) := dk_126 (dk_at dksX2_line_2 6 rfl rfl)
theorem dX2_line_54 : decode cX2_line 54 = .ok (.iconst 1, 1) := dk_4 (dk_at dksX2_line_2 7 rfl rfl)
theorem dX2_line_55 : decode cX2_line 55 = .ok (.if_icmp .ne 9, 3) := dk_160 0 9 (dk_at dksX2_line_2 8 rfl rfl)
theorem dX2_line_58 : decode cX2_line 58 = .ok (.aload_n 0, 1) := dk_42 (dk_at dksX2_line_2 11 rfl rfl)
theorem dX2_line_59 : decode cX2_line 59 = .ok (.iconst 3, 1) := dk_6 (dk_at dksX2_line_2 12 rfl rfl)
theorem dX2_line_60 : decode cX2_line 60 = .ok (.invokevirtual 85, 3) := dk_182 0 85 (dk_at dksX2_line_2 13 rfl rfl)
theorem dX2_line_63 : decode cX2_line 63 = .ok (.athrow, 1) := dk_191 (dk_at dksX2_line_2 16 rfl rfl)
theorem dX2_line_64 : decode cX2_line 64 = .ok (.aload_n 0, 1) := dk_42 (dk_at dksX2_line_2 17 rfl rfl)
theorem dX2_line_65 : decode cX2_line 65 = .ok (.dup, 1) := dk_89 (dk_at dksX2_line_2 18 rfl rfl)
theorem dX2_line_66 : decode cX2_line 66 = .ok (.getfield 105, 3) := dk_180 0 105 (dk_at dksX2_line_2 19 rfl rfl)
theorem dX2_line_69 : decode cX2_line 69 = .ok (.iconst 1, 1) := dk_4 (dk_at dksX2_line_2 22 rfl rfl)
theorem dX2_line_70 : decode cX2_line 70 = .ok (.iload_n 1, 1) := dk_27 (dk_at dksX2_line_2 23 rfl rfl)
theorem dX2_line_71 : decode cX2_line 71 = .ok (.ishl, 1) := dk_120 (dk_at dksX2_line_3 0 rfl rfl)
theorem dX2_line_72 : decode cX2_line 72 = .ok (.ior, 1) := dk_128 (dk_at dksX2_line_3 1 rfl rfl)
theorem dX2_line_73 : decode cX2_line 73 = .ok (.putfield 105, 3) := dk_181 0 105 (dk_at dksX2_line_3 2 rfl rfl)
theorem dX2_line_76 : decode cX2_line 76 = .ok (.aload_n 0, 1) := dk_42 (dk_at dksX2_line_3 5 rfl rfl)
theorem dX2_line_77 : decode cX2_line 77 = .ok (.invokevirtual 93, 3) := dk_182 0 93 (dk_at dksX2_line_3 6 rfl rfl)
theorem dX2_line_80 : decode cX2_line 80 = .ok (.iload_n 1, 1) := dk_27 (dk_at dksX2_line_3 9 rfl rfl)
theorem dX2_line_81 : decode cX2_line 81 = .ok (.tableswitch 137 0 6 #[43, 75, 82, 89, 96, 103, 120], 43) := by decide +kernel
theorem dX2_line_124 : decode cX2_line 124 = .ok (.aload_n 0, 1) := dk_42 (dk_at dksX2_line_5 0 rfl rfl)
theorem dX2_line_125 : decode cX2_line 125 = .ok (.getfield 111, 3) := dk_180 0 111 (dk_at dksX2_line_5 1 rfl rfl)
theorem dX2_line_128 : decode cX2_line 128 = .ok (.getfield 118, 3) := dk_180 0 118 (dk_at dksX2_line_5 4 rfl rfl)
theorem dX2_line_131 : decode cX2_line 131 = .ok (.new 97, 3) := dk_187 0 97 (dk_at dksX2_line_5 7 rfl rfl)
theorem dX2_line_134 : decode cX2_line 134 = .ok (.dup, 1) := dk_89 (dk_at dksX2_line_5 10 rfl rfl)
theorem dX2_line_135 : decode cX2_line 135 = .ok (.aload_n 0, 1) := dk_42 (dk_at dksX2_line_5 11 rfl rfl)
theorem dX2_line_136 : decode cX2_line 136 = .ok (.aload_n 0, 1) := dk_42 (dk_at dksX2_line_5 12 rfl rfl)
theorem dX2_line_137 : decode cX2_line 137 = .ok (.getfield 111, 3) := dk_180 0 111 (dk_at dksX2_line_5 13 rfl rfl)
theorem dX2_line_140 : decode cX2_line 140 = .ok (.getfield 118, 3) := dk_180 0 118 (dk_at dksX2_line_5 16 rfl rfl)
theorem dX2_line_143 : decode cX2_line 143 = .ok (.invokevirtual 143, 3) := dk_182 0 143 (dk_at dksX2_line_5 19 rfl rfl)
theorem dX2_line_146 : decode cX2_line 146 = .ok (.invokespecial 147, 3) := dk_183 0 147 (dk_at dksX2_line_6 0 rfl rfl)
theorem dX2_line_149 : decode cX2_line 149 = .ok (.invokevirtual 150, 3) := dk_182 0 150 (dk_at dksX2_line_6 3 rfl rfl)
theorem dX2_line_152 : decode cX2_line 152 = .ok (.pop, 1) := dk_87 (dk_at dksX2_line_6 6 rfl rfl)
theorem dX2_line_153 : decode cX2_line 153 = .ok (.goto 125, 3) := dk_167 0 125 (dk_at dksX2_line_6 7 rfl rfl)
theorem dX2_line_156 : decode cX2_line 156 = .ok (.aload_n 0, 1) := dk_42 (dk_at dksX2_line_6 10 rfl rfl)
theorem dX2_line_157 : decode cX2_line 157 = .ok (.invokevirtual 154, 3) := dk_182 0 154 (dk_at dksX2_line_6 11 rfl rfl)
theorem dX2_line_160 : decode cX2_line 160 = .ok (.goto 118, 3) := dk_167 0 118 (dk_at dksX2_line_6 14 rfl rfl)
theorem dX2_line_163 : decode cX2_line 163 = .ok (.aload_n 0, 1) := dk_42 (dk_at dksX2_line_6 17 rfl rfl)
theorem dX2_line_164 : decode cX2_line 164 = .ok (.invokevirtual 157, 3) := dk_182 0 157 (dk_at dksX2_line_6 18 rfl rfl)
theorem dX2_line_167 : decode cX2_line 167 = .ok (.goto 111, 3) := dk_167 0 111 (dk_at dksX2_line_6 21 rfl rfl)
theorem dX2_line_170 : decode cX2_line 170 = .ok (.aload_n 0, 1) := dk_42 (dk_at dksX2_line_7 0 rfl rfl)
theorem dX2_line_171 : decode cX2_line 171 = .ok (.invokevirtual 160, 3) := dk_182 0 160 (dk_at dksX2_line_7 1 rfl rfl)
theorem dX2_line_174 : decode cX2_line 174 = .ok (.goto 104, 3) := dk_167 0 104 (dk_at dksX2_line_7 4 rfl rfl)
theorem dX2_line_177 : decode cX2_line 177 = .ok (.aload_n 0, 1) := dk_42 (dk_at dksX2_line_7 7 rfl rfl)
theorem dX2_line_178 : decode cX2_line 178 = .ok (.invokevirtual 163, 3) := dk_182 0 163 (dk_at dksX2_line_7 8 rfl rfl)
theorem dX2_line_181 : decode cX2_line 181 = .ok (.goto 97, 3) := dk_167 0 97 (dk_at dksX2_line_7 11 rfl rfl)
theorem dX2_line_184 : decode cX2_line 184 = .ok (.aload_n 0, 1) := dk_42 (dk_at dksX2_line_7 14 rfl rfl)
theorem dX2_line_185 : decode cX2_line 185 = .ok (.getfield 111, 3) := dk_180 0 111 (dk_at dksX2_line_7 15 rfl rfl)
theorem dX2_line_188 : decode cX2_line 188 = .ok (.aload_n 0, 1) := dk_42 (dk_at dksX2_line_7 18 rfl rfl)
theorem dX2_line_189 : decode cX2_line 189 = .ok (.iconst 0, 1) := dk_3 (dk_at dksX2_line_7 19 rfl rfl)
theorem dX2_line_190 : decode cX2_line 190 = .ok (.bipush 99, 2) := dk_16 99 (dk_at dksX2_line_7 20 rfl rfl)
theorem dX2_line_192 : decode cX2_line 192 = .ok (.invokevirtual 165, 3) := dk_182 0 165 (dk_at dksX2_line_8 0 rfl rfl)
theorem dX2_line_195 : decode cX2_line 195 = .ok (.putfield 168, 3) := dk_181 0 168 (dk_at dksX2_line_8 3 rfl rfl)
theorem dX2_line_198 : decode cX2_line 198 = .ok (.goto 80, 3) := dk_167 0 80 (dk_at dksX2_line_8 6 rfl rfl)
theorem dX2_line_201 : decode cX2_line 201 = .ok (.aload_n 0, 1) := dk_42 (dk_at dksX2_line_8 9 rfl rfl)
theorem dX2_line_202 : decode cX2_line 202 = .ok (.getfield 111, 3) := dk_180 0 111 (dk_at dksX2_line_8 10 rfl rfl)
theorem dX2_line_205 : decode cX2_line 205 = .ok (.aload_n 0, 1) := dk_42 (dk_at dksX2_line_8 13 rfl rfl)
theorem dX2_line_206 : decode cX2_line 206 = .ok (.iconst 0, 1) := dk_3 (dk_at dksX2_line_8 14 rfl rfl)
theorem dX2_line_207 : decode cX2_line 207 = .ok (.ldc 57, 2) := dk_18 57 (dk_at dksX2_line_8 15 rfl rfl)
theorem dX2_line_209 : decode cX2_line 209 = .ok (.invokevirtual 165, 3) := dk_182 0 165 (dk_at dksX2_line_8 17 rfl rfl)
theorem dX2_line_212 : decode cX2_line 212 = .ok (.putfield 171, 3) := dk_181 0 171 (dk_at dksX2_line_8 20 rfl rfl)
theorem dX2_line_215 : decode cX2_line 215 = .ok (.goto 63, 3) := dk_167 0 63 (dk_at dksX2_line_9 0 rfl rfl)
theorem dX2_line_218 : decode cX2_line 218 = .ok (.aload_n 0, 1) := dk_42 (dk_at dksX2_line_9 3 rfl rfl)
theorem dX2_line_219 : decode cX2_line 219 = .ok (.bipush 13, 2) := dk_16 13 (dk_at dksX2_line_9 4 rfl rfl)
theorem dX2_line_221 : decode cX2_line 221 = .ok (.bipush 14, 2) := dk_16 14 (dk_at dksX2_line_9 6 rfl rfl)
theorem dX2_line_223 : decode cX2_line 223 = .ok (.invokevirtual 135, 3) := dk_182 0 135 (dk_at dksX2_line_9 8 rfl rfl)
theorem dX2_line_226 : decode cX2_line 226 = .ok (.ifCond .ne 9, 3) := dk_154 0 9 (dk_at dksX2_line_9 11 rfl rfl)
theorem dX2_line_229 : decode cX2_line 229 = .ok (.aload_n 0, 1) := dk_42 (dk_at dksX2_line_9 14 rfl rfl)
theorem dX2_line_230 : decode cX2_line 230 = .ok (.iconst 1, 1) := dk_4 (dk_at dksX2_line_9 15 rfl rfl)
theorem dX2_line_231 : decode cX2_line 231 = .ok (.invokevirtual 85, 3) := dk_182 0 85 (dk_at dksX2_line_9 16 rfl rfl)
theorem dX2_line_234 : decode cX2_line 234 = .ok (.athrow, 1) := dk_191 (dk_at dksX2_line_9 19 rfl rfl)
theorem dX2_line_235 : decode cX2_line 235 = .ok (.aload_n 0, 1) := dk_42 (dk_at dksX2_line_9 20 rfl rfl)
theorem dX2_line_236 : decode cX2_line 236 = .ok (.getfield 47, 3) := dk_180 0 47 (dk_at dksX2_line_9 21 rfl rfl)
theorem dX2_line_239 : decode cX2_line 239 = .ok (.bipush 13, 2) := dk_16 13 (dk_at dksX2_line_10 0 rfl rfl)
theorem dX2_line_241 : decode cX2_line 241 = .ok (.isub, 1) := dk_100 (dk_at dksX2_line_10 2 rfl rfl)
theorem dX2_line_242 : decode cX2_line 242 = .ok (.istore_n 2, 1) := dk_61 (dk_at dksX2_line_10 3 rfl rfl)
theorem dX2_line_243 : decode cX2_line 243 = .ok (.aload_n 0, 1) := dk_42 (dk_at dksX2_line_10 4 rfl rfl)
theorem dX2_line_244 : decode cX2_line 244 = .ok (.getfield 111, 3) := dk_180 0 111 (dk_at dksX2_line_10 5 rfl rfl)
theorem dX2_line_247 : decode cX2_line 247 = .ok (.getfield 174, 3) := dk_180 0 174 (dk_at dksX2_line_10 8 rfl rfl)
theorem dX2_line_250 : decode cX2_line 250 = .ok (.iload_n 2, 1) := dk_28 (dk_at dksX2_line_10 11 rfl rfl)
theorem dX2_line_251 : decode cX2_line 251 = .ok (.aaload, 1) := dk_50 (dk_at dksX2_line_10 12 rfl rfl)
theorem dX2_line_252 : decode cX2_line 252 = .ok (.ifnull 9, 3) := dk_198 0 9 (dk_at dksX2_line_10 13 rfl rfl)
theorem dX2_line_255 : decode cX2_line 255 = .ok (.aload_n 0, 1) := dk_42 (dk_at dksX2_line_10 16 rfl rfl)
theorem dX2_line_256 : decode cX2_line 256 = .ok (.iconst 3, 1) := dk_6 (dk_at dksX2_line_10 17 rfl rfl)
theorem dX2_line_257 : decode cX2_line 257 = .ok (.invokevirtual 85, 3) := dk_182 0 85 (dk_at dksX2_line_10 18 rfl rfl)
theorem dX2_line_260 : decode cX2_line 260 = .ok (.athrow, 1) := dk_191 (dk_at dksX2_line_10 21 rfl rfl)
theorem dX2_line_261 : decode cX2_line 261 = .ok (.aload_n 0, 1) := dk_42 (dk_at dksX2_line_10 22 rfl rfl)
theorem dX2_line_262 : decode cX2_line 262 = .ok (.invokevirtual 93, 3) := dk_182 0 93 (dk_at dksX2_line_11 0 rfl rfl)
theorem dX2_line_265 : decode cX2_line 265 = .ok (.aload_n 0, 1) := dk_42 (dk_at dksX2_line_11 3 rfl rfl)
theorem dX2_line_266 : decode cX2_line 266 = .ok (.getfield 111, 3) := dk_180 0 111 (dk_at dksX2_line_11 4 rfl rfl)
theorem dX2_line_269 : decode cX2_line 269 = .ok (.getfield 174, 3) := dk_180 0 174 (dk_at dksX2_line_11 7 rfl rfl)
theorem dX2_line_272 : decode cX2_line 272 = .ok (.iload_n 2, 1) := dk_28 (dk_at dksX2_line_11 10 rfl rfl)
theorem dX2_line_273 : decode cX2_line 273 = .ok (.aload_n 0, 1) := dk_42 (dk_at dksX2_line_11 11 rfl rfl)
theorem dX2_line_274 : decode cX2_line 274 = .ok (.invokevirtual 178, 3) := dk_182 0 178 (dk_at dksX2_line_11 12 rfl rfl)
theorem dX2_line_277 : decode cX2_line 277 = .ok (.aastore, 1) := dk_83 (dk_at dksX2_line_11 15 rfl rfl)
theorem dX2_line_278 : decode cX2_line 278 = .ok (.aload_n 0, 1) := dk_42 (dk_at dksX2_line_11 16 rfl rfl)
theorem dX2_line_279 : decode cX2_line 279 = .ok (.bipush 59, 2) := dk_16 59 (dk_at dksX2_line_11 17 rfl rfl)
theorem dX2_line_281 : decode cX2_line 281 = .ok (.invokevirtual 182, 3) := dk_182 0 182 (dk_at dksX2_line_11 19 rfl rfl)
theorem dX2_line_284 : decode cX2_line 284 = .ok (.ifCond .ne 9, 3) := dk_154 0 9 (dk_at dksX2_line_12 0 rfl rfl)
theorem dX2_line_287 : decode cX2_line 287 = .ok (.aload_n 0, 1) := dk_42 (dk_at dksX2_line_12 3 rfl rfl)
theorem dX2_line_288 : decode cX2_line 288 = .ok (.iconst 1, 1) := dk_4 (dk_at dksX2_line_12 4 rfl rfl)
theorem dX2_line_289 : decode cX2_line 289 = .ok (.invokevirtual 85, 3) := dk_182 0 85 (dk_at dksX2_line_12 5 rfl rfl)
theorem dX2_line_292 : decode cX2_line 292 = .ok (.athrow, 1) := dk_191 (dk_at dksX2_line_12 8 rfl rfl)
theorem dX2_line_293 : decode cX2_line 293 = .ok (.aload_n 0, 1) := dk_42 (dk_at dksX2_line_12 9 rfl rfl)
theorem dX2_line_294 : decode cX2_line 294 = .ok (.invokevirtual 93, 3) := dk_182 0 93 (dk_at dksX2_line_12 10 rfl rfl)
theorem dX2_line_297 : decode cX2_line 297 = .ok (.aload_n 0, 1) := dk_42 (dk_at dksX2_line_12 13 rfl rfl)
theorem dX2_line_298 : decode cX2_line 298 = .ok (.getfield 111, 3) := dk_180 0 111 (dk_at dksX2_line_12 14 rfl rfl)
theorem dX2_line_301 : decode cX2_line 301 = .ok (.dup, 1) := dk_89 (dk_at dksX2_line_12 17 rfl rfl)
theorem dX2_line_302 : decode cX2_line 302 = .ok (.getfield 185, 3) := dk_180 0 185 (dk_at dksX2_line_12 18 rfl rfl)
theorem dX2_line_305 : decode cX2_line 305 = .ok (.iconst 1, 1) := dk_4 (dk_at dksX2_line_12 21 rfl rfl)
theorem dX2_line_306 : decode cX2_line 306 = .ok (.iadd, 1) := dk_96 (dk_at dksX2_line_12 22 rfl rfl)
theorem dX2_line_307 : decode cX2_line 307 = .ok (.putfield 185, 3) := dk_181 0 185 (dk_at dksX2_line_13 0 rfl rfl)
theorem dX2_line_310 : decode cX2_line 310 = .ok (.return_, 1) := dk_177 (dk_at dksX2_line_13 3 rfl rfl)
def dkwX2_read_2 : List UInt8 := [167, 255, 244, 42, 180, 0, 111, 176]
abbrev dktX2_read_2 : List UInt8 := dkwX2_read_2 ++ []
def dkwX2_read_1 : List UInt8 := [89, 183, 0, 110, 181, 0, 111, 42, 182, 0, 93, 42, 180, 0, 33, 7, 159, 0, 10, 42, 182, 0, 115]
abbrev dktX2_read_1 : List UInt8 := dkwX2_read_1 ++ dktX2_read_2
def dkwX2_read_0 : List UInt8 := [42, 3, 181, 0, 15, 42, 27, 181, 0, 19, 42, 3, 181, 0, 102, 42, 3, 181, 0, 105, 42, 187, 0, 108]
abbrev dktX2_read_0 : List UInt8 := dkwX2_read_0 ++ dktX2_read_1
theorem dksX2_read_0 : cX2_read.data.toList.drop 0 = dktX2_read_0 := by decide +kernel
theorem dksX2_read_1 : cX2_read.data.toList.drop 24 = dktX2_read_1 := dk_seg dksX2_read_0 24 rfl rfl
theorem dksX2_read_2 : cX2_read.data.toList.drop 47 = dktX2_read_2 := dk_seg dksX2_read_1 23 rfl rfl
theorem dX2_read_0 : decode cX2_read 0 = .ok (.aload_n 0, 1) := dk_42 (dk_at dksX2_read_0 0 rfl rfl)
theorem dX2_read_1 : decode cX2_read 1 = .ok (.iconst 0, 1) := dk_3 (dk_at dksX2_read_0 1 rfl rfl)
theorem dX2_read_2 : decode cX2_read 2 = .ok (.putfield 15, 3) := dk_181 0 15 (dk_at dksX2_read_0 2 rfl rfl)
theorem dX2_read_5 : decode cX2_read 5 = .ok (.aload_n 0, 1) := dk_42 (dk_at dksX2_read_0 5 rfl rfl)
theorem dX2_read_6 : decode cX2_read 6 = .ok (.iload_n 1, 1) := dk_27 (dk_at dksX2_read_0 6 rfl rfl)
theorem dX2_read_7 : decode cX2_read 7 = .ok (.putfield 19, 3) := dk_181 0 19 (dk_at dksX2_read_0 7 rfl rfl)
theorem dX2_read_10 : decode cX2_read 10 = .ok (.aload_n 0, 1) := dk_42 (dk_at dksX2_read_0 10 rfl rfl)
theorem dX2_read_11 : decode cX2_read 11 = .ok (.iconst 0, 1) := dk_3 (dk_at dksX2_read_0 11 rfl rfl)
theorem dX2_read_12 : decode cX2_read 12 = .ok (.putfield 102, 3) := dk_181 0 102 (dk_at dksX2_read_0 12 rfl rfl)
theorem dX2_read_15 : decode cX2_read 15 = .ok (.aload_n 0, 1) := dk_42 (dk_at dksX2_read_0 15 rfl rfl)
theorem dX2_read_16 : decode cX2_read 16 = .ok (.iconst 0, 1) := dk_3 (dk_at dksX2_read_0 16 rfl rfl)
theorem dX2_read_17 : decode cX2_read 17 = .ok (.putfield 105, 3) := dk_181 0 105 (dk_at dksX2_read_0 17 rfl rfl)
theorem dX2_read_20 : decode cX2_read 20 = .ok (.aload_n 0, 1) := dk_42 (dk_at dksX2_read_0 20 rfl rfl)
theorem dX2_read_21 : decode cX2_read 21 = .ok (.new 108, 3) := dk_187 0 108 (dk_at dksX2_read_0 21 rfl rfl)
theorem dX2_read_24 : decode cX2_read 24 = .ok (.dup, 1) := dk_89 (dk_at dksX2_read_1 0 rfl rfl)
theorem dX2_read_25 : decode cX2_read 25 = .ok (.invokespecial 110, 3) := dk_183 0 110 (dk_at dksX2_read_1 1 rfl rfl)
theorem dX2_read_28 : decode cX2_read 28 = .ok (.putfield 111, 3) := dk_181 0 111 (dk_at dksX2_read_1 4 rfl rfl)
theorem dX2_read_31 : decode cX2_read 31 = .ok (.aload_n 0, 1) := dk_42 (dk_at dksX2_read_1 7 rfl rfl)
theorem dX2_read_32 : decode cX2_read 32 = .ok (.invokevirtual 93, 3) := dk_182 0 93 (dk_at dksX2_read_1 8 rfl rfl)
theorem dX2_read_35 : decode cX2_read 35 = .ok (.aload_n 0, 1) := dk_42 (dk_at dksX2_read_1 11 rfl rfl)
theorem dX2_read_36 : decode cX2_read 36 = .ok (.getfield 33, 3) := dk_180 0 33 (dk_at dksX2_read_1 12 rfl rfl)
theorem dX2_read_39 : decode cX2_read 39 = .ok (.iconst 4, 1) := dk_7 (dk_at dksX2_read_1 15 rfl rfl)
theorem dX2_read_40 : decode cX2_read 40 = .ok (.if_icmp .eq 10, 3) := dk_159 0 10 (dk_at dksX2_read_1 16 rfl rfl)
theorem dX2_read_43 : decode cX2_read 43 = .ok (.aload_n 0, 1) := dk_42 (dk_at dksX2_read_1 19 rfl rfl)
theorem dX2_read_44 : decode cX2_read 44 = .ok (.invokevirtual 115, 3) := dk_182 0 115 (dk_at dksX2_read_1 20 rfl rfl)
theorem dX2_read_47 : decode cX2_read 47 = .ok (.goto (-12), 3) := dk_167 255 244 (dk_at dksX2_read_2 0 rfl rfl)
theorem dX2_read_50 : decode cX2_read 50 = .ok (.aload_n 0, 1) := dk_42 (dk_at dksX2_read_2 3 rfl rfl)
theorem dX2_read_51 : decode cX2_read 51 = .ok (.getfield 111, 3) := dk_180 0 111 (dk_at dksX2_read_2 4 rfl rfl)
theorem dX2_read_54 : decode cX2_read 54 = .ok (.areturn, 1) := dk_176 (dk_at dksX2_read_2 7 rfl rfl)
def dkwX9_begin_5 : List UInt8 := [181, 0, 69, 177]
abbrev dktX9_begin_5 : List UInt8 := dkwX9_begin_5 ++ []
def dkwX9_begin_4 : List UInt8 := [181, 0, 57, 42, 42, 180, 0, 3, 180, 0, 32, 180, 0, 60, 181, 0, 63, 42, 2, 181, 0, 66, 42, 3]
abbrev dktX9_begin_4 : List UInt8 := dkwX9_begin_4 ++ dktX9_begin_5
def dkwX9_begin_3 : List UInt8 := [27, 3, 79, 42, 180, 0, 25, 27, 3, 79, 132, 1, 1, 167, 255, 176, 42, 3, 181, 0, 54, 42, 3]
abbrev dktX9_begin_3 : List UInt8 := dkwX9_begin_3 ++ dktX9_begin_4
def dkwX9_begin_2 : List UInt8 := [180, 0, 3, 180, 0, 32, 180, 0, 36, 27, 182, 0, 41, 192, 0, 47, 180, 0, 52, 79, 42, 180, 0, 22]
abbrev dktX9_begin_2 : List UInt8 := dkwX9_begin_2 ++ dktX9_begin_3
def dkwX9_begin_1 : List UInt8 := [180, 0, 32, 180, 0, 36, 27, 182, 0, 41, 192, 0, 47, 180, 0, 49, 79, 42, 180, 0, 19, 27, 42]
abbrev dktX9_begin_1 : List UInt8 := dkwX9_begin_1 ++ dktX9_begin_2
def dkwX9_begin_0 : List UInt8 := [3, 60, 27, 42, 180, 0, 3, 182, 0, 28, 162, 0, 75, 42, 180, 0, 15, 27, 42, 180, 0, 3]
abbrev dktX9_begin_0 : List UInt8 := dkwX9_begin_0 ++ dktX9_begin_1
theorem dksX9_begin_0 : cX9_begin.data.toList.drop 0 = dktX9_begin_0 := by decide +kernel
theorem dksX9_begin_1 : cX9_begin.data.toList.drop 22 = dktX9_begin_1 := dk_seg dksX9_begin_0 22 rfl rfl
theorem dksX9_begin_2 : cX9_begin.data.toList.drop 45 = dktX9_begin_2 := dk_seg dksX9_begin_1 23 rfl rfl
theorem dksX9_begin_3 : cX9_begin.data.toList.drop 69 = dktX9_begin_3 := dk_seg dksX9_begin_2 24 rfl rfl
theorem dksX9_begin_4 : cX9_begin.data.toList.drop 92 = dktX9_begin_4 := dk_seg dksX9_begin_3 23 rfl rfl
theorem dksX9_begin_5 : cX9_begin.data.toList.drop 116 = dktX9_begin_5 := dk_seg dksX9_begin_4 24 rfl rfl
theorem dX9_begin_0 : decode cX9_begin 0 = .ok (.iconst 0, 1) := dk_3 (dk_at dksX9_begin_0 0 rfl rfl)
theorem dX9_begin_1 : decode cX9_begin 1 = .ok (.istore_n 1, 1) := dk_60 (dk_at dksX9_begin_0 1 rfl rfl)
theorem dX9_begin_2 : decode cX9_begin 2 = .ok (.iload_n 1, 1) := dk_27 (dk_at dksX9_begin_0 2 rfl rfl)
theorem dX9_begin_3 : decode cX9_begin 3 = .ok (.aload_n 0, 1) := dk_42 (dk_at dksX9_begin_0 3 rfl rfl)
theorem dX9_begin_4 : decode cX9_begin 4 = .ok (.getfield 3, 3) := dk_180 0 3 (dk_at dksX9_begin_0 4 rfl rfl)
theorem dX9_begin_7 : decode cX9_begin 7 = .ok (.invokevirtual 28, 3) := dk_182 0 28 (dk_at dksX9_begin_0 7 rfl rfl)
theorem dX9_begin_10 : decode cX9_begin 10 = .ok (.if_icmp .ge 75, 3) := dk_162 0 75 (dk_at dksX9_begin_0 10 rfl rfl)
theorem dX9_begin_13 : decode cX9_begin 13 = .ok (.aload_n 0, 1) := dk_42 (dk_at dksX9_begin_0 13 rfl rfl)
theorem dX9_begin_14 : decode cX9_begin 14 = .ok (.getfield 15, 3) := dk_180 0 15 (dk_at dksX9_begin_0 14 rfl rfl)
theorem dX9_begin_17 : decode cX9_begin 17 = .ok (.iload_n 1, 1) := dk_27 (dk_at dksX9_begin_0 17 rfl rfl)
theorem dX9_begin_18 : decode cX9_begin 18 = .ok (.aload_n 0, 1) := dk_42 (dk_at dksX9_begin_0 18 rfl rfl)
theorem dX9_begin_19 : decode cX9_begin 19 = .ok (.getfield 3, 3) := dk_180 0 3 (dk_at dksX9_begin_0 19 rfl rfl)
theorem dX9_begin_22 : decode cX9_begin 22 = .ok (.getfield 32, 3) := dk_180 0 32 (dk_at dksX9_begin_1 0 rfl rfl)
theorem dX9_begin_25 : decode cX9_begin 25 = .ok (.getfield 36, 3) := dk_180 0 36 (dk_at dksX9_begin_1 3 rfl rfl)
theorem dX9_begin_28 : decode cX9_begin 28 = .ok (.iload_n 1, 1) := dk_27 (dk_at dksX9_begin_1 6 rfl rfl)
theorem dX9_begin_29 : decode cX9_begin 29 = .ok (.invokevirtual 41, 3) := dk_182 0 41 (dk_at dksX9_begin_1 7 rfl rfl)
theorem dX9_begin_32 : decode cX9_begin 32 = .ok (.checkcast 47, 3) := dk_192 0 47 (dk_at dksX9_begin_1 10 rfl rfl)
theorem dX9_begin_35 : decode cX9_begin 35 = .ok (.getfield 49, 3) := dk_180 0 49 (dk_at dksX9_begin_1 13 rfl rfl)
theorem dX9_begin_38 : decode cX9_begin 38 = .ok (.iastore, 1) := dk_79 (dk_at dksX9_begin_1 16 rfl rfl)
theorem dX9_begin_39 : decode cX9_begin 39 = .ok (.aload_n 0, 1) := dk_42 (dk_at dksX9_begin_1 17 rfl rfl)
theorem dX9_begin_40 : decode cX9_begin 40 = .ok (.getfield 19, 3) := dk_180 0 19 (dk_at dksX9_begin_1 18 rfl rfl)
theorem dX9_begin_43 : decode cX9_begin 43 = .ok (.iload_n 1, 1) := dk_27 (dk_at dksX9_begin_1 21 rfl rfl)
theorem dX9_begin_44 : decode cX9_begin 44 = .ok (.aload_n 0, 1) := dk_42 (dk_at dksX9_begin_1 22 rfl rfl)
theorem dX9_begin_45 : decode cX9_begin 45 = .ok (.getfield 3, 3) := dk_180 0 3 (dk_at dksX9_begin_2 0 rfl rfl)
theorem dX9_begin_48 : decode cX9_begin 48 = .ok (.getfield 32, 3) := dk_180 0 32 (dk_at dksX9_begin_2 3 rfl rfl)
theorem dX9_begin_51 : decode cX9_begin 51 = .ok (.getfield 36, 3) := dk_180 0 36 (dk_at dksX9_begin_2 6 rfl rfl)
theorem dX9_begin_54 : decode cX9_begin 54 = .ok (.iload_n 1, 1) := dk_27 (dk_at dksX9_begin_2 9 rfl rfl)
theorem dX9_begin_55 : decode cX9_begin 55 = .ok (.invokevirtual 41, 3) := dk_182 0 41 (dk_at dksX9_begin_2 10 rfl rfl)
theorem dX9_begin_58 : decode cX9_begin 58 = .ok (.checkcast 47, 3) := dk_192 0 47 (dk_at dksX9_begin_2 13 rfl rfl)
theorem dX9_begin_61 : decode cX9_begin 61 = .ok (.getfield 52, 3) := dk_180 0 52 (dk_at dksX9_begin_2 16 rfl rfl)
theorem dX9_begin_64 : decode cX9_begin 64 = .ok (.iastore, 1) := dk_79 (dk_at dksX9_begin_2 19 rfl rfl)
theorem dX9_begin_65 : decode cX9_begin 65 = .ok (.aload_n 0, 1) := dk_42 (dk_at dksX9_begin_2 20 rfl rfl)
theorem dX9_begin_66 : decode cX9_begin 66 = .ok (.getfield 22, 3) := dk_180 0 22 (dk_at dksX9_begin_2 21 rfl rfl)
theorem dX9_begin_69 : decode cX9_begin 69 = .ok (.iload_n 1, 1) := dk_27 (dk_at dksX9_begin_3 0 rfl rfl)
theorem dX9_begin_70 : decode cX9_begin 70 = .ok (.iconst 0, 1) := dk_3 (dk_at dksX9_begin_3 1 rfl rfl)
theorem dX9_begin_71 : decode cX9_begin 71 = .ok (.iastore, 1) := dk_79 (dk_at dksX9_begin_3 2 rfl rfl)
theorem dX9_begin_72 : decode cX9_begin 72 = .ok (.aload_n 0, 1) := dk_42 (dk_at dksX9_begin_3 3 rfl rfl)
theorem dX9_begin_73 : decode cX9_begin 73 = .ok (.getfield 25, 3) := dk_180 0 25 (dk_at dksX9_begin_3 4 rfl rfl)
theorem dX9_begin_76 : decode cX9_begin 76 = .ok (.iload_n 1, 1) := dk_27 (dk_at dksX9_begin_3 7 rfl rfl)
theorem dX9_begin_77 : decode cX9_begin 77 = .ok (.iconst 0, 1) := dk_3 (dk_at dksX9_begin_3 8 rfl rfl)
theorem dX9_begin_78 : decode cX9_begin 78 = .ok (.iastore, 1) := dk_79 (dk_at dksX9_begin_3 9 rfl rfl)
theorem dX9_begin_79 : decode cX9_begin 79 = .ok (.iinc 1 1, 3) := dk_132 1 1 (dk_at dksX9_begin_3 10 rfl rfl)
theorem dX9_begin_82 : decode cX9_begin 82 = .ok (.goto (-80), 3) := dk_167 255 176 (dk_at dksX9_begin_3 13 rfl rfl)
theorem dX9_begin_85 : decode cX9_begin 85 = .ok (.aload_n 0, 1) := dk_42 (dk_at dksX9_begin_3 16 rfl rfl)
theorem dX9_begin_86 : decode cX9_begin 86 = .ok (.iconst 0, 1) := dk_3 (dk_at dksX9_begin_3 17 rfl rfl)
theorem dX9_begin_87 : decode cX9_begin 87 = .ok (.putfield 54, 3) := dk_181 0 54 (dk_at dksX9_begin_3 18 rfl rfl)
theorem dX9_begin_90 : decode cX9_begin 90 = .ok (.aload_n 0, 1) := dk_42 (dk_at dksX9_begin_3 21 rfl rfl)
theorem dX9_begin_91 : decode cX9_begin 91 = .ok (.iconst 0, 1) := dk_3 (dk_at dksX9_begin_3 22 rfl rfl)
theorem dX9_begin_92 : decode cX9_begin 92 = .ok (.putfield 57, 3) := dk_181 0 57 (dk_at dksX9_begin_4 0 rfl rfl)
theorem dX9_begin_95 : decode cX9_begin 95 = .ok (.aload_n 0, 1) := dk_42 (dk_at dksX9_begin_4 3 rfl rfl)
theorem dX9_begin_96 : decode cX9_begin 96 = .ok (.aload_n 0, 1) := dk_42 (dk_at dksX9_begin_4 4 rfl rfl)
theorem dX9_begin_97 : decode cX9_begin 97 = .ok (.getfield 3, 3) := dk_180 0 3 (dk_at dksX9_begin_4 5 rfl rfl)
theorem dX9_begin_100 : decode cX9_begin 100 = .ok (.getfield 32, 3) := dk_180 0 32 (dk_at dksX9_begin_4 8 rfl rfl)
theorem dX9_begin_103 : decode cX9_begin 103 = .ok (.getfield 60, 3) := dk_180 0 60 (dk_at dksX9_begin_4 11 rfl rfl)
theorem dX9_begin_106 : decode cX9_begin 106 = .ok (.putfield 63, 3) := dk_181 0 63 (dk_at dksX9_begin_4 14 rfl rfl)
theorem dX9_begin_109 : decode cX9_begin 109 = .ok (.aload_n 0, 1) := dk_42 (dk_at dksX9_begin_4 17 rfl rfl)
theorem dX9_begin_110 : decode cX9_begin 110 = .ok (.iconst (-1), 1) := dk_2 (dk_at dksX9_begin_4 18 rfl rfl)
theorem dX9_begin_111 : decode cX9_begin 111 = .ok (.putfield 66, 3) := dk_181 0 66 (dk_at dksX9_begin_4 19 rfl rfl)
theorem dX9_begin_114 : decode cX9_begin 114 = .ok (.aload_n 0, 1) := dk_42 (dk_at dksX9_begin_4 22 rfl rfl)
theorem dX9_begin_115 : decode cX9_begin 115 = .ok (.iconst 0, 1) := dk_3 (dk_at dksX9_begin_4 23 rfl rfl)
theorem dX9_begin_116 : decode cX9_begin 116 = .ok (.putfield 69, 3) := dk_181 0 69 (dk_at dksX9_begin_5 0 rfl rfl)
theorem dX9_begin_119 : decode cX9_begin 119 = .ok (.return_, 1) := dk_177 (dk_at dksX9_begin_5 3 rfl rfl)
def dkwX1_text_4 : List UInt8 := [181, 0, 135, 42, 180, 0, 13, 180, 0, 176, 172]
abbrev dktX1_text_4 : List UInt8 := dkwX1_text_4 ++ []
def dkwX1_text_3 : List UInt8 := [182, 0, 138, 42, 3, 181, 0, 166, 42, 3, 181, 0, 169, 42, 180, 0, 128, 182, 0, 173, 42, 2]
abbrev dktX1_text_3 : List UInt8 := dkwX1_text_3 ++ dktX1_text_4
def dkwX1_text_2 : List UInt8 := [42, 44, 180, 0, 160, 181, 0, 151, 42, 44, 180, 0, 163, 181, 0, 60, 2, 172, 42, 180, 0, 95]
abbrev dktX1_text_2 : List UInt8 := dkwX1_text_2 ++ dktX1_text_3
def dkwX1_text_1 : List UInt8 := [181, 0, 151, 42, 2, 181, 0, 60, 42, 42, 180, 0, 69, 27, 182, 0, 154, 181, 0, 13, 167, 0, 22, 77]
abbrev dktX1_text_1 : List UInt8 := dkwX1_text_1 ++ dktX1_text_2
def dkwX1_text_0 : List UInt8 := [27, 133, 9, 42, 180, 0, 141, 133, 184, 0, 147, 154, 0, 6, 16, 254, 172, 42, 3, 181, 0, 141, 42, 3]
abbrev dktX1_text_0 : List UInt8 := dkwX1_text_0 ++ dktX1_text_1
theorem dksX1_text_0 : cX1_text.data.toList.drop 0 = dktX1_text_0 := by decide +kernel
theorem dksX1_text_1 : cX1_text.data.toList.drop 24 = dktX1_text_1 := dk_seg dksX1_text_0 24 rfl rfl
theorem dksX1_text_2 : cX1_text.data.toList.drop 48 = dktX1_text_2 := dk_seg dksX1_text_1 24 rfl rfl
theorem dksX1_text_3 : cX1_text.data.toList.drop 70 = dktX1_text_3 := dk_seg dksX1_text_2 22 rfl rfl
theorem dksX1_text_4 : cX1_text.data.toList.drop 92 = dktX1_text_4 := dk_seg dksX1_text_3 22 rfl rfl
theorem dX1_text_0 : decode cX1_text 0 = .ok (.iload_n 1, 1) := dk_27 (dk_at dksX1_text_0 0 rfl rfl)
theorem dX1_text_1 : decode cX1_text 1 = .ok (.i2l, 1) := dk_133 (dk_at dksX1_text_0 1 rfl rfl)
theorem dX1_text_2 : decode cX1_text 2 = .ok (.lconst 0, 1) := dk_9 (dk_at dksX1_text_0 2 rfl rfl)
theorem dX1_text_3 : decode cX1_text 3 = .ok (.aload_n 0, 1) := dk_42 (dk_at dksX1_text_0 3 rfl rfl)
theorem dX1_text_4 : decode cX1_text 4 = .ok (.getfield 141, 3) := dk_180 0 141 (dk_at dksX1_text_0 4 rfl rfl)
theorem dX1_text_7 : decode cX1_text 7 = .ok (.i2l, 1) := dk_133 (dk_at dksX1_text_0 7 rfl rfl)
theorem dX1_text_8 : decode cX1_text 8 = .ok (.invokestatic 147, 3) := dk_184 0 147 (dk_at dksX1_text_0 8 rfl rfl)
theorem dX1_text_11 : decode cX1_text 11 = .ok (.ifCond .ne 6, 3) := dk_154 0 6 (dk_at dksX1_text_0 11 rfl rfl)
theorem dX1_text_14 : decode cX1_text 14 = .ok (.bipush (-2), 2) := dk_16 254 (dk_at dksX1_text_0 14 rfl rfl)
theorem dX1_text_16 : decode cX1_text 16 = .ok (.ireturn, 1) := dk_172 (dk_at dksX1_text_0 16 rfl rfl)
theorem dX1_text_17 : decode cX1_text 17 = .ok (.aload_n 0, 1) := dk_42 (dk_at dksX1_text_0 17 rfl rfl)
theorem dX1_text_18 : decode cX1_text 18 = .ok (.iconst 0, 1) := dk_3 (dk_at dksX1_text_0 18 rfl rfl)
theorem dX1_text_19 : decode cX1_text 19 = .ok (.putfield 141, 3) := dk_181 0 141 (dk_at dksX1_text_0 19 rfl rfl)
theorem dX1_text_22 : decode cX1_text 22 = .ok (.aload_n 0, 1) := dk_42 (dk_at dksX1_text_0 22 rfl rfl)
theorem dX1_text_23 : decode cX1_text 23 = .ok (.iconst 0, 1) := dk_3 (dk_at dksX1_text_0 23 rfl rfl)
theorem dX1_text_24 : decode cX1_text 24 = .ok (.putfield 151, 3) := dk_181 0 151 (dk_at dksX1_text_1 0 rfl rfl)
theorem dX1_text_27 : decode cX1_text 27 = .ok (.aload_n 0, 1) := dk_42 (dk_at dksX1_text_1 3 rfl rfl)
theorem dX1_text_28 : decode cX1_text 28 = .ok (.iconst (-1), 1) := dk_2 (dk_at dksX1_text_1 4 rfl rfl)
theorem dX1_text_29 : decode cX1_text 29 = .ok (.putfield 60, 3) := dk_181 0 60 (dk_at dksX1_text_1 5 rfl rfl)
theorem dX1_text_32 : decode cX1_text 32 = .ok (.aload_n 0, 1) := dk_42 (dk_at dksX1_text_1 8 rfl rfl)
theorem dX1_text_33 : decode cX1_text 33 = .ok (.aload_n 0, 1) := dk_42 (dk_at dksX1_text_1 9 rfl rfl)
theorem dX1_text_34 : decode cX1_text 34 = .ok (.getfield 69, 3) := dk_180 0 69 (dk_at dksX1_text_1 10 rfl rfl)
theorem dX1_text_37 : decode cX1_text 37 = .ok (.iload_n 1, 1) := dk_27 (dk_at dksX1_text_1 13 rfl rfl)
theorem dX1_text_38 : decode cX1_text 38 = .ok (.invokevirtual 154, 3) := dk_182 0 154 (dk_at dksX1_text_1 14 rfl rfl)
theorem dX1_text_41 : decode cX1_text 41 = .ok (.putfield 13, 3) := dk_181 0 13 (dk_at dksX1_text_1 17 rfl rfl)
theorem dX1_text_44 : decode cX1_text 44 = .ok (.goto 22, 3) := dk_167 0 22 (dk_at dksX1_text_1 20 rfl rfl)
theorem dX1_text_47 : decode cX1_text 47 = .ok (.astore_n 2, 1) := dk_77 (dk_at dksX1_text_1 23 rfl rfl)
theorem dX1_text_48 : decode cX1_text 48 = .ok (.aload_n 0, 1) := dk_42 (dk_at dksX1_text_2 0 rfl rfl)
theorem dX1_text_49 : decode cX1_text 49 = .ok (.aload_n 2, 1) := dk_44 (dk_at dksX1_text_2 1 rfl rfl)
theorem dX1_text_50 : decode cX1_text 50 = .ok (.getfield 160, 3) := dk_180 0 160 (dk_at dksX1_text_2 2 rfl rfl)
theorem dX1_text_53 : decode cX1_text 53 = .ok (.putfield 151, 3) := dk_181 0 151 (dk_at dksX1_text_2 5 rfl rfl)
theorem dX1_text_56 : decode cX1_text 56 = .ok (.aload_n 0, 1) := dk_42 (dk_at dksX1_text_2 8 rfl rfl)
theorem dX1_text_57 : decode cX1_text 57 = .ok (.aload_n 2, 1) := dk_44 (dk_at dksX1_text_2 9 rfl rfl)
theorem dX1_text_58 : decode cX1_text 58 = .ok (.getfield 163, 3) := dk_180 0 163 (dk_at dksX1_text_2 10 rfl rfl)
theorem dX1_text_61 : decode cX1_text 61 = .ok (.putfield 60, 3) := dk_181 0 60 (dk_at dksX1_text_2 13 rfl rfl)
theorem dX1_text_64 : decode cX1_text 64 = .ok (.iconst (-1), 1) := dk_2 (dk_at dksX1_text_2 16 rfl rfl)
theorem dX1_text_65 : decode cX1_text 65 = .ok (.ireturn, 1) := dk_172 (dk_at dksX1_text_2 17 rfl rfl)
theorem dX1_text_66 : decode cX1_text 66 = .ok (.aload_n 0, 1) := dk_42 (dk_at dksX1_text_2 18 rfl rfl)
theorem dX1_text_67 : decode cX1_text 67 = .ok (.getfield 95, 3) := dk_180 0 95 (dk_at dksX1_text_2 19 rfl rfl)
theorem dX1_text_70 : decode cX1_text 70 = .ok (.invokevirtual 138, 3) := dk_182 0 138 (dk_at dksX1_text_3 0 rfl rfl)
theorem dX1_text_73 : decode cX1_text 73 = .ok (.aload_n 0, 1) := dk_42 (dk_at dksX1_text_3 3 rfl rfl)
theorem dX1_text_74 : decode cX1_text 74 = .ok (.iconst 0, 1) := dk_3 (dk_at dksX1_text_3 4 rfl rfl)
theorem dX1_text_75 : decode cX1_text 75 = .ok (.putfield 166, 3) := dk_181 0 166 (dk_at dksX1_text_3 5 rfl rfl)
theorem dX1_text_78 : decode cX1_text 78 = .ok (.aload_n 0, 1) := dk_42 (dk_at dksX1_text_3 8 rfl rfl)
theorem dX1_text_79 : decode cX1_text 79 = .ok (.iconst 0, 1) := dk_3 (dk_at dksX1_text_3 9 rfl rfl)
theorem dX1_text_80 : decode cX1_text 80 = .ok (.putfield 169, 3) := dk_181 0 169 (dk_at dksX1_text_3 10 rfl rfl)
theorem dX1_text_83 : decode cX1_text 83 = .ok (.aload_n 0, 1) := dk_42 (dk_at dksX1_text_3 13 rfl rfl)
theorem dX1_text_84 : decode cX1_text 84 = .ok (.getfield 128, 3) := dk_180 0 128 (dk_at dksX1_text_3 14 rfl rfl)
theorem dX1_text_87 : decode cX1_text 87 = .ok (.invokevirtual 173, 3) := dk_182 0 173 (dk_at dksX1_text_3 17 rfl rfl)
theorem dX1_text_90 : decode cX1_text 90 = .ok (.aload_n 0, 1) := dk_42 (dk_at dksX1_text_3 20 rfl rfl)
theorem dX1_text_91 : decode cX1_text 91 = .ok (.iconst (-1), 1) := dk_2 (dk_at dksX1_text_3 21 rfl rfl)
theorem dX1_text_92 : decode cX1_text 92 = .ok (.putfield 135, 3) := dk_181 0 135 (dk_at dksX1_text_4 0 rfl rfl)
theorem dX1_text_95 : decode cX1_text 95 = .ok (.aload_n 0, 1) := dk_42 (dk_at dksX1_text_4 3 rfl rfl)
theorem dX1_text_96 : decode cX1_text 96 = .ok (.getfield 13, 3) := dk_180 0 13 (dk_at dksX1_text_4 4 rfl rfl)
theorem dX1_text_99 : decode cX1_text 99 = .ok (.getfield 176, 3) := dk_180 0 176 (dk_at dksX1_text_4 7 rfl rfl)
theorem dX1_text_102 : decode cX1_text 102 = .ok (.ireturn, 1) := dk_172 (dk_at dksX1_text_4 10 rfl rfl)
def dkwX1_fault_1 : List UInt8 := [172]
abbrev dktX1_fault_1 : List UInt8 := dkwX1_fault_1 ++ []
def dkwX1_fault_0 : List UInt8 := [27, 154, 0, 10, 42, 180, 0, 151, 167, 0, 16, 27, 4, 160, 0, 10, 42, 180, 0, 60, 167, 0, 4, 2]
abbrev dktX1_fault_0 : List UInt8 := dkwX1_fault_0 ++ dktX1_fault_1
theorem dksX1_fault_0 : cX1_fault.data.toList.drop 0 = dktX1_fault_0 := by decide +kernel
theorem dksX1_fault_1 : cX1_fault.data.toList.drop 24 = dktX1_fault_1 := dk_seg dksX1_fault_0 24 rfl rfl
theorem dX1_fault_0 : decode cX1_fault 0 = .ok (.iload_n 1, 1) := dk_27 (dk_at dksX1_fault_0 0 rfl rfl)
theorem dX1_fault_1 : decode cX1_fault 1 = .ok (.ifCond .ne 10, 3) := dk_154 0 10 (dk_at dksX1_fault_0 1 rfl rfl)
theorem dX1_fault_4 : decode cX1_fault 4 = .ok (.aload_n 0, 1) := dk_42 (dk_at dksX1_fault_0 4 rfl rfl)
theorem dX1_fault_5 : decode cX1_fault 5 = .ok (.getfield 151, 3) := dk_180 0 151 (dk_at dksX1_fault_0 5 rfl rfl)
theorem dX1_fault_8 : decode cX1_fault 8 = .ok (.goto 16, 3) := dk_167 0 16 (dk_at dksX1_fault_0 8 rfl rfl)
theorem dX1_fault_11 : decode cX1_fault 11 = .ok (.iload_n 1, 1) := dk_27 (dk_at dksX1_fault_0 11 rfl rfl)
theorem dX1_fault_12 : decode cX1_fault 12 = .ok (.iconst 1, 1) := dk_4 (dk_at dksX1_fault_0 12 rfl rfl)
theorem dX1_fault_13 : decode cX1_fault 13 = .ok (.if_icmp .ne 10, 3) := dk_160 0 10 (dk_at dksX1_fault_0 13 rfl rfl)
theorem dX1_fault_16 : decode cX1_fault 16 = .ok (.aload_n 0, 1) := dk_42 (dk_at dksX1_fault_0 16 rfl rfl)
theorem dX1_fault_17 : decode cX1_fault 17 = .ok (.getfield 60, 3) := dk_180 0 60 (dk_at dksX1_fault_0 17 rfl rfl)
theorem dX1_fault_20 : decode cX1_fault 20 = .ok (.goto 4, 3) := dk_167 0 4 (dk_at dksX1_fault_0 20 rfl rfl)
theorem dX1_fault_23 : decode cX1_fault 23 = .ok (.iconst (-1), 1) := dk_2 (dk_at dksX1_fault_0 23 rfl rfl)
theorem dX1_fault_24 : decode cX1_fault 24 = .ok (.ireturn, 1) := dk_172 (dk_at dksX1_fault_1 0 rfl rfl)
def dkwX1_named_3 : List UInt8 := [42, 180, 0, 13, 180, 0, 29, 28, 184, 0, 182, 172, 2, 172]
abbrev dktX1_named_3 : List UInt8 := dkwX1_named_3 ++ []
def dkwX1_named_2 : List UInt8 := [42, 180, 0, 13, 180, 0, 179, 28, 184, 0, 182, 172, 42, 180, 0, 13, 180, 0, 17, 28, 184, 0, 182, 172]
abbrev dktX1_named_2 : List UInt8 := dkwX1_named_2 ++ dktX1_named_3
def dkwX1_named_1 : List UInt8 := [170, 0, 0, 0, 0, 0, 63, 0, 0, 0, 0, 0, 0, 0, 2, 0, 0, 0, 27, 0, 0, 0, 39, 0, 0, 0, 51]
abbrev dktX1_named_1 : List UInt8 := dkwX1_named_1 ++ dktX1_named_2
def dkwX1_named_0 : List UInt8 := [27]
abbrev dktX1_named_0 : List UInt8 := dkwX1_named_0 ++ dktX1_named_1
theorem dksX1_named_0 : cX1_named.data.toList.drop 0 = dktX1_named_0 := by decide +kernel
theorem dksX1_named_1 : cX1_named.data.toList.drop 1 = dktX1_named_1 := dk_seg dksX1_named_0 1 rfl rfl
theorem dksX1_named_2 : cX1_named.data.toList.drop 28 = dktX1_named_2 := dk_seg dksX1_named_1 27 rfl rfl
theorem dksX1_named_3 : cX1_named.data.toList.drop 52 = dktX1_named_3 := dk_seg dksX1_named_2 24 rfl rfl
theorem dX1_named_0 : decode cX1_named 0 = .ok (.iload_n 1, 1) := dk_27 (dk_at dksX1_named_0 0 rfl rfl)
theorem dX1_named_1 : decode cX1_named 1 = .ok (.tableswitch 63 0 2 #[27, 39, 51], 27) := by decide +kernel
theorem dX1_named_28 : decode cX1_named 28 = .ok (.aload_n 0, 1) := dk_42 (dk_at dksX1_named_2 0 rfl rfl)
theorem dX1_named_29 : decode cX1_named 29 = .ok (.getfield 13, 3) := dk_180 0 13 (dk_at dksX1_named_2 1 rfl rfl)
theorem dX1_named_32 : decode cX1_named 32 = .ok (.getfield 179, 3) := dk_180 0 179 (dk_at dksX1_named_2 4 rfl rfl)
theorem dX1_named_35 : decode cX1_named 35 = .ok (.iload_n 2, 1) := dk_28 (dk_at dksX1_named_2 7 rfl rfl)
theorem dX1_named_36 : decode cX1_named 36 = .ok (.invokestatic 182, 3) := dk_184 0 182 (dk_at dksX1_named_2 8 rfl rfl)
theorem dX1_named_39 : decode cX1_named 39 = .ok (.ireturn, 1) := dk_172 (dk_at dksX1_named_2 11 rfl rfl)
theorem dX1_named_40 : decode cX1_named 40 = .ok (.aload_n 0, 1) := dk_42 (dk_at dksX1_named_2 12 rfl rfl)
theorem dX1_named_41 : decode cX1_named 41 = .ok (.getfield 13, 3) := dk_180 0 13 (dk_at dksX1_named_2 13 rfl rfl)
theorem dX1_named_44 : decode cX1_named 44 = .ok (.getfield 17, 3) := dk_180 0 17 (dk_at dksX1_named_2 16 rfl rfl)
theorem dX1_named_47 : decode cX1_named 47 = .ok (.iload_n 2, 1) := dk_28 (dk_at dksX1_named_2 19 rfl rfl)
theorem dX1_named_48 : decode cX1_named 48 = .ok (.invokestatic 182, 3) := dk_184 0 182 (dk_at dksX1_named_2 20 rfl rfl)
theorem dX1_named_51 : decode cX1_named 51 = .ok (.ireturn, 1) := dk_172 (dk_at dksX1_named_2 23 rfl rfl)
theorem dX1_named_52 : decode cX1_named 52 = .ok (.aload_n 0, 1) := dk_42 (dk_at dksX1_named_3 0 rfl rfl)
theorem dX1_named_53 : decode cX1_named 53 = .ok (.getfield 13, 3) := dk_180 0 13 (dk_at dksX1_named_3 1 rfl rfl)
theorem dX1_named_56 : decode cX1_named 56 = .ok (.getfield 29, 3) := dk_180 0 29 (dk_at dksX1_named_3 4 rfl rfl)
theorem dX1_named_59 : decode cX1_named 59 = .ok (.iload_n 2, 1) := dk_28 (dk_at dksX1_named_3 7 rfl rfl)
theorem dX1_named_60 : decode cX1_named 60 = .ok (.invokestatic 182, 3) := dk_184 0 182 (dk_at dksX1_named_3 8 rfl rfl)
theorem dX1_named_63 : decode cX1_named 63 = .ok (.ireturn, 1) := dk_172 (dk_at dksX1_named_3 11 rfl rfl)
theorem dX1_named_64 : decode cX1_named 64 = .ok (.iconst (-1), 1) := dk_2 (dk_at dksX1_named_3 12 rfl rfl)
theorem dX1_named_65 : decode cX1_named 65 = .ok (.ireturn, 1) := dk_172 (dk_at dksX1_named_3 13 rfl rfl)
def dkwX1_questions_0 : List UInt8 := [42, 180, 0, 13, 180, 0, 29, 182, 0, 23, 172]
abbrev dktX1_questions_0 : List UInt8 := dkwX1_questions_0 ++ []
theorem dksX1_questions_0 : cX1_questions.data.toList.drop 0 = dktX1_questions_0 := by decide +kernel
theorem dX1_questions_0 : decode cX1_questions 0 = .ok (.aload_n 0, 1) := dk_42 (dk_at dksX1_questions_0 0 rfl rfl)
theorem dX1_questions_1 : decode cX1_questions 1 = .ok (.getfield 13, 3) := dk_180 0 13 (dk_at dksX1_questions_0 1 rfl rfl)
theorem dX1_questions_4 : decode cX1_questions 4 = .ok (.getfield 29, 3) := dk_180 0 29 (dk_at dksX1_questions_0 4 rfl rfl)
theorem dX1_questions_7 : decode cX1_questions 7 = .ok (.invokevirtual 23, 3) := dk_182 0 23 (dk_at dksX1_questions_0 7 rfl rfl)
theorem dX1_questions_10 : decode cX1_questions 10 = .ok (.ireturn, 1) := dk_172 (dk_at dksX1_questions_0 10 rfl rfl)
def dkwX1_isQuestion_0 : List UInt8 := [27, 133, 9, 42, 182, 0, 190, 4, 100, 133, 184, 0, 147, 172]
abbrev dktX1_isQuestion_0 : List UInt8 := dkwX1_isQuestion_0 ++ []
theorem dksX1_isQuestion_0 : cX1_isQuestion.data.toList.drop 0 = dktX1_isQuestion_0 := by decide +kernel
theorem dX1_isQuestion_0 : decode cX1_isQuestion 0 = .ok (.iload_n 1, 1) := dk_27 (dk_at dksX1_isQuestion_0 0 rfl rfl)
theorem dX1_isQuestion_1 : decode cX1_isQuestion 1 = .ok (.i2l, 1) := dk_133 (dk_at dksX1_isQuestion_0 1 rfl rfl)
theorem dX1_isQuestion_2 : decode cX1_isQuestion 2 = .ok (.lconst 0, 1) := dk_9 (dk_at dksX1_isQuestion_0 2 rfl rfl)
theorem dX1_isQuestion_3 : decode cX1_isQuestion 3 = .ok (.aload_n 0, 1) := dk_42 (dk_at dksX1_isQuestion_0 3 rfl rfl)
theorem dX1_isQuestion_4 : decode cX1_isQuestion 4 = .ok (.invokevirtual 190, 3) := dk_182 0 190 (dk_at dksX1_isQuestion_0 4 rfl rfl)
theorem dX1_isQuestion_7 : decode cX1_isQuestion 7 = .ok (.iconst 1, 1) := dk_4 (dk_at dksX1_isQuestion_0 7 rfl rfl)
theorem dX1_isQuestion_8 : decode cX1_isQuestion 8 = .ok (.isub, 1) := dk_100 (dk_at dksX1_isQuestion_0 8 rfl rfl)
theorem dX1_isQuestion_9 : decode cX1_isQuestion 9 = .ok (.i2l, 1) := dk_133 (dk_at dksX1_isQuestion_0 9 rfl rfl)
theorem dX1_isQuestion_10 : decode cX1_isQuestion 10 = .ok (.invokestatic 147, 3) := dk_184 0 147 (dk_at dksX1_isQuestion_0 10 rfl rfl)
theorem dX1_isQuestion_13 : decode cX1_isQuestion 13 = .ok (.ireturn, 1) := dk_172 (dk_at dksX1_isQuestion_0 13 rfl rfl)
def dkwX1_question_3 : List UInt8 := [45, 180, 0, 231, 172, 45, 180, 0, 232, 172, 45, 180, 0, 235, 172, 45, 180, 0, 238, 172, 16, 254, 172]
abbrev dktX1_question_3 : List UInt8 := dkwX1_question_3 ++ []
def dkwX1_question_2 : List UInt8 := [170, 0, 0, 0, 49, 0, 0, 0, 0, 0, 0, 0, 3, 0, 0, 0, 29, 0, 0, 0, 34, 0, 0, 0, 39, 0, 0, 0, 44]
abbrev dktX1_question_2 : List UInt8 := dkwX1_question_2 ++ dktX1_question_3
def dkwX1_question_1 : List UInt8 := [192, 0, 229, 78, 28]
abbrev dktX1_question_1 : List UInt8 := dkwX1_question_1 ++ dktX1_question_2
def dkwX1_question_0 : List UInt8 := [42, 27, 182, 0, 226, 154, 0, 6, 16, 254, 172, 42, 180, 0, 13, 180, 0, 29, 27, 182, 0, 199]
abbrev dktX1_question_0 : List UInt8 := dkwX1_question_0 ++ dktX1_question_1
theorem dksX1_question_0 : cX1_question.data.toList.drop 0 = dktX1_question_0 := by decide +kernel
theorem dksX1_question_1 : cX1_question.data.toList.drop 22 = dktX1_question_1 := dk_seg dksX1_question_0 22 rfl rfl
theorem dksX1_question_2 : cX1_question.data.toList.drop 27 = dktX1_question_2 := dk_seg dksX1_question_1 5 rfl rfl
theorem dksX1_question_3 : cX1_question.data.toList.drop 56 = dktX1_question_3 := dk_seg dksX1_question_2 29 rfl rfl
theorem dX1_question_0 : decode cX1_question 0 = .ok (.aload_n 0, 1) := dk_42 (dk_at dksX1_question_0 0 rfl rfl)
theorem dX1_question_1 : decode cX1_question 1 = .ok (.iload_n 1, 1) := dk_27 (dk_at dksX1_question_0 1 rfl rfl)
theorem dX1_question_2 : decode cX1_question 2 = .ok (.invokevirtual 226, 3) := dk_182 0 226 (dk_at dksX1_question_0 2 rfl rfl)
theorem dX1_question_5 : decode cX1_question 5 = .ok (.ifCond .ne 6, 3) := dk_154 0 6 (dk_at dksX1_question_0 5 rfl rfl)
theorem dX1_question_8 : decode cX1_question 8 = .ok (.bipush (-2), 2) := dk_16 254 (dk_at dksX1_question_0 8 rfl rfl)
theorem dX1_question_10 : decode cX1_question 10 = .ok (.ireturn, 1) := dk_172 (dk_at dksX1_question_0 10 rfl rfl)
theorem dX1_question_11 : decode cX1_question 11 = .ok (.aload_n 0, 1) := dk_42 (dk_at dksX1_question_0 11 rfl rfl)
theorem dX1_question_12 : decode cX1_question 12 = .ok (.getfield 13, 3) := dk_180 0 13 (dk_at dksX1_question_0 12 rfl rfl)
theorem dX1_question_15 : decode cX1_question 15 = .ok (.getfield 29, 3) := dk_180 0 29 (dk_at dksX1_question_0 15 rfl rfl)
theorem dX1_question_18 : decode cX1_question 18 = .ok (.iload_n 1, 1) := dk_27 (dk_at dksX1_question_0 18 rfl rfl)
theorem dX1_question_19 : decode cX1_question 19 = .ok (.invokevirtual 199, 3) := dk_182 0 199 (dk_at dksX1_question_0 19 rfl rfl)
theorem dX1_question_22 : decode cX1_question 22 = .ok (.checkcast 229, 3) := dk_192 0 229 (dk_at dksX1_question_1 0 rfl rfl)
theorem dX1_question_25 : decode cX1_question 25 = .ok (.astore_n 3, 1) := dk_78 (dk_at dksX1_question_1 3 rfl rfl)
theorem dX1_question_26 : decode cX1_question 26 = .ok (.iload_n 2, 1) := dk_28 (dk_at dksX1_question_1 4 rfl rfl)
theorem dX1_question_27 : decode cX1_question 27 = .ok (.tableswitch 49 0 3 #[29, 34, 39, 44], 29) := by decide +kernel
theorem dX1_question_56 : decode cX1_question 56 = .ok (.aload_n 3, 1) := dk_45 (dk_at dksX1_question_3 0 rfl rfl)
theorem dX1_question_57 : decode cX1_question 57 = .ok (.getfield 231, 3) := dk_180 0 231 (dk_at dksX1_question_3 1 rfl rfl)
theorem dX1_question_60 : decode cX1_question 60 = .ok (.ireturn, 1) := dk_172 (dk_at dksX1_question_3 4 rfl rfl)
theorem dX1_question_61 : decode cX1_question 61 = .ok (.aload_n 3, 1) := dk_45 (dk_at dksX1_question_3 5 rfl rfl)
theorem dX1_question_62 : decode cX1_question 62 = .ok (.getfield 232, 3) := dk_180 0 232 (dk_at dksX1_question_3 6 rfl rfl)
theorem dX1_question_65 : decode cX1_question 65 = .ok (.ireturn, 1) := dk_172 (dk_at dksX1_question_3 9 rfl rfl)
theorem dX1_question_66 : decode cX1_question 66 = .ok (.aload_n 3, 1) := dk_45 (dk_at dksX1_question_3 10 rfl rfl)
theorem dX1_question_67 : decode cX1_question 67 = .ok (.getfield 235, 3) := dk_180 0 235 (dk_at dksX1_question_3 11 rfl rfl)
theorem dX1_question_70 : decode cX1_question 70 = .ok (.ireturn, 1) := dk_172 (dk_at dksX1_question_3 14 rfl rfl)
theorem dX1_question_71 : decode cX1_question 71 = .ok (.aload_n 3, 1) := dk_45 (dk_at dksX1_question_3 15 rfl rfl)
theorem dX1_question_72 : decode cX1_question 72 = .ok (.getfield 238, 3) := dk_180 0 238 (dk_at dksX1_question_3 16 rfl rfl)
theorem dX1_question_75 : decode cX1_question 75 = .ok (.ireturn, 1) := dk_172 (dk_at dksX1_question_3 19 rfl rfl)
theorem dX1_question_76 : decode cX1_question 76 = .ok (.bipush (-2), 2) := dk_16 254 (dk_at dksX1_question_3 20 rfl rfl)
theorem dX1_question_78 : decode cX1_question 78 = .ok (.ireturn, 1) := dk_172 (dk_at dksX1_question_3 22 rfl rfl)
def dkwX1_isPerson_0 : List UInt8 := [27, 133, 9, 42, 182, 0, 188, 4, 100, 133, 184, 0, 147, 172]
abbrev dktX1_isPerson_0 : List UInt8 := dkwX1_isPerson_0 ++ []
theorem dksX1_isPerson_0 : cX1_isPerson.data.toList.drop 0 = dktX1_isPerson_0 := by decide +kernel
theorem dX1_isPerson_0 : decode cX1_isPerson 0 = .ok (.iload_n 1, 1) := dk_27 (dk_at dksX1_isPerson_0 0 rfl rfl)
theorem dX1_isPerson_1 : decode cX1_isPerson 1 = .ok (.i2l, 1) := dk_133 (dk_at dksX1_isPerson_0 1 rfl rfl)
theorem dX1_isPerson_2 : decode cX1_isPerson 2 = .ok (.lconst 0, 1) := dk_9 (dk_at dksX1_isPerson_0 2 rfl rfl)
theorem dX1_isPerson_3 : decode cX1_isPerson 3 = .ok (.aload_n 0, 1) := dk_42 (dk_at dksX1_isPerson_0 3 rfl rfl)
theorem dX1_isPerson_4 : decode cX1_isPerson 4 = .ok (.invokevirtual 188, 3) := dk_182 0 188 (dk_at dksX1_isPerson_0 4 rfl rfl)
theorem dX1_isPerson_7 : decode cX1_isPerson 7 = .ok (.iconst 1, 1) := dk_4 (dk_at dksX1_isPerson_0 7 rfl rfl)
theorem dX1_isPerson_8 : decode cX1_isPerson 8 = .ok (.isub, 1) := dk_100 (dk_at dksX1_isPerson_0 8 rfl rfl)
theorem dX1_isPerson_9 : decode cX1_isPerson 9 = .ok (.i2l, 1) := dk_133 (dk_at dksX1_isPerson_0 9 rfl rfl)
theorem dX1_isPerson_10 : decode cX1_isPerson 10 = .ok (.invokestatic 147, 3) := dk_184 0 147 (dk_at dksX1_isPerson_0 10 rfl rfl)
theorem dX1_isPerson_13 : decode cX1_isPerson 13 = .ok (.ireturn, 1) := dk_172 (dk_at dksX1_isPerson_0 13 rfl rfl)
def dkwX1_areTwo_1 : List UInt8 := [167, 0, 4, 3, 172]
abbrev dktX1_areTwo_1 : List UInt8 := dkwX1_areTwo_1 ++ []
def dkwX1_areTwo_0 : List UInt8 := [42, 27, 182, 0, 192, 153, 0, 20, 42, 28, 182, 0, 192, 153, 0, 12, 27, 28, 159, 0, 7, 4]
abbrev dktX1_areTwo_0 : List UInt8 := dkwX1_areTwo_0 ++ dktX1_areTwo_1
theorem dksX1_areTwo_0 : cX1_areTwo.data.toList.drop 0 = dktX1_areTwo_0 := by decide +kernel
theorem dksX1_areTwo_1 : cX1_areTwo.data.toList.drop 22 = dktX1_areTwo_1 := dk_seg dksX1_areTwo_0 22 rfl rfl
theorem dX1_areTwo_0 : decode cX1_areTwo 0 = .ok (.aload_n 0, 1) := dk_42 (dk_at dksX1_areTwo_0 0 rfl rfl)
theorem dX1_areTwo_1 : decode cX1_areTwo 1 = .ok (.iload_n 1, 1) := dk_27 (dk_at dksX1_areTwo_0 1 rfl rfl)
theorem dX1_areTwo_2 : decode cX1_areTwo 2 = .ok (.invokevirtual 192, 3) := dk_182 0 192 (dk_at dksX1_areTwo_0 2 rfl rfl)
theorem dX1_areTwo_5 : decode cX1_areTwo 5 = .ok (.ifCond .eq 20, 3) := dk_153 0 20 (dk_at dksX1_areTwo_0 5 rfl rfl)
theorem dX1_areTwo_8 : decode cX1_areTwo 8 = .ok (.aload_n 0, 1) := dk_42 (dk_at dksX1_areTwo_0 8 rfl rfl)
theorem dX1_areTwo_9 : decode cX1_areTwo 9 = .ok (.iload_n 2, 1) := dk_28 (dk_at dksX1_areTwo_0 9 rfl rfl)
theorem dX1_areTwo_10 : decode cX1_areTwo 10 = .ok (.invokevirtual 192, 3) := dk_182 0 192 (dk_at dksX1_areTwo_0 10 rfl rfl)
theorem dX1_areTwo_13 : decode cX1_areTwo 13 = .ok (.ifCond .eq 12, 3) := dk_153 0 12 (dk_at dksX1_areTwo_0 13 rfl rfl)
theorem dX1_areTwo_16 : decode cX1_areTwo 16 = .ok (.iload_n 1, 1) := dk_27 (dk_at dksX1_areTwo_0 16 rfl rfl)
theorem dX1_areTwo_17 : decode cX1_areTwo 17 = .ok (.iload_n 2, 1) := dk_28 (dk_at dksX1_areTwo_0 17 rfl rfl)
theorem dX1_areTwo_18 : decode cX1_areTwo 18 = .ok (.if_icmp .eq 7, 3) := dk_159 0 7 (dk_at dksX1_areTwo_0 18 rfl rfl)
theorem dX1_areTwo_21 : decode cX1_areTwo 21 = .ok (.iconst 1, 1) := dk_4 (dk_at dksX1_areTwo_0 21 rfl rfl)
theorem dX1_areTwo_22 : decode cX1_areTwo 22 = .ok (.goto 4, 3) := dk_167 0 4 (dk_at dksX1_areTwo_1 0 rfl rfl)
theorem dX1_areTwo_25 : decode cX1_areTwo 25 = .ok (.iconst 0, 1) := dk_3 (dk_at dksX1_areTwo_1 3 rfl rfl)
theorem dX1_areTwo_26 : decode cX1_areTwo 26 = .ok (.ireturn, 1) := dk_172 (dk_at dksX1_areTwo_1 4 rfl rfl)
def dkwX9_isThere_0 : List UInt8 := [42, 180, 0, 69, 27, 122, 4, 126, 154, 0, 7, 4, 167, 0, 4, 3, 172]
abbrev dktX9_isThere_0 : List UInt8 := dkwX9_isThere_0 ++ []
theorem dksX9_isThere_0 : cX9_isThere.data.toList.drop 0 = dktX9_isThere_0 := by decide +kernel
theorem dX9_isThere_0 : decode cX9_isThere 0 = .ok (.aload_n 0, 1) := dk_42 (dk_at dksX9_isThere_0 0 rfl rfl)
theorem dX9_isThere_1 : decode cX9_isThere 1 = .ok (.getfield 69, 3) := dk_180 0 69 (dk_at dksX9_isThere_0 1 rfl rfl)
theorem dX9_isThere_4 : decode cX9_isThere 4 = .ok (.iload_n 1, 1) := dk_27 (dk_at dksX9_isThere_0 4 rfl rfl)
theorem dX9_isThere_5 : decode cX9_isThere 5 = .ok (.ishr, 1) := dk_122 (dk_at dksX9_isThere_0 5 rfl rfl)
theorem dX9_isThere_6 : decode cX9_isThere 6 = .ok (.iconst 1, 1) := dk_4 (dk_at dksX9_isThere_0 6 rfl rfl)
theorem dX9_isThere_7 : decode cX9_isThere 7 = .ok (.iand, 1) := dk_126 (dk_at dksX9_isThere_0 7 rfl rfl)
theorem dX9_isThere_8 : decode cX9_isThere 8 = .ok (.ifCond .ne 7, 3) := dk_154 0 7 (dk_at dksX9_isThere_0 8 rfl rfl)
theorem dX9_isThere_11 : decode cX9_isThere 11 = .ok (.iconst 1, 1) := dk_4 (dk_at dksX9_isThere_0 11 rfl rfl)
theorem dX9_isThere_12 : decode cX9_isThere 12 = .ok (.goto 4, 3) := dk_167 0 4 (dk_at dksX9_isThere_0 12 rfl rfl)
theorem dX9_isThere_15 : decode cX9_isThere 15 = .ok (.iconst 0, 1) := dk_3 (dk_at dksX9_isThere_0 15 rfl rfl)
theorem dX9_isThere_16 : decode cX9_isThere 16 = .ok (.ireturn, 1) := dk_172 (dk_at dksX9_isThere_0 16 rfl rfl)
def dkwX9_areTogether_1 : List UInt8 := [42, 180, 0, 19, 27, 46, 42, 180, 0, 19, 28, 46, 160, 0, 7, 4, 167, 0, 4, 3, 172]
abbrev dktX9_areTogether_1 : List UInt8 := dkwX9_areTogether_1 ++ []
def dkwX9_areTogether_0 : List UInt8 := [42, 27, 182, 0, 131, 153, 0, 38, 42, 28, 182, 0, 131, 153, 0, 30, 42, 180, 0, 66, 4, 159, 0, 18]
abbrev dktX9_areTogether_0 : List UInt8 := dkwX9_areTogether_0 ++ dktX9_areTogether_1
theorem dksX9_areTogether_0 : cX9_areTogether.data.toList.drop 0 = dktX9_areTogether_0 := by decide +kernel
theorem dksX9_areTogether_1 : cX9_areTogether.data.toList.drop 24 = dktX9_areTogether_1 := dk_seg dksX9_areTogether_0 24 rfl rfl
theorem dX9_areTogether_0 : decode cX9_areTogether 0 = .ok (.aload_n 0, 1) := dk_42 (dk_at dksX9_areTogether_0 0 rfl rfl)
theorem dX9_areTogether_1 : decode cX9_areTogether 1 = .ok (.iload_n 1, 1) := dk_27 (dk_at dksX9_areTogether_0 1 rfl rfl)
theorem dX9_areTogether_2 : decode cX9_areTogether 2 = .ok (.invokevirtual 131, 3) := dk_182 0 131 (dk_at dksX9_areTogether_0 2 rfl rfl)
theorem dX9_areTogether_5 : decode cX9_areTogether 5 = .ok (.ifCond .eq 38, 3) := dk_153 0 38 (dk_at dksX9_areTogether_0 5 rfl rfl)
theorem dX9_areTogether_8 : decode cX9_areTogether 8 = .ok (.aload_n 0, 1) := dk_42 (dk_at dksX9_areTogether_0 8 rfl rfl)
theorem dX9_areTogether_9 : decode cX9_areTogether 9 = .ok (.iload_n 2, 1) := dk_28 (dk_at dksX9_areTogether_0 9 rfl rfl)
theorem dX9_areTogether_10 : decode cX9_areTogether 10 = .ok (.invokevirtual 131, 3) := dk_182 0 131 (dk_at dksX9_areTogether_0 10 rfl rfl)
theorem dX9_areTogether_13 : decode cX9_areTogether 13 = .ok (.ifCond .eq 30, 3) := dk_153 0 30 (dk_at dksX9_areTogether_0 13 rfl rfl)
theorem dX9_areTogether_16 : decode cX9_areTogether 16 = .ok (.aload_n 0, 1) := dk_42 (dk_at dksX9_areTogether_0 16 rfl rfl)
theorem dX9_areTogether_17 : decode cX9_areTogether 17 = .ok (.getfield 66, 3) := dk_180 0 66 (dk_at dksX9_areTogether_0 17 rfl rfl)
theorem dX9_areTogether_20 : decode cX9_areTogether 20 = .ok (.iconst 1, 1) := dk_4 (dk_at dksX9_areTogether_0 20 rfl rfl)
theorem dX9_areTogether_21 : decode cX9_areTogether 21 = .ok (.if_icmp .eq 18, 3) := dk_159 0 18 (dk_at dksX9_areTogether_0 21 rfl rfl)
theorem dX9_areTogether_24 : decode cX9_areTogether 24 = .ok (.aload_n 0, 1) := dk_42 (dk_at dksX9_areTogether_1 0 rfl rfl)
theorem dX9_areTogether_25 : decode cX9_areTogether 25 = .ok (.getfield 19, 3) := dk_180 0 19 (dk_at dksX9_areTogether_1 1 rfl rfl)
theorem dX9_areTogether_28 : decode cX9_areTogether 28 = .ok (.iload_n 1, 1) := dk_27 (dk_at dksX9_areTogether_1 4 rfl rfl)
theorem dX9_areTogether_29 : decode cX9_areTogether 29 = .ok (.iaload, 1) := dk_46 (dk_at dksX9_areTogether_1 5 rfl rfl)
theorem dX9_areTogether_30 : decode cX9_areTogether 30 = .ok (.aload_n 0, 1) := dk_42 (dk_at dksX9_areTogether_1 6 rfl rfl)
theorem dX9_areTogether_31 : decode cX9_areTogether 31 = .ok (.getfield 19, 3) := dk_180 0 19 (dk_at dksX9_areTogether_1 7 rfl rfl)
theorem dX9_areTogether_34 : decode cX9_areTogether 34 = .ok (.iload_n 2, 1) := dk_28 (dk_at dksX9_areTogether_1 10 rfl rfl)
theorem dX9_areTogether_35 : decode cX9_areTogether 35 = .ok (.iaload, 1) := dk_46 (dk_at dksX9_areTogether_1 11 rfl rfl)
theorem dX9_areTogether_36 : decode cX9_areTogether 36 = .ok (.if_icmp .ne 7, 3) := dk_160 0 7 (dk_at dksX9_areTogether_1 12 rfl rfl)
theorem dX9_areTogether_39 : decode cX9_areTogether 39 = .ok (.iconst 1, 1) := dk_4 (dk_at dksX9_areTogether_1 15 rfl rfl)
theorem dX9_areTogether_40 : decode cX9_areTogether 40 = .ok (.goto 4, 3) := dk_167 0 4 (dk_at dksX9_areTogether_1 16 rfl rfl)
theorem dX9_areTogether_43 : decode cX9_areTogether 43 = .ok (.iconst 0, 1) := dk_3 (dk_at dksX9_areTogether_1 19 rfl rfl)
theorem dX9_areTogether_44 : decode cX9_areTogether 44 = .ok (.ireturn, 1) := dk_172 (dk_at dksX9_areTogether_1 20 rfl rfl)
def dkwX4_bit_0 : List UInt8 := [26, 2, 160, 0, 7, 3, 167, 0, 6, 4, 26, 120, 172]
abbrev dktX4_bit_0 : List UInt8 := dkwX4_bit_0 ++ []
theorem dksX4_bit_0 : cX4_bit.data.toList.drop 0 = dktX4_bit_0 := by decide +kernel
theorem dX4_bit_0 : decode cX4_bit 0 = .ok (.iload_n 0, 1) := dk_26 (dk_at dksX4_bit_0 0 rfl rfl)
theorem dX4_bit_1 : decode cX4_bit 1 = .ok (.iconst (-1), 1) := dk_2 (dk_at dksX4_bit_0 1 rfl rfl)
theorem dX4_bit_2 : decode cX4_bit 2 = .ok (.if_icmp .ne 7, 3) := dk_160 0 7 (dk_at dksX4_bit_0 2 rfl rfl)
theorem dX4_bit_5 : decode cX4_bit 5 = .ok (.iconst 0, 1) := dk_3 (dk_at dksX4_bit_0 5 rfl rfl)
theorem dX4_bit_6 : decode cX4_bit 6 = .ok (.goto 6, 3) := dk_167 0 6 (dk_at dksX4_bit_0 6 rfl rfl)
theorem dX4_bit_9 : decode cX4_bit 9 = .ok (.iconst 1, 1) := dk_4 (dk_at dksX4_bit_0 9 rfl rfl)
theorem dX4_bit_10 : decode cX4_bit 10 = .ok (.iload_n 0, 1) := dk_26 (dk_at dksX4_bit_0 10 rfl rfl)
theorem dX4_bit_11 : decode cX4_bit 11 = .ok (.ishl, 1) := dk_120 (dk_at dksX4_bit_0 11 rfl rfl)
theorem dX4_bit_12 : decode cX4_bit 12 = .ok (.ireturn, 1) := dk_172 (dk_at dksX4_bit_0 12 rfl rfl)
def dkwX5_supposes_0 : List UInt8 := [43, 180, 0, 7, 184, 0, 13, 172]
abbrev dktX5_supposes_0 : List UInt8 := dkwX5_supposes_0 ++ []
theorem dksX5_supposes_0 : cX5_supposes.data.toList.drop 0 = dktX5_supposes_0 := by decide +kernel
theorem dX5_supposes_0 : decode cX5_supposes 0 = .ok (.aload_n 1, 1) := dk_43 (dk_at dksX5_supposes_0 0 rfl rfl)
theorem dX5_supposes_1 : decode cX5_supposes 1 = .ok (.getfield 7, 3) := dk_180 0 7 (dk_at dksX5_supposes_0 1 rfl rfl)
theorem dX5_supposes_4 : decode cX5_supposes 4 = .ok (.invokestatic 13, 3) := dk_184 0 13 (dk_at dksX5_supposes_0 4 rfl rfl)
theorem dX5_supposes_7 : decode cX5_supposes 7 = .ok (.ireturn, 1) := dk_172 (dk_at dksX5_supposes_0 7 rfl rfl)
def dkwX6_supposes_0 : List UInt8 := [42, 43, 183, 0, 7, 43, 180, 0, 11, 184, 0, 17, 128, 172]
abbrev dktX6_supposes_0 : List UInt8 := dkwX6_supposes_0 ++ []
theorem dksX6_supposes_0 : cX6_supposes.data.toList.drop 0 = dktX6_supposes_0 := by decide +kernel
theorem dX6_supposes_0 : decode cX6_supposes 0 = .ok (.aload_n 0, 1) := dk_42 (dk_at dksX6_supposes_0 0 rfl rfl)
theorem dX6_supposes_1 : decode cX6_supposes 1 = .ok (.aload_n 1, 1) := dk_43 (dk_at dksX6_supposes_0 1 rfl rfl)
theorem dX6_supposes_2 : decode cX6_supposes 2 = .ok (.invokespecial 7, 3) := dk_183 0 7 (dk_at dksX6_supposes_0 2 rfl rfl)
theorem dX6_supposes_5 : decode cX6_supposes 5 = .ok (.aload_n 1, 1) := dk_43 (dk_at dksX6_supposes_0 5 rfl rfl)
theorem dX6_supposes_6 : decode cX6_supposes 6 = .ok (.getfield 11, 3) := dk_180 0 11 (dk_at dksX6_supposes_0 6 rfl rfl)
theorem dX6_supposes_9 : decode cX6_supposes 9 = .ok (.invokestatic 17, 3) := dk_184 0 17 (dk_at dksX6_supposes_0 9 rfl rfl)
theorem dX6_supposes_12 : decode cX6_supposes 12 = .ok (.ior, 1) := dk_128 (dk_at dksX6_supposes_0 12 rfl rfl)
theorem dX6_supposes_13 : decode cX6_supposes 13 = .ok (.ireturn, 1) := dk_172 (dk_at dksX6_supposes_0 13 rfl rfl)
def dkwX9_can_4 : List UInt8 := [180, 0, 15, 27, 46, 2, 130, 126, 154, 0, 7, 4, 167, 0, 4, 3, 172]
abbrev dktX9_can_4 : List UInt8 := dkwX9_can_4 ++ []
def dkwX9_can_3 : List UInt8 := [161, 0, 5, 3, 172, 42, 180, 0, 3, 180, 0, 110, 25, 5, 180, 0, 95, 50, 25, 5, 182, 0, 144, 42]
abbrev dktX9_can_3 : List UInt8 := dkwX9_can_3 ++ dktX9_can_4
def dkwX9_can_2 : List UInt8 := [159, 0, 27, 21, 4, 153, 0, 24, 42, 180, 0, 25, 27, 46, 42, 180, 0, 3, 180, 0, 32, 180, 0, 141]
abbrev dktX9_can_2 : List UInt8 := dkwX9_can_2 ++ dktX9_can_3
def dkwX9_can_1 : List UInt8 := [42, 27, 28, 182, 0, 137, 153, 0, 43, 42, 180, 0, 66, 6, 160, 0, 11, 42, 180, 0, 72, 29]
abbrev dktX9_can_1 : List UInt8 := dkwX9_can_1 ++ dktX9_can_2
def dkwX9_can_0 : List UInt8 := [42, 180, 0, 3, 180, 0, 32, 180, 0, 134, 29, 182, 0, 41, 192, 0, 96, 58, 5, 27, 28, 159, 0, 52]
abbrev dktX9_can_0 : List UInt8 := dkwX9_can_0 ++ dktX9_can_1
theorem dksX9_can_0 : cX9_can.data.toList.drop 0 = dktX9_can_0 := by decide +kernel
theorem dksX9_can_1 : cX9_can.data.toList.drop 24 = dktX9_can_1 := dk_seg dksX9_can_0 24 rfl rfl
theorem dksX9_can_2 : cX9_can.data.toList.drop 46 = dktX9_can_2 := dk_seg dksX9_can_1 22 rfl rfl
theorem dksX9_can_3 : cX9_can.data.toList.drop 70 = dktX9_can_3 := dk_seg dksX9_can_2 24 rfl rfl
theorem dksX9_can_4 : cX9_can.data.toList.drop 94 = dktX9_can_4 := dk_seg dksX9_can_3 24 rfl rfl
theorem dX9_can_0 : decode cX9_can 0 = .ok (.aload_n 0, 1) := dk_42 (dk_at dksX9_can_0 0 rfl rfl)
theorem dX9_can_1 : decode cX9_can 1 = .ok (.getfield 3, 3) := dk_180 0 3 (dk_at dksX9_can_0 1 rfl rfl)
theorem dX9_can_4 : decode cX9_can 4 = .ok (.getfield 32, 3) := dk_180 0 32 (dk_at dksX9_can_0 4 rfl rfl)
theorem dX9_can_7 : decode cX9_can 7 = .ok (.getfield 134, 3) := dk_180 0 134 (dk_at dksX9_can_0 7 rfl rfl)
theorem dX9_can_10 : decode cX9_can 10 = .ok (.iload_n 3, 1) := dk_29 (dk_at dksX9_can_0 10 rfl rfl)
theorem dX9_can_11 : decode cX9_can 11 = .ok (.invokevirtual 41, 3) := dk_182 0 41 (dk_at dksX9_can_0 11 rfl rfl)
theorem dX9_can_14 : decode cX9_can 14 = .ok (.checkcast 96, 3) := dk_192 0 96 (dk_at dksX9_can_0 14 rfl rfl)
theorem dX9_can_17 : decode cX9_can 17 = .ok (.astore 5, 2) := dk_58 5 (dk_at dksX9_can_0 17 rfl rfl)
theorem dX9_can_19 : decode cX9_can 19 = .ok (.iload_n 1, 1) := dk_27 (dk_at dksX9_can_0 19 rfl rfl)
theorem dX9_can_20 : decode cX9_can 20 = .ok (.iload_n 2, 1) := dk_28 (dk_at dksX9_can_0 20 rfl rfl)
theorem dX9_can_21 : decode cX9_can 21 = .ok (.if_icmp .eq 52, 3) := dk_159 0 52 (dk_at dksX9_can_0 21 rfl rfl)
theorem dX9_can_24 : decode cX9_can 24 = .ok (.aload_n 0, 1) := dk_42 (dk_at dksX9_can_1 0 rfl rfl)
theorem dX9_can_25 : decode cX9_can 25 = .ok (.iload_n 1, 1) := dk_27 (dk_at dksX9_can_1 1 rfl rfl)
theorem dX9_can_26 : decode cX9_can 26 = .ok (.iload_n 2, 1) := dk_28 (dk_at dksX9_can_1 2 rfl rfl)
theorem dX9_can_27 : decode cX9_can 27 = .ok (.invokevirtual 137, 3) := dk_182 0 137 (dk_at dksX9_can_1 3 rfl rfl)
theorem dX9_can_30 : decode cX9_can 30 = .ok (.ifCond .eq 43, 3) := dk_153 0 43 (dk_at dksX9_can_1 6 rfl rfl)
theorem dX9_can_33 : decode cX9_can 33 = .ok (.aload_n 0, 1) := dk_42 (dk_at dksX9_can_1 9 rfl rfl)
theorem dX9_can_34 : decode cX9_can 34 = .ok (.getfield 66, 3) := dk_180 0 66 (dk_at dksX9_can_1 10 rfl rfl)
theorem dX9_can_37 : decode cX9_can 37 = .ok (.iconst 3, 1) := dk_6 (dk_at dksX9_can_1 13 rfl rfl)
theorem dX9_can_38 : decode cX9_can 38 = .ok (.if_icmp .ne 11, 3) := dk_160 0 11 (dk_at dksX9_can_1 14 rfl rfl)
theorem dX9_can_41 : decode cX9_can 41 = .ok (.aload_n 0, 1) := dk_42 (dk_at dksX9_can_1 17 rfl rfl)
theorem dX9_can_42 : decode cX9_can 42 = .ok (.getfield 72, 3) := dk_180 0 72 (dk_at dksX9_can_1 18 rfl rfl)
theorem dX9_can_45 : decode cX9_can 45 = .ok (.iload_n 3, 1) := dk_29 (dk_at dksX9_can_1 21 rfl rfl)
theorem dX9_can_46 : decode cX9_can 46 = .ok (.if_icmp .eq 27, 3) := dk_159 0 27 (dk_at dksX9_can_2 0 rfl rfl)
theorem dX9_can_49 : decode cX9_can 49 = .ok (.iload 4, 2) := dk_21 4 (dk_at dksX9_can_2 3 rfl rfl)
theorem dX9_can_51 : decode cX9_can 51 = .ok (.ifCond .eq 24, 3) := dk_153 0 24 (dk_at dksX9_can_2 5 rfl rfl)
theorem dX9_can_54 : decode cX9_can 54 = .ok (.aload_n 0, 1) := dk_42 (dk_at dksX9_can_2 8 rfl rfl)
theorem dX9_can_55 : decode cX9_can 55 = .ok (.getfield 25, 3) := dk_180 0 25 (dk_at dksX9_can_2 9 rfl rfl)
theorem dX9_can_58 : decode cX9_can 58 = .ok (.iload_n 1, 1) := dk_27 (dk_at dksX9_can_2 12 rfl rfl)
theorem dX9_can_59 : decode cX9_can 59 = .ok (.iaload, 1) := dk_46 (dk_at dksX9_can_2 13 rfl rfl)
theorem dX9_can_60 : decode cX9_can 60 = .ok (.aload_n 0, 1) := dk_42 (dk_at dksX9_can_2 14 rfl rfl)
theorem dX9_can_61 : decode cX9_can 61 = .ok (.getfield 3, 3) := dk_180 0 3 (dk_at dksX9_can_2 15 rfl rfl)
theorem dX9_can_64 : decode cX9_can 64 = .ok (.getfield 32, 3) := dk_180 0 32 (dk_at dksX9_can_2 18 rfl rfl)
theorem dX9_can_67 : decode cX9_can 67 = .ok (.getfield 141, 3) := dk_180 0 141 (dk_at dksX9_can_2 21 rfl rfl)
theorem dX9_can_70 : decode cX9_can 70 = .ok (.if_icmp .lt 5, 3) := dk_161 0 5 (dk_at dksX9_can_3 0 rfl rfl)
theorem dX9_can_73 : decode cX9_can 73 = .ok (.iconst 0, 1) := dk_3 (dk_at dksX9_can_3 3 rfl rfl)
theorem dX9_can_74 : decode cX9_can 74 = .ok (.ireturn, 1) := dk_172 (dk_at dksX9_can_3 4 rfl rfl)
theorem dX9_can_75 : decode cX9_can 75 = .ok (.aload_n 0, 1) := dk_42 (dk_at dksX9_can_3 5 rfl rfl)
theorem dX9_can_76 : decode cX9_can 76 = .ok (.getfield 3, 3) := dk_180 0 3 (dk_at dksX9_can_3 6 rfl rfl)
theorem dX9_can_79 : decode cX9_can 79 = .ok (.getfield 110, 3) := dk_180 0 110 (dk_at dksX9_can_3 9 rfl rfl)
theorem dX9_can_82 : decode cX9_can 82 = .ok (.aload 5, 2) := dk_25 5 (dk_at dksX9_can_3 12 rfl rfl)
theorem dX9_can_84 : decode cX9_can 84 = .ok (.getfield 95, 3) := dk_180 0 95 (dk_at dksX9_can_3 14 rfl rfl)
theorem dX9_can_87 : decode cX9_can 87 = .ok (.aaload, 1) := dk_50 (dk_at dksX9_can_3 17 rfl rfl)
theorem dX9_can_88 : decode cX9_can 88 = .ok (.aload 5, 2) := dk_25 5 (dk_at dksX9_can_3 18 rfl rfl)
theorem dX9_can_90 : decode cX9_can 90 = .ok (.invokevirtual 144, 3) := dk_182 0 144 (dk_at dksX9_can_3 20 rfl rfl)
theorem dX9_can_93 : decode cX9_can 93 = .ok (.aload_n 0, 1) := dk_42 (dk_at dksX9_can_3 23 rfl rfl)
theorem dX9_can_94 : decode cX9_can 94 = .ok (.getfield 15, 3) := dk_180 0 15 (dk_at dksX9_can_4 0 rfl rfl)
theorem dX9_can_97 : decode cX9_can 97 = .ok (.iload_n 1, 1) := dk_27 (dk_at dksX9_can_4 3 rfl rfl)
theorem dX9_can_98 : decode cX9_can 98 = .ok (.iaload, 1) := dk_46 (dk_at dksX9_can_4 4 rfl rfl)
theorem dX9_can_99 : decode cX9_can 99 = .ok (.iconst (-1), 1) := dk_2 (dk_at dksX9_can_4 5 rfl rfl)
theorem dX9_can_100 : decode cX9_can 100 = .ok (.ixor, 1) := dk_130 (dk_at dksX9_can_4 6 rfl rfl)
theorem dX9_can_101 : decode cX9_can 101 = .ok (.iand, 1) := dk_126 (dk_at dksX9_can_4 7 rfl rfl)
theorem dX9_can_102 : decode cX9_can 102 = .ok (.ifCond .ne 7, 3) := dk_154 0 7 (dk_at dksX9_can_4 8 rfl rfl)
theorem dX9_can_105 : decode cX9_can 105 = .ok (.iconst 1, 1) := dk_4 (dk_at dksX9_can_4 11 rfl rfl)
theorem dX9_can_106 : decode cX9_can 106 = .ok (.goto 4, 3) := dk_167 0 4 (dk_at dksX9_can_4 12 rfl rfl)
theorem dX9_can_109 : decode cX9_can 109 = .ok (.iconst 0, 1) := dk_3 (dk_at dksX9_can_4 15 rfl rfl)
theorem dX9_can_110 : decode cX9_can 110 = .ok (.ireturn, 1) := dk_172 (dk_at dksX9_can_4 16 rfl rfl)
def dkwX1_can_1 : List UInt8 := [4, 182, 0, 245, 153, 0, 7, 4, 167, 0, 8, 3, 167, 0, 4, 2, 172]
abbrev dktX1_can_1 : List UInt8 := dkwX1_can_1 ++ []
def dkwX1_can_0 : List UInt8 := [42, 27, 28, 182, 0, 241, 153, 0, 33, 42, 29, 182, 0, 226, 153, 0, 25, 42, 180, 0, 95, 27, 28, 29]
abbrev dktX1_can_0 : List UInt8 := dkwX1_can_0 ++ dktX1_can_1
theorem dksX1_can_0 : cX1_can.data.toList.drop 0 = dktX1_can_0 := by decide +kernel
theorem dksX1_can_1 : cX1_can.data.toList.drop 24 = dktX1_can_1 := dk_seg dksX1_can_0 24 rfl rfl
theorem dX1_can_0 : decode cX1_can 0 = .ok (.aload_n 0, 1) := dk_42 (dk_at dksX1_can_0 0 rfl rfl)
theorem dX1_can_1 : decode cX1_can 1 = .ok (.iload_n 1, 1) := dk_27 (dk_at dksX1_can_0 1 rfl rfl)
theorem dX1_can_2 : decode cX1_can 2 = .ok (.iload_n 2, 1) := dk_28 (dk_at dksX1_can_0 2 rfl rfl)
theorem dX1_can_3 : decode cX1_can 3 = .ok (.invokevirtual 241, 3) := dk_182 0 241 (dk_at dksX1_can_0 3 rfl rfl)
theorem dX1_can_6 : decode cX1_can 6 = .ok (.ifCond .eq 33, 3) := dk_153 0 33 (dk_at dksX1_can_0 6 rfl rfl)
theorem dX1_can_9 : decode cX1_can 9 = .ok (.aload_n 0, 1) := dk_42 (dk_at dksX1_can_0 9 rfl rfl)
theorem dX1_can_10 : decode cX1_can 10 = .ok (.iload_n 3, 1) := dk_29 (dk_at dksX1_can_0 10 rfl rfl)
theorem dX1_can_11 : decode cX1_can 11 = .ok (.invokevirtual 226, 3) := dk_182 0 226 (dk_at dksX1_can_0 11 rfl rfl)
theorem dX1_can_14 : decode cX1_can 14 = .ok (.ifCond .eq 25, 3) := dk_153 0 25 (dk_at dksX1_can_0 14 rfl rfl)
theorem dX1_can_17 : decode cX1_can 17 = .ok (.aload_n 0, 1) := dk_42 (dk_at dksX1_can_0 17 rfl rfl)
theorem dX1_can_18 : decode cX1_can 18 = .ok (.getfield 95, 3) := dk_180 0 95 (dk_at dksX1_can_0 18 rfl rfl)
theorem dX1_can_21 : decode cX1_can 21 = .ok (.iload_n 1, 1) := dk_27 (dk_at dksX1_can_0 21 rfl rfl)
theorem dX1_can_22 : decode cX1_can 22 = .ok (.iload_n 2, 1) := dk_28 (dk_at dksX1_can_0 22 rfl rfl)
theorem dX1_can_23 : decode cX1_can 23 = .ok (.iload_n 3, 1) := dk_29 (dk_at dksX1_can_0 23 rfl rfl)
theorem dX1_can_24 : decode cX1_can 24 = .ok (.iconst 1, 1) := dk_4 (dk_at dksX1_can_1 0 rfl rfl)
theorem dX1_can_25 : decode cX1_can 25 = .ok (.invokevirtual 245, 3) := dk_182 0 245 (dk_at dksX1_can_1 1 rfl rfl)
theorem dX1_can_28 : decode cX1_can 28 = .ok (.ifCond .eq 7, 3) := dk_153 0 7 (dk_at dksX1_can_1 4 rfl rfl)
theorem dX1_can_31 : decode cX1_can 31 = .ok (.iconst 1, 1) := dk_4 (dk_at dksX1_can_1 7 rfl rfl)
theorem dX1_can_32 : decode cX1_can 32 = .ok (.goto 8, 3) := dk_167 0 8 (dk_at dksX1_can_1 8 rfl rfl)
theorem dX1_can_35 : decode cX1_can 35 = .ok (.iconst 0, 1) := dk_3 (dk_at dksX1_can_1 11 rfl rfl)
theorem dX1_can_36 : decode cX1_can 36 = .ok (.goto 4, 3) := dk_167 0 4 (dk_at dksX1_can_1 12 rfl rfl)
theorem dX1_can_39 : decode cX1_can 39 = .ok (.iconst (-1), 1) := dk_2 (dk_at dksX1_can_1 15 rfl rfl)
theorem dX1_can_40 : decode cX1_can 40 = .ok (.ireturn, 1) := dk_172 (dk_at dksX1_can_1 16 rfl rfl)
def dkwX9_wit_1 : List UInt8 := [182, 0, 41, 192, 0, 47, 180, 0, 83, 172]
abbrev dktX9_wit_1 : List UInt8 := dkwX9_wit_1 ++ []
def dkwX9_wit_0 : List UInt8 := [42, 180, 0, 66, 7, 160, 0, 8, 16, 9, 167, 0, 23, 42, 180, 0, 3, 180, 0, 32, 180, 0, 36, 27]
abbrev dktX9_wit_0 : List UInt8 := dkwX9_wit_0 ++ dktX9_wit_1
theorem dksX9_wit_0 : cX9_wit.data.toList.drop 0 = dktX9_wit_0 := by decide +kernel
theorem dksX9_wit_1 : cX9_wit.data.toList.drop 24 = dktX9_wit_1 := dk_seg dksX9_wit_0 24 rfl rfl
theorem dX9_wit_0 : decode cX9_wit 0 = .ok (.aload_n 0, 1) := dk_42 (dk_at dksX9_wit_0 0 rfl rfl)
theorem dX9_wit_1 : decode cX9_wit 1 = .ok (.getfield 66, 3) := dk_180 0 66 (dk_at dksX9_wit_0 1 rfl rfl)
theorem dX9_wit_4 : decode cX9_wit 4 = .ok (.iconst 4, 1) := dk_7 (dk_at dksX9_wit_0 4 rfl rfl)
theorem dX9_wit_5 : decode cX9_wit 5 = .ok (.if_icmp .ne 8, 3) := dk_160 0 8 (dk_at dksX9_wit_0 5 rfl rfl)
theorem dX9_wit_8 : decode cX9_wit 8 = .ok (.bipush 9, 2) := dk_16 9 (dk_at dksX9_wit_0 8 rfl rfl)
theorem dX9_wit_10 : decode cX9_wit 10 = .ok (.goto 23, 3) := dk_167 0 23 (dk_at dksX9_wit_0 10 rfl rfl)
theorem dX9_wit_13 : decode cX9_wit 13 = .ok (.aload_n 0, 1) := dk_42 (dk_at dksX9_wit_0 13 rfl rfl)
theorem dX9_wit_14 : decode cX9_wit 14 = .ok (.getfield 3, 3) := dk_180 0 3 (dk_at dksX9_wit_0 14 rfl rfl)
theorem dX9_wit_17 : decode cX9_wit 17 = .ok (.getfield 32, 3) := dk_180 0 32 (dk_at dksX9_wit_0 17 rfl rfl)
theorem dX9_wit_20 : decode cX9_wit 20 = .ok (.getfield 36, 3) := dk_180 0 36 (dk_at dksX9_wit_0 20 rfl rfl)
theorem dX9_wit_23 : decode cX9_wit 23 = .ok (.iload_n 1, 1) := dk_27 (dk_at dksX9_wit_0 23 rfl rfl)
theorem dX9_wit_24 : decode cX9_wit 24 = .ok (.invokevirtual 41, 3) := dk_182 0 41 (dk_at dksX9_wit_1 0 rfl rfl)
theorem dX9_wit_27 : decode cX9_wit 27 = .ok (.checkcast 47, 3) := dk_192 0 47 (dk_at dksX9_wit_1 3 rfl rfl)
theorem dX9_wit_30 : decode cX9_wit 30 = .ok (.getfield 83, 3) := dk_180 0 83 (dk_at dksX9_wit_1 6 rfl rfl)
theorem dX9_wit_33 : decode cX9_wit 33 = .ok (.ireturn, 1) := dk_172 (dk_at dksX9_wit_1 9 rfl rfl)
def dkwX9_name_5 : List UInt8 := [133, 80, 42, 180, 0, 3, 180, 0, 86, 16, 6, 42, 180, 0, 54, 133, 80, 177]
abbrev dktX9_name_5 : List UInt8 := dkwX9_name_5 ++ []
def dkwX9_name_4 : List UInt8 := [160, 0, 7, 9, 167, 0, 10, 42, 180, 0, 19, 27, 46, 133, 80, 42, 180, 0, 3, 180, 0, 86, 8, 28]
abbrev dktX9_name_4 : List UInt8 := dkwX9_name_4 ++ dktX9_name_5
def dkwX9_name_3 : List UInt8 := [180, 0, 15, 27, 46, 184, 0, 75, 133, 80, 42, 180, 0, 3, 180, 0, 86, 7, 42, 180, 0, 66, 4]
abbrev dktX9_name_3 : List UInt8 := dkwX9_name_3 ++ dktX9_name_4
def dkwX9_name_2 : List UInt8 := [180, 0, 3, 180, 0, 86, 5, 42, 180, 0, 22, 27, 46, 133, 80, 42, 180, 0, 3, 180, 0, 86, 6, 42]
abbrev dktX9_name_2 : List UInt8 := dkwX9_name_2 ++ dktX9_name_3
def dkwX9_name_1 : List UInt8 := [192, 0, 47, 180, 0, 90, 133, 80, 42, 180, 0, 3, 180, 0, 86, 4, 42, 27, 182, 0, 93, 133, 80, 42]
abbrev dktX9_name_1 : List UInt8 := dkwX9_name_1 ++ dktX9_name_2
def dkwX9_name_0 : List UInt8 := [42, 180, 0, 3, 180, 0, 86, 3, 42, 180, 0, 3, 180, 0, 32, 180, 0, 36, 27, 182, 0, 41]
abbrev dktX9_name_0 : List UInt8 := dkwX9_name_0 ++ dktX9_name_1
theorem dksX9_name_0 : cX9_name.data.toList.drop 0 = dktX9_name_0 := by decide +kernel
theorem dksX9_name_1 : cX9_name.data.toList.drop 22 = dktX9_name_1 := dk_seg dksX9_name_0 22 rfl rfl
theorem dksX9_name_2 : cX9_name.data.toList.drop 46 = dktX9_name_2 := dk_seg dksX9_name_1 24 rfl rfl
theorem dksX9_name_3 : cX9_name.data.toList.drop 70 = dktX9_name_3 := dk_seg dksX9_name_2 24 rfl rfl
theorem dksX9_name_4 : cX9_name.data.toList.drop 93 = dktX9_name_4 := dk_seg dksX9_name_3 23 rfl rfl
theorem dksX9_name_5 : cX9_name.data.toList.drop 117 = dktX9_name_5 := dk_seg dksX9_name_4 24 rfl rfl
theorem dX9_name_0 : decode cX9_name 0 = .ok (.aload_n 0, 1) := dk_42 (dk_at dksX9_name_0 0 rfl rfl)
theorem dX9_name_1 : decode cX9_name 1 = .ok (.getfield 3, 3) := dk_180 0 3 (dk_at dksX9_name_0 1 rfl rfl)
theorem dX9_name_4 : decode cX9_name 4 = .ok (.getfield 86, 3) := dk_180 0 86 (dk_at dksX9_name_0 4 rfl rfl)
theorem dX9_name_7 : decode cX9_name 7 = .ok (.iconst 0, 1) := dk_3 (dk_at dksX9_name_0 7 rfl rfl)
theorem dX9_name_8 : decode cX9_name 8 = .ok (.aload_n 0, 1) := dk_42 (dk_at dksX9_name_0 8 rfl rfl)
theorem dX9_name_9 : decode cX9_name 9 = .ok (.getfield 3, 3) := dk_180 0 3 (dk_at dksX9_name_0 9 rfl rfl)
theorem dX9_name_12 : decode cX9_name 12 = .ok (.getfield 32, 3) := dk_180 0 32 (dk_at dksX9_name_0 12 rfl rfl)
theorem dX9_name_15 : decode cX9_name 15 = .ok (.getfield 36, 3) := dk_180 0 36 (dk_at dksX9_name_0 15 rfl rfl)
theorem dX9_name_18 : decode cX9_name 18 = .ok (.iload_n 1, 1) := dk_27 (dk_at dksX9_name_0 18 rfl rfl)
theorem dX9_name_19 : decode cX9_name 19 = .ok (.invokevirtual 41, 3) := dk_182 0 41 (dk_at dksX9_name_0 19 rfl rfl)
theorem dX9_name_22 : decode cX9_name 22 = .ok (.checkcast 47, 3) := dk_192 0 47 (dk_at dksX9_name_1 0 rfl rfl)
theorem dX9_name_25 : decode cX9_name 25 = .ok (.getfield 90, 3) := dk_180 0 90 (dk_at dksX9_name_1 3 rfl rfl)
theorem dX9_name_28 : decode cX9_name 28 = .ok (.i2l, 1) := dk_133 (dk_at dksX9_name_1 6 rfl rfl)
theorem dX9_name_29 : decode cX9_name 29 = .ok (.lastore, 1) := dk_80 (dk_at dksX9_name_1 7 rfl rfl)
theorem dX9_name_30 : decode cX9_name 30 = .ok (.aload_n 0, 1) := dk_42 (dk_at dksX9_name_1 8 rfl rfl)
theorem dX9_name_31 : decode cX9_name 31 = .ok (.getfield 3, 3) := dk_180 0 3 (dk_at dksX9_name_1 9 rfl rfl)
theorem dX9_name_34 : decode cX9_name 34 = .ok (.getfield 86, 3) := dk_180 0 86 (dk_at dksX9_name_1 12 rfl rfl)
theorem dX9_name_37 : decode cX9_name 37 = .ok (.iconst 1, 1) := dk_4 (dk_at dksX9_name_1 15 rfl rfl)
theorem dX9_name_38 : decode cX9_name 38 = .ok (.aload_n 0, 1) := dk_42 (dk_at dksX9_name_1 16 rfl rfl)
theorem dX9_name_39 : decode cX9_name 39 = .ok (.iload_n 1, 1) := dk_27 (dk_at dksX9_name_1 17 rfl rfl)
theorem dX9_name_40 : decode cX9_name 40 = .ok (.invokevirtual 93, 3) := dk_182 0 93 (dk_at dksX9_name_1 18 rfl rfl)
theorem dX9_name_43 : decode cX9_name 43 = .ok (.i2l, 1) := dk_133 (dk_at dksX9_name_1 21 rfl rfl)
theorem dX9_name_44 : decode cX9_name 44 = .ok (.lastore, 1) := dk_80 (dk_at dksX9_name_1 22 rfl rfl)
theorem dX9_name_45 : decode cX9_name 45 = .ok (.aload_n 0, 1) := dk_42 (dk_at dksX9_name_1 23 rfl rfl)
theorem dX9_name_46 : decode cX9_name 46 = .ok (.getfield 3, 3) := dk_180 0 3 (dk_at dksX9_name_2 0 rfl rfl)
theorem dX9_name_49 : decode cX9_name 49 = .ok (.getfield 86, 3) := dk_180 0 86 (dk_at dksX9_name_2 3 rfl rfl)
theorem dX9_name_52 : decode cX9_name 52 = .ok (.iconst 2, 1) := dk_5 (dk_at dksX9_name_2 6 rfl rfl)
theorem dX9_name_53 : decode cX9_name 53 = .ok (.aload_n 0, 1) := dk_42 (dk_at dksX9_name_2 7 rfl rfl)
theorem dX9_name_54 : decode cX9_name 54 = .ok (.getfield 22, 3) := dk_180 0 22 (dk_at dksX9_name_2 8 rfl rfl)
theorem dX9_name_57 : decode cX9_name 57 = .ok (.iload_n 1, 1) := dk_27 (dk_at dksX9_name_2 11 rfl rfl)
theorem dX9_name_58 : decode cX9_name 58 = .ok (.iaload, 1) := dk_46 (dk_at dksX9_name_2 12 rfl rfl)
theorem dX9_name_59 : decode cX9_name 59 = .ok (.i2l, 1) := dk_133 (dk_at dksX9_name_2 13 rfl rfl)
theorem dX9_name_60 : decode cX9_name 60 = .ok (.lastore, 1) := dk_80 (dk_at dksX9_name_2 14 rfl rfl)
theorem dX9_name_61 : decode cX9_name 61 = .ok (.aload_n 0, 1) := dk_42 (dk_at dksX9_name_2 15 rfl rfl)
theorem dX9_name_62 : decode cX9_name 62 = .ok (.getfield 3, 3) := dk_180 0 3 (dk_at dksX9_name_2 16 rfl rfl)
theorem dX9_name_65 : decode cX9_name 65 = .ok (.getfield 86, 3) := dk_180 0 86 (dk_at dksX9_name_2 19 rfl rfl)
theorem dX9_name_68 : decode cX9_name 68 = .ok (.iconst 3, 1) := dk_6 (dk_at dksX9_name_2 22 rfl rfl)
theorem dX9_name_69 : decode cX9_name 69 = .ok (.aload_n 0, 1) := dk_42 (dk_at dksX9_name_2 23 rfl rfl)
theorem dX9_name_70 : decode cX9_name 70 = .ok (.getfield 15, 3) := dk_180 0 15 (dk_at dksX9_name_3 0 rfl rfl)
theorem dX9_name_73 : decode cX9_name 73 = .ok (.iload_n 1, 1) := dk_27 (dk_at dksX9_name_3 3 rfl rfl)
theorem dX9_name_74 : decode cX9_name 74 = .ok (.iaload, 1) := dk_46 (dk_at dksX9_name_3 4 rfl rfl)
theorem dX9_name_75 : decode cX9_name 75 = .ok (.invokestatic 75, 3) := dk_184 0 75 (dk_at dksX9_name_3 5 rfl rfl)
theorem dX9_name_78 : decode cX9_name 78 = .ok (.i2l, 1) := dk_133 (dk_at dksX9_name_3 8 rfl rfl)
theorem dX9_name_79 : decode cX9_name 79 = .ok (.lastore, 1) := dk_80 (dk_at dksX9_name_3 9 rfl rfl)
theorem dX9_name_80 : decode cX9_name 80 = .ok (.aload_n 0, 1) := dk_42 (dk_at dksX9_name_3 10 rfl rfl)
theorem dX9_name_81 : decode cX9_name 81 = .ok (.getfield 3, 3) := dk_180 0 3 (dk_at dksX9_name_3 11 rfl rfl)
theorem dX9_name_84 : decode cX9_name 84 = .ok (.getfield 86, 3) := dk_180 0 86 (dk_at dksX9_name_3 14 rfl rfl)
theorem dX9_name_87 : decode cX9_name 87 = .ok (.iconst 4, 1) := dk_7 (dk_at dksX9_name_3 17 rfl rfl)
theorem dX9_name_88 : decode cX9_name 88 = .ok (.aload_n 0, 1) := dk_42 (dk_at dksX9_name_3 18 rfl rfl)
theorem dX9_name_89 : decode cX9_name 89 = .ok (.getfield 66, 3) := dk_180 0 66 (dk_at dksX9_name_3 19 rfl rfl)
theorem dX9_name_92 : decode cX9_name 92 = .ok (.iconst 1, 1) := dk_4 (dk_at dksX9_name_3 22 rfl rfl)
theorem dX9_name_93 : decode cX9_name 93 = .ok (.if_icmp .ne 7, 3) := dk_160 0 7 (dk_at dksX9_name_4 0 rfl rfl)
theorem dX9_name_96 : decode cX9_name 96 = .ok (.lconst 0, 1) := dk_9 (dk_at dksX9_name_4 3 rfl rfl)
theorem dX9_name_97 : decode cX9_name 97 = .ok (.goto 10, 3) := dk_167 0 10 (dk_at dksX9_name_4 4 rfl rfl)
theorem dX9_name_100 : decode cX9_name 100 = .ok (.aload_n 0, 1) := dk_42 (dk_at dksX9_name_4 7 rfl rfl)
theorem dX9_name_101 : decode cX9_name 101 = .ok (.getfield 19, 3) := dk_180 0 19 (dk_at dksX9_name_4 8 rfl rfl)
theorem dX9_name_104 : decode cX9_name 104 = .ok (.iload_n 1, 1) := dk_27 (dk_at dksX9_name_4 11 rfl rfl)
theorem dX9_name_105 : decode cX9_name 105 = .ok (.iaload, 1) := dk_46 (dk_at dksX9_name_4 12 rfl rfl)
theorem dX9_name_106 : decode cX9_name 106 = .ok (.i2l, 1) := dk_133 (dk_at dksX9_name_4 13 rfl rfl)
theorem dX9_name_107 : decode cX9_name 107 = .ok (.lastore, 1) := dk_80 (dk_at dksX9_name_4 14 rfl rfl)
theorem dX9_name_108 : decode cX9_name 108 = .ok (.aload_n 0, 1) := dk_42 (dk_at dksX9_name_4 15 rfl rfl)
theorem dX9_name_109 : decode cX9_name 109 = .ok (.getfield 3, 3) := dk_180 0 3 (dk_at dksX9_name_4 16 rfl rfl)
theorem dX9_name_112 : decode cX9_name 112 = .ok (.getfield 86, 3) := dk_180 0 86 (dk_at dksX9_name_4 19 rfl rfl)
theorem dX9_name_115 : decode cX9_name 115 = .ok (.iconst 5, 1) := dk_8 (dk_at dksX9_name_4 22 rfl rfl)
theorem dX9_name_116 : decode cX9_name 116 = .ok (.iload_n 2, 1) := dk_28 (dk_at dksX9_name_4 23 rfl rfl)
theorem dX9_name_117 : decode cX9_name 117 = .ok (.i2l, 1) := dk_133 (dk_at dksX9_name_5 0 rfl rfl)
theorem dX9_name_118 : decode cX9_name 118 = .ok (.lastore, 1) := dk_80 (dk_at dksX9_name_5 1 rfl rfl)
theorem dX9_name_119 : decode cX9_name 119 = .ok (.aload_n 0, 1) := dk_42 (dk_at dksX9_name_5 2 rfl rfl)
theorem dX9_name_120 : decode cX9_name 120 = .ok (.getfield 3, 3) := dk_180 0 3 (dk_at dksX9_name_5 3 rfl rfl)
theorem dX9_name_123 : decode cX9_name 123 = .ok (.getfield 86, 3) := dk_180 0 86 (dk_at dksX9_name_5 6 rfl rfl)
theorem dX9_name_126 : decode cX9_name 126 = .ok (.bipush 6, 2) := dk_16 6 (dk_at dksX9_name_5 9 rfl rfl)
theorem dX9_name_128 : decode cX9_name 128 = .ok (.aload_n 0, 1) := dk_42 (dk_at dksX9_name_5 11 rfl rfl)
theorem dX9_name_129 : decode cX9_name 129 = .ok (.getfield 54, 3) := dk_180 0 54 (dk_at dksX9_name_5 12 rfl rfl)
theorem dX9_name_132 : decode cX9_name 132 = .ok (.i2l, 1) := dk_133 (dk_at dksX9_name_5 15 rfl rfl)
theorem dX9_name_133 : decode cX9_name 133 = .ok (.lastore, 1) := dk_80 (dk_at dksX9_name_5 16 rfl rfl)
theorem dX9_name_134 : decode cX9_name 134 = .ok (.return_, 1) := dk_177 (dk_at dksX9_name_5 17 rfl rfl)
def dkwX16_of_0 : List UInt8 := [42, 180, 0, 7, 133, 173]
abbrev dktX16_of_0 : List UInt8 := dkwX16_of_0 ++ []
theorem dksX16_of_0 : cX16_of.data.toList.drop 0 = dktX16_of_0 := by decide +kernel
theorem dX16_of_0 : decode cX16_of 0 = .ok (.aload_n 0, 1) := dk_42 (dk_at dksX16_of_0 0 rfl rfl)
theorem dX16_of_1 : decode cX16_of 1 = .ok (.getfield 7, 3) := dk_180 0 7 (dk_at dksX16_of_0 1 rfl rfl)
theorem dX16_of_4 : decode cX16_of 4 = .ok (.i2l, 1) := dk_133 (dk_at dksX16_of_0 4 rfl rfl)
theorem dX16_of_5 : decode cX16_of 5 = .ok (.lreturn, 1) := dk_173 (dk_at dksX16_of_0 5 rfl rfl)
def dkwX17_of_0 : List UInt8 := [43, 42, 180, 0, 7, 47, 173]
abbrev dktX17_of_0 : List UInt8 := dkwX17_of_0 ++ []
theorem dksX17_of_0 : cX17_of.data.toList.drop 0 = dktX17_of_0 := by decide +kernel
theorem dX17_of_0 : decode cX17_of 0 = .ok (.aload_n 1, 1) := dk_43 (dk_at dksX17_of_0 0 rfl rfl)
theorem dX17_of_1 : decode cX17_of 1 = .ok (.aload_n 0, 1) := dk_42 (dk_at dksX17_of_0 1 rfl rfl)
theorem dX17_of_2 : decode cX17_of 2 = .ok (.getfield 7, 3) := dk_180 0 7 (dk_at dksX17_of_0 2 rfl rfl)
theorem dX17_of_5 : decode cX17_of 5 = .ok (.laload, 1) := dk_47 (dk_at dksX17_of_0 5 rfl rfl)
theorem dX17_of_6 : decode cX17_of 6 = .ok (.lreturn, 1) := dk_173 (dk_at dksX17_of_0 6 rfl rfl)
def dkwX19_is_0 : List UInt8 := [26, 153, 0, 7, 10, 167, 0, 4, 9, 173]
abbrev dktX19_is_0 : List UInt8 := dkwX19_is_0 ++ []
theorem dksX19_is_0 : cX19_is.data.toList.drop 0 = dktX19_is_0 := by decide +kernel
theorem dX19_is_0 : decode cX19_is 0 = .ok (.iload_n 0, 1) := dk_26 (dk_at dksX19_is_0 0 rfl rfl)
theorem dX19_is_1 : decode cX19_is 1 = .ok (.ifCond .eq 7, 3) := dk_153 0 7 (dk_at dksX19_is_0 1 rfl rfl)
theorem dX19_is_4 : decode cX19_is 4 = .ok (.lconst 1, 1) := dk_10 (dk_at dksX19_is_0 4 rfl rfl)
theorem dX19_is_5 : decode cX19_is 5 = .ok (.goto 4, 3) := dk_167 0 4 (dk_at dksX19_is_0 5 rfl rfl)
theorem dX19_is_8 : decode cX19_is 8 = .ok (.lconst 0, 1) := dk_9 (dk_at dksX19_is_0 8 rfl rfl)
theorem dX19_is_9 : decode cX19_is 9 = .ok (.lreturn, 1) := dk_173 (dk_at dksX19_is_0 9 rfl rfl)
def dkwX19_times_1 : List UInt8 := [178, 0, 36, 191, 30, 32, 105, 173]
abbrev dktX19_times_1 : List UInt8 := dkwX19_times_1 ++ []
def dkwX19_times_0 : List UInt8 := [30, 9, 148, 153, 0, 23, 32, 184, 0, 44, 20, 0, 49, 30, 184, 0, 44, 109, 148, 158, 0, 7]
abbrev dktX19_times_0 : List UInt8 := dkwX19_times_0 ++ dktX19_times_1
theorem dksX19_times_0 : cX19_times.data.toList.drop 0 = dktX19_times_0 := by decide +kernel
theorem dksX19_times_1 : cX19_times.data.toList.drop 22 = dktX19_times_1 := dk_seg dksX19_times_0 22 rfl rfl
theorem dX19_times_0 : decode cX19_times 0 = .ok (.lload_n 0, 1) := dk_30 (dk_at dksX19_times_0 0 rfl rfl)
theorem dX19_times_1 : decode cX19_times 1 = .ok (.lconst 0, 1) := dk_9 (dk_at dksX19_times_0 1 rfl rfl)
theorem dX19_times_2 : decode cX19_times 2 = .ok (.lcmp, 1) := dk_148 (dk_at dksX19_times_0 2 rfl rfl)
theorem dX19_times_3 : decode cX19_times 3 = .ok (.ifCond .eq 23, 3) := dk_153 0 23 (dk_at dksX19_times_0 3 rfl rfl)
theorem dX19_times_6 : decode cX19_times 6 = .ok (.lload_n 2, 1) := dk_32 (dk_at dksX19_times_0 6 rfl rfl)
theorem dX19_times_7 : decode cX19_times 7 = .ok (.invokestatic 44, 3) := dk_184 0 44 (dk_at dksX19_times_0 7 rfl rfl)
theorem dX19_times_10 : decode cX19_times 10 = .ok (.ldc2_w 49, 3) := dk_20 0 49 (dk_at dksX19_times_0 10 rfl rfl)
theorem dX19_times_13 : decode cX19_times 13 = .ok (.lload_n 0, 1) := dk_30 (dk_at dksX19_times_0 13 rfl rfl)
theorem dX19_times_14 : decode cX19_times 14 = .ok (.invokestatic 44, 3) := dk_184 0 44 (dk_at dksX19_times_0 14 rfl rfl)
theorem dX19_times_17 : decode cX19_times 17 = .ok (.ldiv, 1) := dk_109 (dk_at dksX19_times_0 17 rfl rfl)
theorem dX19_times_18 : decode cX19_times 18 = .ok (.lcmp, 1) := dk_148 (dk_at dksX19_times_0 18 rfl rfl)
theorem dX19_times_19 : decode cX19_times 19 = .ok (.ifCond .le 7, 3) := dk_158 0 7 (dk_at dksX19_times_0 19 rfl rfl)
theorem dX19_times_22 : decode cX19_times 22 = .ok (.getstatic 36, 3) := dk_178 0 36 (dk_at dksX19_times_1 0 rfl rfl)
theorem dX19_times_25 : decode cX19_times 25 = .ok (.athrow, 1) := dk_191 (dk_at dksX19_times_1 3 rfl rfl)
theorem dX19_times_26 : decode cX19_times 26 = .ok (.lload_n 0, 1) := dk_30 (dk_at dksX19_times_1 4 rfl rfl)
theorem dX19_times_27 : decode cX19_times 27 = .ok (.lload_n 2, 1) := dk_32 (dk_at dksX19_times_1 5 rfl rfl)
theorem dX19_times_28 : decode cX19_times 28 = .ok (.lmul, 1) := dk_105 (dk_at dksX19_times_1 6 rfl rfl)
theorem dX19_times_29 : decode cX19_times 29 = .ok (.lreturn, 1) := dk_173 (dk_at dksX19_times_1 7 rfl rfl)
def dkwX1_sure_0 : List UInt8 := [30, 20, 0, 5, 148, 157, 0, 11, 30, 20, 0, 7, 148, 156, 0, 7, 178, 0, 9, 191, 30, 173]
abbrev dktX1_sure_0 : List UInt8 := dkwX1_sure_0 ++ []
theorem dksX1_sure_0 : cX1_sure.data.toList.drop 0 = dktX1_sure_0 := by decide +kernel
theorem dX1_sure_0 : decode cX1_sure 0 = .ok (.lload_n 0, 1) := dk_30 (dk_at dksX1_sure_0 0 rfl rfl)
theorem dX1_sure_1 : decode cX1_sure 1 = .ok (.ldc2_w 5, 3) := dk_20 0 5 (dk_at dksX1_sure_0 1 rfl rfl)
theorem dX1_sure_4 : decode cX1_sure 4 = .ok (.lcmp, 1) := dk_148 (dk_at dksX1_sure_0 4 rfl rfl)
theorem dX1_sure_5 : decode cX1_sure 5 = .ok (.ifCond .gt 11, 3) := dk_157 0 11 (dk_at dksX1_sure_0 5 rfl rfl)
theorem dX1_sure_8 : decode cX1_sure 8 = .ok (.lload_n 0, 1) := dk_30 (dk_at dksX1_sure_0 8 rfl rfl)
theorem dX1_sure_9 : decode cX1_sure 9 = .ok (.ldc2_w 7, 3) := dk_20 0 7 (dk_at dksX1_sure_0 9 rfl rfl)
theorem dX1_sure_12 : decode cX1_sure 12 = .ok (.lcmp, 1) := dk_148 (dk_at dksX1_sure_0 12 rfl rfl)
theorem dX1_sure_13 : decode cX1_sure 13 = .ok (.ifCond .ge 7, 3) := dk_156 0 7 (dk_at dksX1_sure_0 13 rfl rfl)
theorem dX1_sure_16 : decode cX1_sure 16 = .ok (.getstatic 9, 3) := dk_178 0 9 (dk_at dksX1_sure_0 16 rfl rfl)
theorem dX1_sure_19 : decode cX1_sure 19 = .ok (.athrow, 1) := dk_191 (dk_at dksX1_sure_0 19 rfl rfl)
theorem dX1_sure_20 : decode cX1_sure 20 = .ok (.lload_n 0, 1) := dk_30 (dk_at dksX1_sure_0 20 rfl rfl)
theorem dX1_sure_21 : decode cX1_sure 21 = .ok (.lreturn, 1) := dk_173 (dk_at dksX1_sure_0 21 rfl rfl)
def dkwX19_of_9 : List UInt8 := [153, 0, 7, 4, 167, 0, 4, 3, 184, 0, 40, 173]
abbrev dktX19_of_9 : List UInt8 := dkwX19_of_9 ++ []
def dkwX19_of_8 : List UInt8 := [9, 148, 153, 0, 7, 4, 167, 0, 4, 3, 184, 0, 40, 173, 32, 9, 148, 154, 0, 10, 22, 4, 9, 148]
abbrev dktX19_of_8 : List UInt8 := dkwX19_of_8 ++ dktX19_of_9
def dkwX19_of_7 : List UInt8 := [32, 22, 4, 148, 153, 0, 7, 4, 167, 0, 4, 3, 184, 0, 40, 173, 32, 9, 148, 153, 0, 14, 22, 4]
abbrev dktX19_of_7 : List UInt8 := dkwX19_of_7 ++ dktX19_of_8
def dkwX19_of_6 : List UInt8 := [167, 0, 4, 3, 184, 0, 40, 173, 32, 22, 4, 148, 155, 0, 7, 4, 167, 0, 4, 3, 184, 0, 40, 173]
abbrev dktX19_of_6 : List UInt8 := dkwX19_of_6 ++ dktX19_of_7
def dkwX19_of_5 : List UInt8 := [32, 22, 4, 148, 154, 0, 7, 4, 167, 0, 4, 3, 184, 0, 40, 173, 32, 22, 4, 148, 157, 0, 7, 4]
abbrev dktX19_of_5 : List UInt8 := dkwX19_of_5 ++ dktX19_of_6
def dkwX19_of_4 : List UInt8 := [167, 0, 4, 3, 184, 0, 40, 173, 32, 22, 4, 148, 158, 0, 7, 4, 167, 0, 4, 3, 184, 0, 40, 173]
abbrev dktX19_of_4 : List UInt8 := dkwX19_of_4 ++ dktX19_of_5
def dkwX19_of_3 : List UInt8 := [22, 4, 9, 148, 154, 0, 7, 178, 0, 36, 191, 32, 22, 4, 109, 173, 32, 22, 4, 148, 156, 0, 7, 4]
abbrev dktX19_of_3 : List UInt8 := dkwX19_of_3 ++ dktX19_of_4
def dkwX19_of_2 : List UInt8 := [32, 22, 4, 97, 184, 0, 28, 173, 32, 22, 4, 101, 184, 0, 28, 173, 32, 22, 4, 184, 0, 32, 173]
abbrev dktX19_of_2 : List UInt8 := dkwX19_of_2 ++ dktX19_of_3
def dkwX19_of_1 : List UInt8 := [171, 0, 0, 0, 254, 0, 0, 0, 11, 0, 0, 0, 16, 0, 0, 0, 232, 0, 0, 0, 42, 0, 0, 0, 113, 0, 0, 0, 43, 0, 0, 0, 97, 0, 0, 0, 45, 0, 0, 0, 105, 0, 0, 0, 47, 0, 0, 0, 120, 0, 0, 0, 60, 0, 0, 0, 136, 0, 0, 0, 61, 0, 0, 0, 168, 0, 0, 0, 62, 0, 0, 0, 152, 0, 0, 1, 0, 0, 0, 0, 184, 0, 0, 1, 1, 0, 0, 0, 200, 0, 0, 1, 2, 0, 0, 0, 216]
abbrev dktX19_of_1 : List UInt8 := dkwX19_of_1 ++ dktX19_of_2
def dkwX19_of_0 : List UInt8 := [42, 180, 0, 19, 43, 182, 0, 22, 65, 42, 180, 0, 15, 43, 182, 0, 22, 55, 4, 42, 180, 0, 9]
abbrev dktX19_of_0 : List UInt8 := dkwX19_of_0 ++ dktX19_of_1
theorem dksX19_of_0 : cX19_of.data.toList.drop 0 = dktX19_of_0 := by decide +kernel
theorem dksX19_of_1 : cX19_of.data.toList.drop 23 = dktX19_of_1 := dk_seg dksX19_of_0 23 rfl rfl
theorem dksX19_of_2 : cX19_of.data.toList.drop 120 = dktX19_of_2 := dk_seg dksX19_of_1 97 rfl rfl
theorem dksX19_of_3 : cX19_of.data.toList.drop 143 = dktX19_of_3 := dk_seg dksX19_of_2 23 rfl rfl
theorem dksX19_of_4 : cX19_of.data.toList.drop 167 = dktX19_of_4 := dk_seg dksX19_of_3 24 rfl rfl
theorem dksX19_of_5 : cX19_of.data.toList.drop 191 = dktX19_of_5 := dk_seg dksX19_of_4 24 rfl rfl
theorem dksX19_of_6 : cX19_of.data.toList.drop 215 = dktX19_of_6 := dk_seg dksX19_of_5 24 rfl rfl
theorem dksX19_of_7 : cX19_of.data.toList.drop 239 = dktX19_of_7 := dk_seg dksX19_of_6 24 rfl rfl
theorem dksX19_of_8 : cX19_of.data.toList.drop 263 = dktX19_of_8 := dk_seg dksX19_of_7 24 rfl rfl
theorem dksX19_of_9 : cX19_of.data.toList.drop 287 = dktX19_of_9 := dk_seg dksX19_of_8 24 rfl rfl
theorem dX19_of_0 : decode cX19_of 0 = .ok (.aload_n 0, 1) := dk_42 (dk_at dksX19_of_0 0 rfl rfl)
theorem dX19_of_1 : decode cX19_of 1 = .ok (.getfield 19, 3) := dk_180 0 19 (dk_at dksX19_of_0 1 rfl rfl)
theorem dX19_of_4 : decode cX19_of 4 = .ok (.aload_n 1, 1) := dk_43 (dk_at dksX19_of_0 4 rfl rfl)
theorem dX19_of_5 : decode cX19_of 5 = .ok (.invokevirtual 22, 3) := dk_182 0 22 (dk_at dksX19_of_0 5 rfl rfl)
theorem dX19_of_8 : decode cX19_of 8 = .ok (.lstore_n 2, 1) := dk_65 (dk_at dksX19_of_0 8 rfl rfl)
theorem dX19_of_9 : decode cX19_of 9 = .ok (.aload_n 0, 1) := dk_42 (dk_at dksX19_of_0 9 rfl rfl)
theorem dX19_of_10 : decode cX19_of 10 = .ok (.getfield 15, 3) := dk_180 0 15 (dk_at dksX19_of_0 10 rfl rfl)
theorem dX19_of_13 : decode cX19_of 13 = .ok (.aload_n 1, 1) := dk_43 (dk_at dksX19_of_0 13 rfl rfl)
theorem dX19_of_14 : decode cX19_of 14 = .ok (.invokevirtual 22, 3) := dk_182 0 22 (dk_at dksX19_of_0 14 rfl rfl)
theorem dX19_of_17 : decode cX19_of 17 = .ok (.lstore 4, 2) := dk_55 4 (dk_at dksX19_of_0 17 rfl rfl)
theorem dX19_of_19 : decode cX19_of 19 = .ok (.aload_n 0, 1) := dk_42 (dk_at dksX19_of_0 19 rfl rfl)
theorem dX19_of_20 : decode cX19_of 20 = .ok (.getfield 9, 3) := dk_180 0 9 (dk_at dksX19_of_0 20 rfl rfl)
theorem dX19_of_23 : decode cX19_of 23 = .ok (.lookupswitch 254 #[(16, 232), (42, 113), (43, 97), (45, 105), (47, 120), (60, 136), (61, 168), (62, 152), (256, 184), (257, 200), (258, 216)], 97) := by decide +kernel
theorem dX19_of_120 : decode cX19_of 120 = .ok (.lload_n 2, 1) := dk_32 (dk_at dksX19_of_2 0 rfl rfl)
theorem dX19_of_121 : decode cX19_of 121 = .ok (.lload 4, 2) := dk_22 4 (dk_at dksX19_of_2 1 rfl rfl)
theorem dX19_of_123 : decode cX19_of 123 = .ok (.ladd, 1) := dk_97 (dk_at dksX19_of_2 3 rfl rfl)
theorem dX19_of_124 : decode cX19_of 124 = .ok (.invokestatic 28, 3) := dk_184 0 28 (dk_at dksX19_of_2 4 rfl rfl)
theorem dX19_of_127 : decode cX19_of 127 = .ok (.lreturn, 1) := dk_173 (dk_at dksX19_of_2 7 rfl rfl)
theorem dX19_of_128 : decode cX19_of 128 = .ok (.lload_n 2, 1) := dk_32 (dk_at dksX19_of_2 8 rfl rfl)
theorem dX19_of_129 : decode cX19_of 129 = .ok (.lload 4, 2) := dk_22 4 (dk_at dksX19_of_2 9 rfl rfl)
theorem dX19_of_131 : decode cX19_of 131 = .ok (.lsub, 1) := dk_101 (dk_at dksX19_of_2 11 rfl rfl)
theorem dX19_of_132 : decode cX19_of 132 = .ok (.invokestatic 28, 3) := dk_184 0 28 (dk_at dksX19_of_2 12 rfl rfl)
theorem dX19_of_135 : decode cX19_of 135 = .ok (.lreturn, 1) := dk_173 (dk_at dksX19_of_2 15 rfl rfl)
theorem dX19_of_136 : decode cX19_of 136 = .ok (.lload_n 2, 1) := dk_32 (dk_at dksX19_of_2 16 rfl rfl)
theorem dX19_of_137 : decode cX19_of 137 = .ok (.lload 4, 2) := dk_22 4 (dk_at dksX19_of_2 17 rfl rfl)
theorem dX19_of_139 : decode cX19_of 139 = .ok (.invokestatic 32, 3) := dk_184 0 32 (dk_at dksX19_of_2 19 rfl rfl)
theorem dX19_of_142 : decode cX19_of 142 = .ok (.lreturn, 1) := dk_173 (dk_at dksX19_of_2 22 rfl rfl)
theorem dX19_of_143 : decode cX19_of 143 = .ok (.lload 4, 2) := dk_22 4 (dk_at dksX19_of_3 0 rfl rfl)
theorem dX19_of_145 : decode cX19_of 145 = .ok (.lconst 0, 1) := dk_9 (dk_at dksX19_of_3 2 rfl rfl)
theorem dX19_of_146 : decode cX19_of 146 = .ok (.lcmp, 1) := dk_148 (dk_at dksX19_of_3 3 rfl rfl)
theorem dX19_of_147 : decode cX19_of 147 = .ok (.ifCond .ne 7, 3) := dk_154 0 7 (dk_at dksX19_of_3 4 rfl rfl)
theorem dX19_of_150 : decode cX19_of 150 = .ok (.getstatic 36, 3) := dk_178 0 36 (dk_at dksX19_of_3 7 rfl rfl)
theorem dX19_of_153 : decode cX19_of 153 = .ok (.athrow, 1) := dk_191 (dk_at dksX19_of_3 10 rfl rfl)
theorem dX19_of_154 : decode cX19_of 154 = .ok (.lload_n 2, 1) := dk_32 (dk_at dksX19_of_3 11 rfl rfl)
theorem dX19_of_155 : decode cX19_of 155 = .ok (.lload 4, 2) := dk_22 4 (dk_at dksX19_of_3 12 rfl rfl)
theorem dX19_of_157 : decode cX19_of 157 = .ok (.ldiv, 1) := dk_109 (dk_at dksX19_of_3 14 rfl rfl)
theorem dX19_of_158 : decode cX19_of 158 = .ok (.lreturn, 1) := dk_173 (dk_at dksX19_of_3 15 rfl rfl)
theorem dX19_of_159 : decode cX19_of 159 = .ok (.lload_n 2, 1) := dk_32 (dk_at dksX19_of_3 16 rfl rfl)
theorem dX19_of_160 : decode cX19_of 160 = .ok (.lload 4, 2) := dk_22 4 (dk_at dksX19_of_3 17 rfl rfl)
theorem dX19_of_162 : decode cX19_of 162 = .ok (.lcmp, 1) := dk_148 (dk_at dksX19_of_3 19 rfl rfl)
theorem dX19_of_163 : decode cX19_of 163 = .ok (.ifCond .ge 7, 3) := dk_156 0 7 (dk_at dksX19_of_3 20 rfl rfl)
theorem dX19_of_166 : decode cX19_of 166 = .ok (.iconst 1, 1) := dk_4 (dk_at dksX19_of_3 23 rfl rfl)
theorem dX19_of_167 : decode cX19_of 167 = .ok (.goto 4, 3) := dk_167 0 4 (dk_at dksX19_of_4 0 rfl rfl)
theorem dX19_of_170 : decode cX19_of 170 = .ok (.iconst 0, 1) := dk_3 (dk_at dksX19_of_4 3 rfl rfl)
theorem dX19_of_171 : decode cX19_of 171 = .ok (.invokestatic 40, 3) := dk_184 0 40 (dk_at dksX19_of_4 4 rfl rfl)
theorem dX19_of_174 : decode cX19_of 174 = .ok (.lreturn, 1) := dk_173 (dk_at dksX19_of_4 7 rfl rfl)
theorem dX19_of_175 : decode cX19_of 175 = .ok (.lload_n 2, 1) := dk_32 (dk_at dksX19_of_4 8 rfl rfl)
theorem dX19_of_176 : decode cX19_of 176 = .ok (.lload 4, 2) := dk_22 4 (dk_at dksX19_of_4 9 rfl rfl)
theorem dX19_of_178 : decode cX19_of 178 = .ok (.lcmp, 1) := dk_148 (dk_at dksX19_of_4 11 rfl rfl)
theorem dX19_of_179 : decode cX19_of 179 = .ok (.ifCond .le 7, 3) := dk_158 0 7 (dk_at dksX19_of_4 12 rfl rfl)
theorem dX19_of_182 : decode cX19_of 182 = .ok (.iconst 1, 1) := dk_4 (dk_at dksX19_of_4 15 rfl rfl)
theorem dX19_of_183 : decode cX19_of 183 = .ok (.goto 4, 3) := dk_167 0 4 (dk_at dksX19_of_4 16 rfl rfl)
theorem dX19_of_186 : decode cX19_of 186 = .ok (.iconst 0, 1) := dk_3 (dk_at dksX19_of_4 19 rfl rfl)
theorem dX19_of_187 : decode cX19_of 187 = .ok (.invokestatic 40, 3) := dk_184 0 40 (dk_at dksX19_of_4 20 rfl rfl)
theorem dX19_of_190 : decode cX19_of 190 = .ok (.lreturn, 1) := dk_173 (dk_at dksX19_of_4 23 rfl rfl)
theorem dX19_of_191 : decode cX19_of 191 = .ok (.lload_n 2, 1) := dk_32 (dk_at dksX19_of_5 0 rfl rfl)
theorem dX19_of_192 : decode cX19_of 192 = .ok (.lload 4, 2) := dk_22 4 (dk_at dksX19_of_5 1 rfl rfl)
theorem dX19_of_194 : decode cX19_of 194 = .ok (.lcmp, 1) := dk_148 (dk_at dksX19_of_5 3 rfl rfl)
theorem dX19_of_195 : decode cX19_of 195 = .ok (.ifCond .ne 7, 3) := dk_154 0 7 (dk_at dksX19_of_5 4 rfl rfl)
theorem dX19_of_198 : decode cX19_of 198 = .ok (.iconst 1, 1) := dk_4 (dk_at dksX19_of_5 7 rfl rfl)
theorem dX19_of_199 : decode cX19_of 199 = .ok (.goto 4, 3) := dk_167 0 4 (dk_at dksX19_of_5 8 rfl rfl)
theorem dX19_of_202 : decode cX19_of 202 = .ok (.iconst 0, 1) := dk_3 (dk_at dksX19_of_5 11 rfl rfl)
theorem dX19_of_203 : decode cX19_of 203 = .ok (.invokestatic 40, 3) := dk_184 0 40 (dk_at dksX19_of_5 12 rfl rfl)
theorem dX19_of_206 : decode cX19_of 206 = .ok (.lreturn, 1) := dk_173 (dk_at dksX19_of_5 15 rfl rfl)
theorem dX19_of_207 : decode cX19_of 207 = .ok (.lload_n 2, 1) := dk_32 (dk_at dksX19_of_5 16 rfl rfl)
theorem dX19_of_208 : decode cX19_of 208 = .ok (.lload 4, 2) := dk_22 4 (dk_at dksX19_of_5 17 rfl rfl)
theorem dX19_of_210 : decode cX19_of 210 = .ok (.lcmp, 1) := dk_148 (dk_at dksX19_of_5 19 rfl rfl)
theorem dX19_of_211 : decode cX19_of 211 = .ok (.ifCond .gt 7, 3) := dk_157 0 7 (dk_at dksX19_of_5 20 rfl rfl)
theorem dX19_of_214 : decode cX19_of 214 = .ok (.iconst 1, 1) := dk_4 (dk_at dksX19_of_5 23 rfl rfl)
theorem dX19_of_215 : decode cX19_of 215 = .ok (.goto 4, 3) := dk_167 0 4 (dk_at dksX19_of_6 0 rfl rfl)
theorem dX19_of_218 : decode cX19_of 218 = .ok (.iconst 0, 1) := dk_3 (dk_at dksX19_of_6 3 rfl rfl)
theorem dX19_of_219 : decode cX19_of 219 = .ok (.invokestatic 40, 3) := dk_184 0 40 (dk_at dksX19_of_6 4 rfl rfl)
theorem dX19_of_222 : decode cX19_of 222 = .ok (.lreturn, 1) := dk_173 (dk_at dksX19_of_6 7 rfl rfl)
theorem dX19_of_223 : decode cX19_of 223 = .ok (.lload_n 2, 1) := dk_32 (dk_at dksX19_of_6 8 rfl rfl)
theorem dX19_of_224 : decode cX19_of 224 = .ok (.lload 4, 2) := dk_22 4 (dk_at dksX19_of_6 9 rfl rfl)
theorem dX19_of_226 : decode cX19_of 226 = .ok (.lcmp, 1) := dk_148 (dk_at dksX19_of_6 11 rfl rfl)
theorem dX19_of_227 : decode cX19_of 227 = .ok (.ifCond .lt 7, 3) := dk_155 0 7 (dk_at dksX19_of_6 12 rfl rfl)
theorem dX19_of_230 : decode cX19_of 230 = .ok (.iconst 1, 1) := dk_4 (dk_at dksX19_of_6 15 rfl rfl)
theorem dX19_of_231 : decode cX19_of 231 = .ok (.goto 4, 3) := dk_167 0 4 (dk_at dksX19_of_6 16 rfl rfl)
theorem dX19_of_234 : decode cX19_of 234 = .ok (.iconst 0, 1) := dk_3 (dk_at dksX19_of_6 19 rfl rfl)
theorem dX19_of_235 : decode cX19_of 235 = .ok (.invokestatic 40, 3) := dk_184 0 40 (dk_at dksX19_of_6 20 rfl rfl)
theorem dX19_of_238 : decode cX19_of 238 = .ok (.lreturn, 1) := dk_173 (dk_at dksX19_of_6 23 rfl rfl)
theorem dX19_of_239 : decode cX19_of 239 = .ok (.lload_n 2, 1) := dk_32 (dk_at dksX19_of_7 0 rfl rfl)
theorem dX19_of_240 : decode cX19_of 240 = .ok (.lload 4, 2) := dk_22 4 (dk_at dksX19_of_7 1 rfl rfl)
theorem dX19_of_242 : decode cX19_of 242 = .ok (.lcmp, 1) := dk_148 (dk_at dksX19_of_7 3 rfl rfl)
theorem dX19_of_243 : decode cX19_of 243 = .ok (.ifCond .eq 7, 3) := dk_153 0 7 (dk_at dksX19_of_7 4 rfl rfl)
theorem dX19_of_246 : decode cX19_of 246 = .ok (.iconst 1, 1) := dk_4 (dk_at dksX19_of_7 7 rfl rfl)
theorem dX19_of_247 : decode cX19_of 247 = .ok (.goto 4, 3) := dk_167 0 4 (dk_at dksX19_of_7 8 rfl rfl)
theorem dX19_of_250 : decode cX19_of 250 = .ok (.iconst 0, 1) := dk_3 (dk_at dksX19_of_7 11 rfl rfl)
theorem dX19_of_251 : decode cX19_of 251 = .ok (.invokestatic 40, 3) := dk_184 0 40 (dk_at dksX19_of_7 12 rfl rfl)
theorem dX19_of_254 : decode cX19_of 254 = .ok (.lreturn, 1) := dk_173 (dk_at dksX19_of_7 15 rfl rfl)
theorem dX19_of_255 : decode cX19_of 255 = .ok (.lload_n 2, 1) := dk_32 (dk_at dksX19_of_7 16 rfl rfl)
theorem dX19_of_256 : decode cX19_of 256 = .ok (.lconst 0, 1) := dk_9 (dk_at dksX19_of_7 17 rfl rfl)
theorem dX19_of_257 : decode cX19_of 257 = .ok (.lcmp, 1) := dk_148 (dk_at dksX19_of_7 18 rfl rfl)
theorem dX19_of_258 : decode cX19_of 258 = .ok (.ifCond .eq 14, 3) := dk_153 0 14 (dk_at dksX19_of_7 19 rfl rfl)
theorem dX19_of_261 : decode cX19_of 261 = .ok (.lload 4, 2) := dk_22 4 (dk_at dksX19_of_7 22 rfl rfl)
theorem dX19_of_263 : decode cX19_of 263 = .ok (.lconst 0, 1) := dk_9 (dk_at dksX19_of_8 0 rfl rfl)
theorem dX19_of_264 : decode cX19_of 264 = .ok (.lcmp, 1) := dk_148 (dk_at dksX19_of_8 1 rfl rfl)
theorem dX19_of_265 : decode cX19_of 265 = .ok (.ifCond .eq 7, 3) := dk_153 0 7 (dk_at dksX19_of_8 2 rfl rfl)
theorem dX19_of_268 : decode cX19_of 268 = .ok (.iconst 1, 1) := dk_4 (dk_at dksX19_of_8 5 rfl rfl)
theorem dX19_of_269 : decode cX19_of 269 = .ok (.goto 4, 3) := dk_167 0 4 (dk_at dksX19_of_8 6 rfl rfl)
theorem dX19_of_272 : decode cX19_of 272 = .ok (.iconst 0, 1) := dk_3 (dk_at dksX19_of_8 9 rfl rfl)
theorem dX19_of_273 : decode cX19_of 273 = .ok (.invokestatic 40, 3) := dk_184 0 40 (dk_at dksX19_of_8 10 rfl rfl)
theorem dX19_of_276 : decode cX19_of 276 = .ok (.lreturn, 1) := dk_173 (dk_at dksX19_of_8 13 rfl rfl)
theorem dX19_of_277 : decode cX19_of 277 = .ok (.lload_n 2, 1) := dk_32 (dk_at dksX19_of_8 14 rfl rfl)
theorem dX19_of_278 : decode cX19_of 278 = .ok (.lconst 0, 1) := dk_9 (dk_at dksX19_of_8 15 rfl rfl)
theorem dX19_of_279 : decode cX19_of 279 = .ok (.lcmp, 1) := dk_148 (dk_at dksX19_of_8 16 rfl rfl)
theorem dX19_of_280 : decode cX19_of 280 = .ok (.ifCond .ne 10, 3) := dk_154 0 10 (dk_at dksX19_of_8 17 rfl rfl)
theorem dX19_of_283 : decode cX19_of 283 = .ok (.lload 4, 2) := dk_22 4 (dk_at dksX19_of_8 20 rfl rfl)
theorem dX19_of_285 : decode cX19_of 285 = .ok (.lconst 0, 1) := dk_9 (dk_at dksX19_of_8 22 rfl rfl)
theorem dX19_of_286 : decode cX19_of 286 = .ok (.lcmp, 1) := dk_148 (dk_at dksX19_of_8 23 rfl rfl)
theorem dX19_of_287 : decode cX19_of 287 = .ok (.ifCond .eq 7, 3) := dk_153 0 7 (dk_at dksX19_of_9 0 rfl rfl)
theorem dX19_of_290 : decode cX19_of 290 = .ok (.iconst 1, 1) := dk_4 (dk_at dksX19_of_9 3 rfl rfl)
theorem dX19_of_291 : decode cX19_of 291 = .ok (.goto 4, 3) := dk_167 0 4 (dk_at dksX19_of_9 4 rfl rfl)
theorem dX19_of_294 : decode cX19_of 294 = .ok (.iconst 0, 1) := dk_3 (dk_at dksX19_of_9 7 rfl rfl)
theorem dX19_of_295 : decode cX19_of 295 = .ok (.invokestatic 40, 3) := dk_184 0 40 (dk_at dksX19_of_9 8 rfl rfl)
theorem dX19_of_298 : decode cX19_of 298 = .ok (.lreturn, 1) := dk_173 (dk_at dksX19_of_9 11 rfl rfl)
def dkwX18_of_0 : List UInt8 := [42, 180, 0, 7, 43, 182, 0, 13, 9, 148, 154, 0, 7, 10, 167, 0, 4, 9, 173]
abbrev dktX18_of_0 : List UInt8 := dkwX18_of_0 ++ []
theorem dksX18_of_0 : cX18_of.data.toList.drop 0 = dktX18_of_0 := by decide +kernel
theorem dX18_of_0 : decode cX18_of 0 = .ok (.aload_n 0, 1) := dk_42 (dk_at dksX18_of_0 0 rfl rfl)
theorem dX18_of_1 : decode cX18_of 1 = .ok (.getfield 7, 3) := dk_180 0 7 (dk_at dksX18_of_0 1 rfl rfl)
theorem dX18_of_4 : decode cX18_of 4 = .ok (.aload_n 1, 1) := dk_43 (dk_at dksX18_of_0 4 rfl rfl)
theorem dX18_of_5 : decode cX18_of 5 = .ok (.invokevirtual 13, 3) := dk_182 0 13 (dk_at dksX18_of_0 5 rfl rfl)
theorem dX18_of_8 : decode cX18_of 8 = .ok (.lconst 0, 1) := dk_9 (dk_at dksX18_of_0 8 rfl rfl)
theorem dX18_of_9 : decode cX18_of 9 = .ok (.lcmp, 1) := dk_148 (dk_at dksX18_of_0 9 rfl rfl)
theorem dX18_of_10 : decode cX18_of 10 = .ok (.ifCond .ne 7, 3) := dk_154 0 7 (dk_at dksX18_of_0 10 rfl rfl)
theorem dX18_of_13 : decode cX18_of 13 = .ok (.lconst 1, 1) := dk_10 (dk_at dksX18_of_0 13 rfl rfl)
theorem dX18_of_14 : decode cX18_of 14 = .ok (.goto 4, 3) := dk_167 0 4 (dk_at dksX18_of_0 14 rfl rfl)
theorem dX18_of_17 : decode cX18_of 17 = .ok (.lconst 0, 1) := dk_9 (dk_at dksX18_of_0 17 rfl rfl)
theorem dX18_of_18 : decode cX18_of 18 = .ok (.lreturn, 1) := dk_173 (dk_at dksX18_of_0 18 rfl rfl)
def dkwX1_work_1 : List UInt8 := [50, 42, 180, 0, 38, 182, 0, 42, 173, 77, 20, 0, 36, 173]
abbrev dktX1_work_1 : List UInt8 := dkwX1_work_1 ++ []
def dkwX1_work_0 : List UInt8 := [42, 180, 0, 13, 180, 0, 32, 27, 50, 199, 0, 7, 20, 0, 36, 173, 42, 180, 0, 13, 180, 0, 32, 27]
abbrev dktX1_work_0 : List UInt8 := dkwX1_work_0 ++ dktX1_work_1
theorem dksX1_work_0 : cX1_work.data.toList.drop 0 = dktX1_work_0 := by decide +kernel
theorem dksX1_work_1 : cX1_work.data.toList.drop 24 = dktX1_work_1 := dk_seg dksX1_work_0 24 rfl rfl
theorem dX1_work_0 : decode cX1_work 0 = .ok (.aload_n 0, 1) := dk_42 (dk_at dksX1_work_0 0 rfl rfl)
theorem dX1_work_1 : decode cX1_work 1 = .ok (.getfield 13, 3) := dk_180 0 13 (dk_at dksX1_work_0 1 rfl rfl)
theorem dX1_work_4 : decode cX1_work 4 = .ok (.getfield 32, 3) := dk_180 0 32 (dk_at dksX1_work_0 4 rfl rfl)
theorem dX1_work_7 : decode cX1_work 7 = .ok (.iload_n 1, 1) := dk_27 (dk_at dksX1_work_0 7 rfl rfl)
theorem dX1_work_8 : decode cX1_work 8 = .ok (.aaload, 1) := dk_50 (dk_at dksX1_work_0 8 rfl rfl)
theorem dX1_work_9 : decode cX1_work 9 = .ok (.ifnonnull 7, 3) := dk_199 0 7 (dk_at dksX1_work_0 9 rfl rfl)
theorem dX1_work_12 : decode cX1_work 12 = .ok (.ldc2_w 36, 3) := dk_20 0 36 (dk_at dksX1_work_0 12 rfl rfl)
theorem dX1_work_15 : decode cX1_work 15 = .ok (.lreturn, 1) := dk_173 (dk_at dksX1_work_0 15 rfl rfl)
theorem dX1_work_16 : decode cX1_work 16 = .ok (.aload_n 0, 1) := dk_42 (dk_at dksX1_work_0 16 rfl rfl)
theorem dX1_work_17 : decode cX1_work 17 = .ok (.getfield 13, 3) := dk_180 0 13 (dk_at dksX1_work_0 17 rfl rfl)
theorem dX1_work_20 : decode cX1_work 20 = .ok (.getfield 32, 3) := dk_180 0 32 (dk_at dksX1_work_0 20 rfl rfl)
theorem dX1_work_23 : decode cX1_work 23 = .ok (.iload_n 1, 1) := dk_27 (dk_at dksX1_work_0 23 rfl rfl)
theorem dX1_work_24 : decode cX1_work 24 = .ok (.aaload, 1) := dk_50 (dk_at dksX1_work_1 0 rfl rfl)
theorem dX1_work_25 : decode cX1_work 25 = .ok (.aload_n 0, 1) := dk_42 (dk_at dksX1_work_1 1 rfl rfl)
theorem dX1_work_26 : decode cX1_work 26 = .ok (.getfield 38, 3) := dk_180 0 38 (dk_at dksX1_work_1 2 rfl rfl)
theorem dX1_work_29 : decode cX1_work 29 = .ok (.invokevirtual 42, 3) := dk_182 0 42 (dk_at dksX1_work_1 5 rfl rfl)
theorem dX1_work_32 : decode cX1_work 32 = .ok (.lreturn, 1) := dk_173 (dk_at dksX1_work_1 8 rfl rfl)
theorem dX1_work_33 : decode cX1_work 33 = .ok (.astore_n 2, 1) := dk_77 (dk_at dksX1_work_1 9 rfl rfl)
theorem dX1_work_34 : decode cX1_work 34 = .ok (.ldc2_w 36, 3) := dk_20 0 36 (dk_at dksX1_work_1 10 rfl rfl)
theorem dX1_work_37 : decode cX1_work 37 = .ok (.lreturn, 1) := dk_173 (dk_at dksX1_work_1 13 rfl rfl)
def dkwX1_law_2 : List UInt8 := [192, 0, 229, 180, 0, 231, 182, 0, 249, 42, 27, 154, 0, 7, 3, 167, 0, 4, 4, 182, 0, 253, 173]
abbrev dktX1_law_2 : List UInt8 := dkwX1_law_2 ++ []
def dkwX1_law_1 : List UInt8 := [154, 0, 7, 20, 0, 36, 173, 42, 180, 0, 95, 28, 42, 180, 0, 13, 180, 0, 29, 29, 182, 0, 199]
abbrev dktX1_law_1 : List UInt8 := dkwX1_law_1 ++ dktX1_law_2
def dkwX1_law_0 : List UInt8 := [27, 133, 9, 10, 184, 0, 147, 153, 0, 19, 42, 28, 182, 0, 192, 153, 0, 11, 42, 29, 182, 0, 226]
abbrev dktX1_law_0 : List UInt8 := dkwX1_law_0 ++ dktX1_law_1
theorem dksX1_law_0 : cX1_law.data.toList.drop 0 = dktX1_law_0 := by decide +kernel
theorem dksX1_law_1 : cX1_law.data.toList.drop 23 = dktX1_law_1 := dk_seg dksX1_law_0 23 rfl rfl
theorem dksX1_law_2 : cX1_law.data.toList.drop 46 = dktX1_law_2 := dk_seg dksX1_law_1 23 rfl rfl
theorem dX1_law_0 : decode cX1_law 0 = .ok (.iload_n 1, 1) := dk_27 (dk_at dksX1_law_0 0 rfl rfl)
theorem dX1_law_1 : decode cX1_law 1 = .ok (.i2l, 1) := dk_133 (dk_at dksX1_law_0 1 rfl rfl)
theorem dX1_law_2 : decode cX1_law 2 = .ok (.lconst 0, 1) := dk_9 (dk_at dksX1_law_0 2 rfl rfl)
theorem dX1_law_3 : decode cX1_law 3 = .ok (.lconst 1, 1) := dk_10 (dk_at dksX1_law_0 3 rfl rfl)
theorem dX1_law_4 : decode cX1_law 4 = .ok (.invokestatic 147, 3) := dk_184 0 147 (dk_at dksX1_law_0 4 rfl rfl)
theorem dX1_law_7 : decode cX1_law 7 = .ok (.ifCond .eq 19, 3) := dk_153 0 19 (dk_at dksX1_law_0 7 rfl rfl)
theorem dX1_law_10 : decode cX1_law 10 = .ok (.aload_n 0, 1) := dk_42 (dk_at dksX1_law_0 10 rfl rfl)
theorem dX1_law_11 : decode cX1_law 11 = .ok (.iload_n 2, 1) := dk_28 (dk_at dksX1_law_0 11 rfl rfl)
theorem dX1_law_12 : decode cX1_law 12 = .ok (.invokevirtual 192, 3) := dk_182 0 192 (dk_at dksX1_law_0 12 rfl rfl)
theorem dX1_law_15 : decode cX1_law 15 = .ok (.ifCond .eq 11, 3) := dk_153 0 11 (dk_at dksX1_law_0 15 rfl rfl)
theorem dX1_law_18 : decode cX1_law 18 = .ok (.aload_n 0, 1) := dk_42 (dk_at dksX1_law_0 18 rfl rfl)
theorem dX1_law_19 : decode cX1_law 19 = .ok (.iload_n 3, 1) := dk_29 (dk_at dksX1_law_0 19 rfl rfl)
theorem dX1_law_20 : decode cX1_law 20 = .ok (.invokevirtual 226, 3) := dk_182 0 226 (dk_at dksX1_law_0 20 rfl rfl)
theorem dX1_law_23 : decode cX1_law 23 = .ok (.ifCond .ne 7, 3) := dk_154 0 7 (dk_at dksX1_law_1 0 rfl rfl)
theorem dX1_law_26 : decode cX1_law 26 = .ok (.ldc2_w 36, 3) := dk_20 0 36 (dk_at dksX1_law_1 3 rfl rfl)
theorem dX1_law_29 : decode cX1_law 29 = .ok (.lreturn, 1) := dk_173 (dk_at dksX1_law_1 6 rfl rfl)
theorem dX1_law_30 : decode cX1_law 30 = .ok (.aload_n 0, 1) := dk_42 (dk_at dksX1_law_1 7 rfl rfl)
theorem dX1_law_31 : decode cX1_law 31 = .ok (.getfield 95, 3) := dk_180 0 95 (dk_at dksX1_law_1 8 rfl rfl)
theorem dX1_law_34 : decode cX1_law 34 = .ok (.iload_n 2, 1) := dk_28 (dk_at dksX1_law_1 11 rfl rfl)
theorem dX1_law_35 : decode cX1_law 35 = .ok (.aload_n 0, 1) := dk_42 (dk_at dksX1_law_1 12 rfl rfl)
theorem dX1_law_36 : decode cX1_law 36 = .ok (.getfield 13, 3) := dk_180 0 13 (dk_at dksX1_law_1 13 rfl rfl)
theorem dX1_law_39 : decode cX1_law 39 = .ok (.getfield 29, 3) := dk_180 0 29 (dk_at dksX1_law_1 16 rfl rfl)
theorem dX1_law_42 : decode cX1_law 42 = .ok (.iload_n 3, 1) := dk_29 (dk_at dksX1_law_1 19 rfl rfl)
theorem dX1_law_43 : decode cX1_law 43 = .ok (.invokevirtual 199, 3) := dk_182 0 199 (dk_at dksX1_law_1 20 rfl rfl)
theorem dX1_law_46 : decode cX1_law 46 = .ok (.checkcast 229, 3) := dk_192 0 229 (dk_at dksX1_law_2 0 rfl rfl)
theorem dX1_law_49 : decode cX1_law 49 = .ok (.getfield 231, 3) := dk_180 0 231 (dk_at dksX1_law_2 3 rfl rfl)
theorem dX1_law_52 : decode cX1_law 52 = .ok (.invokevirtual 249, 3) := dk_182 0 249 (dk_at dksX1_law_2 6 rfl rfl)
theorem dX1_law_55 : decode cX1_law 55 = .ok (.aload_n 0, 1) := dk_42 (dk_at dksX1_law_2 9 rfl rfl)
theorem dX1_law_56 : decode cX1_law 56 = .ok (.iload_n 1, 1) := dk_27 (dk_at dksX1_law_2 10 rfl rfl)
theorem dX1_law_57 : decode cX1_law 57 = .ok (.ifCond .ne 7, 3) := dk_154 0 7 (dk_at dksX1_law_2 11 rfl rfl)
theorem dX1_law_60 : decode cX1_law 60 = .ok (.iconst 0, 1) := dk_3 (dk_at dksX1_law_2 14 rfl rfl)
theorem dX1_law_61 : decode cX1_law 61 = .ok (.goto 4, 3) := dk_167 0 4 (dk_at dksX1_law_2 15 rfl rfl)
theorem dX1_law_64 : decode cX1_law 64 = .ok (.iconst 1, 1) := dk_4 (dk_at dksX1_law_2 18 rfl rfl)
theorem dX1_law_65 : decode cX1_law 65 = .ok (.invokevirtual 253, 3) := dk_182 0 253 (dk_at dksX1_law_2 19 rfl rfl)
theorem dX1_law_68 : decode cX1_law 68 = .ok (.lreturn, 1) := dk_173 (dk_at dksX1_law_2 22 rfl rfl)
def dkwX9_init_1 : List UInt8 := [8, 188, 10, 181, 0, 22, 42, 8, 188, 10, 181, 0, 25, 177]
abbrev dktX9_init_1 : List UInt8 := dkwX9_init_1 ++ []
def dkwX9_init_0 : List UInt8 := [42, 43, 181, 0, 3, 42, 183, 0, 9, 42, 8, 188, 10, 181, 0, 15, 42, 8, 188, 10, 181, 0, 19, 42]
abbrev dktX9_init_0 : List UInt8 := dkwX9_init_0 ++ dktX9_init_1
theorem dksX9_init_0 : cX9_init.data.toList.drop 0 = dktX9_init_0 := by decide +kernel
theorem dksX9_init_1 : cX9_init.data.toList.drop 24 = dktX9_init_1 := dk_seg dksX9_init_0 24 rfl rfl
theorem dX9_init_0 : decode cX9_init 0 = .ok (.aload_n 0, 1) := dk_42 (dk_at dksX9_init_0 0 rfl rfl)
theorem dX9_init_1 : decode cX9_init 1 = .ok (.aload_n 1, 1) := dk_43 (dk_at dksX9_init_0 1 rfl rfl)
theorem dX9_init_2 : decode cX9_init 2 = .ok (.putfield 3, 3) := dk_181 0 3 (dk_at dksX9_init_0 2 rfl rfl)
theorem dX9_init_5 : decode cX9_init 5 = .ok (.aload_n 0, 1) := dk_42 (dk_at dksX9_init_0 5 rfl rfl)
theorem dX9_init_6 : decode cX9_init 6 = .ok (.invokespecial 9, 3) := dk_183 0 9 (dk_at dksX9_init_0 6 rfl rfl)
theorem dX9_init_9 : decode cX9_init 9 = .ok (.aload_n 0, 1) := dk_42 (dk_at dksX9_init_0 9 rfl rfl)
theorem dX9_init_10 : decode cX9_init 10 = .ok (.iconst 5, 1) := dk_8 (dk_at dksX9_init_0 10 rfl rfl)
theorem dX9_init_11 : decode cX9_init 11 = .ok (.newarray .int, 2) := dk_188_10 (dk_at dksX9_init_0 11 rfl rfl)
theorem dX9_init_13 : decode cX9_init 13 = .ok (.putfield 15, 3) := dk_181 0 15 (dk_at dksX9_init_0 13 rfl rfl)
theorem dX9_init_16 : decode cX9_init 16 = .ok (.aload_n 0, 1) := dk_42 (dk_at dksX9_init_0 16 rfl rfl)
theorem dX9_init_17 : decode cX9_init 17 = .ok (.iconst 5, 1) := dk_8 (dk_at dksX9_init_0 17 rfl rfl)
theorem dX9_init_18 : decode cX9_init 18 = .ok (.newarray .int, 2) := dk_188_10 (dk_at dksX9_init_0 18 rfl rfl)
theorem dX9_init_20 : decode cX9_init 20 = .ok (.putfield 19, 3) := dk_181 0 19 (dk_at dksX9_init_0 20 rfl rfl)
theorem dX9_init_23 : decode cX9_init 23 = .ok (.aload_n 0, 1) := dk_42 (dk_at dksX9_init_0 23 rfl rfl)
theorem dX9_init_24 : decode cX9_init 24 = .ok (.iconst 5, 1) := dk_8 (dk_at dksX9_init_1 0 rfl rfl)
theorem dX9_init_25 : decode cX9_init 25 = .ok (.newarray .int, 2) := dk_188_10 (dk_at dksX9_init_1 1 rfl rfl)
theorem dX9_init_27 : decode cX9_init 27 = .ok (.putfield 22, 3) := dk_181 0 22 (dk_at dksX9_init_1 3 rfl rfl)
theorem dX9_init_30 : decode cX9_init 30 = .ok (.aload_n 0, 1) := dk_42 (dk_at dksX9_init_1 6 rfl rfl)
theorem dX9_init_31 : decode cX9_init 31 = .ok (.iconst 5, 1) := dk_8 (dk_at dksX9_init_1 7 rfl rfl)
theorem dX9_init_32 : decode cX9_init 32 = .ok (.newarray .int, 2) := dk_188_10 (dk_at dksX9_init_1 8 rfl rfl)
theorem dX9_init_34 : decode cX9_init 34 = .ok (.putfield 25, 3) := dk_181 0 25 (dk_at dksX9_init_1 10 rfl rfl)
theorem dX9_init_37 : decode cX9_init 37 = .ok (.return_, 1) := dk_177 (dk_at dksX9_init_1 13 rfl rfl)
def dkwX9_become_4 : List UInt8 := [180, 0, 72, 181, 0, 72, 42, 43, 180, 0, 69, 181, 0, 69, 177]
abbrev dktX9_become_4 : List UInt8 := dkwX9_become_4 ++ []
def dkwX9_become_3 : List UInt8 := [180, 0, 57, 181, 0, 57, 42, 43, 180, 0, 63, 181, 0, 63, 42, 43, 180, 0, 66, 181, 0, 66, 42, 43]
abbrev dktX9_become_3 : List UInt8 := dkwX9_become_3 ++ dktX9_become_4
def dkwX9_become_2 : List UInt8 := [43, 180, 0, 25, 28, 46, 79, 132, 2, 1, 167, 255, 200, 42, 43, 180, 0, 54, 181, 0, 54, 42, 43]
abbrev dktX9_become_2 : List UInt8 := dkwX9_become_2 ++ dktX9_become_3
def dkwX9_become_1 : List UInt8 := [43, 180, 0, 19, 28, 46, 79, 42, 180, 0, 22, 28, 43, 180, 0, 22, 28, 46, 79, 42, 180, 0, 25, 28]
abbrev dktX9_become_1 : List UInt8 := dkwX9_become_1 ++ dktX9_become_2
def dkwX9_become_0 : List UInt8 := [3, 61, 28, 8, 162, 0, 57, 42, 180, 0, 15, 28, 43, 180, 0, 15, 28, 46, 79, 42, 180, 0, 19, 28]
abbrev dktX9_become_0 : List UInt8 := dkwX9_become_0 ++ dktX9_become_1
theorem dksX9_become_0 : cX9_become.data.toList.drop 0 = dktX9_become_0 := by decide +kernel
theorem dksX9_become_1 : cX9_become.data.toList.drop 24 = dktX9_become_1 := dk_seg dksX9_become_0 24 rfl rfl
theorem dksX9_become_2 : cX9_become.data.toList.drop 48 = dktX9_become_2 := dk_seg dksX9_become_1 24 rfl rfl
theorem dksX9_become_3 : cX9_become.data.toList.drop 71 = dktX9_become_3 := dk_seg dksX9_become_2 23 rfl rfl
theorem dksX9_become_4 : cX9_become.data.toList.drop 95 = dktX9_become_4 := dk_seg dksX9_become_3 24 rfl rfl
theorem dX9_become_0 : decode cX9_become 0 = .ok (.iconst 0, 1) := dk_3 (dk_at dksX9_become_0 0 rfl rfl)
theorem dX9_become_1 : decode cX9_become 1 = .ok (.istore_n 2, 1) := dk_61 (dk_at dksX9_become_0 1 rfl rfl)
theorem dX9_become_2 : decode cX9_become 2 = .ok (.iload_n 2, 1) := dk_28 (dk_at dksX9_become_0 2 rfl rfl)
theorem dX9_become_3 : decode cX9_become 3 = .ok (.iconst 5, 1) := dk_8 (dk_at dksX9_become_0 3 rfl rfl)
theorem dX9_become_4 : decode cX9_become 4 = .ok (.if_icmp .ge 57, 3) := dk_162 0 57 (dk_at dksX9_become_0 4 rfl rfl)
theorem dX9_become_7 : decode cX9_become 7 = .ok (.aload_n 0, 1) := dk_42 (dk_at dksX9_become_0 7 rfl rfl)
theorem dX9_become_8 : decode cX9_become 8 = .ok (.getfield 15, 3) := dk_180 0 15 (dk_at dksX9_become_0 8 rfl rfl)
theorem dX9_become_11 : decode cX9_become 11 = .ok (.iload_n 2, 1) := dk_28 (dk_at dksX9_become_0 11 rfl rfl)
theorem dX9_become_12 : decode cX9_become 12 = .ok (.aload_n 1, 1) := dk_43 (dk_at dksX9_become_0 12 rfl rfl)
theorem dX9_become_13 : decode cX9_become 13 = .ok (.getfield 15, 3) := dk_180 0 15 (dk_at dksX9_become_0 13 rfl rfl)
theorem dX9_become_16 : decode cX9_become 16 = .ok (.iload_n 2, 1) := dk_28 (dk_at dksX9_become_0 16 rfl rfl)
theorem dX9_become_17 : decode cX9_become 17 = .ok (.iaload, 1) := dk_46 (dk_at dksX9_become_0 17 rfl rfl)
theorem dX9_become_18 : decode cX9_become 18 = .ok (.iastore, 1) := dk_79 (dk_at dksX9_become_0 18 rfl rfl)
theorem dX9_become_19 : decode cX9_become 19 = .ok (.aload_n 0, 1) := dk_42 (dk_at dksX9_become_0 19 rfl rfl)
theorem dX9_become_20 : decode cX9_become 20 = .ok (.getfield 19, 3) := dk_180 0 19 (dk_at dksX9_become_0 20 rfl rfl)
theorem dX9_become_23 : decode cX9_become 23 = .ok (.iload_n 2, 1) := dk_28 (dk_at dksX9_become_0 23 rfl rfl)
theorem dX9_become_24 : decode cX9_become 24 = .ok (.aload_n 1, 1) := dk_43 (dk_at dksX9_become_1 0 rfl rfl)
theorem dX9_become_25 : decode cX9_become 25 = .ok (.getfield 19, 3) := dk_180 0 19 (dk_at dksX9_become_1 1 rfl rfl)
theorem dX9_become_28 : decode cX9_become 28 = .ok (.iload_n 2, 1) := dk_28 (dk_at dksX9_become_1 4 rfl rfl)
theorem dX9_become_29 : decode cX9_become 29 = .ok (.iaload, 1) := dk_46 (dk_at dksX9_become_1 5 rfl rfl)
theorem dX9_become_30 : decode cX9_become 30 = .ok (.iastore, 1) := dk_79 (dk_at dksX9_become_1 6 rfl rfl)
theorem dX9_become_31 : decode cX9_become 31 = .ok (.aload_n 0, 1) := dk_42 (dk_at dksX9_become_1 7 rfl rfl)
theorem dX9_become_32 : decode cX9_become 32 = .ok (.getfield 22, 3) := dk_180 0 22 (dk_at dksX9_become_1 8 rfl rfl)
theorem dX9_become_35 : decode cX9_become 35 = .ok (.iload_n 2, 1) := dk_28 (dk_at dksX9_become_1 11 rfl rfl)
theorem dX9_become_36 : decode cX9_become 36 = .ok (.aload_n 1, 1) := dk_43 (dk_at dksX9_become_1 12 rfl rfl)
theorem dX9_become_37 : decode cX9_become 37 = .ok (.getfield 22, 3) := dk_180 0 22 (dk_at dksX9_become_1 13 rfl rfl)
theorem dX9_become_40 : decode cX9_become 40 = .ok (.iload_n 2, 1) := dk_28 (dk_at dksX9_become_1 16 rfl rfl)
theorem dX9_become_41 : decode cX9_become 41 = .ok (.iaload, 1) := dk_46 (dk_at dksX9_become_1 17 rfl rfl)
theorem dX9_become_42 : decode cX9_become 42 = .ok (.iastore, 1) := dk_79 (dk_at dksX9_become_1 18 rfl rfl)
theorem dX9_become_43 : decode cX9_become 43 = .ok (.aload_n 0, 1) := dk_42 (dk_at dksX9_become_1 19 rfl rfl)
theorem dX9_become_44 : decode cX9_become 44 = .ok (.getfield 25, 3) := dk_180 0 25 (dk_at dksX9_become_1 20 rfl rfl)
theorem dX9_become_47 : decode cX9_become 47 = .ok (.iload_n 2, 1) := dk_28 (dk_at dksX9_become_1 23 rfl rfl)
theorem dX9_become_48 : decode cX9_become 48 = .ok (.aload_n 1, 1) := dk_43 (dk_at dksX9_become_2 0 rfl rfl)
theorem dX9_become_49 : decode cX9_become 49 = .ok (.getfield 25, 3) := dk_180 0 25 (dk_at dksX9_become_2 1 rfl rfl)
theorem dX9_become_52 : decode cX9_become 52 = .ok (.iload_n 2, 1) := dk_28 (dk_at dksX9_become_2 4 rfl rfl)
theorem dX9_become_53 : decode cX9_become 53 = .ok (.iaload, 1) := dk_46 (dk_at dksX9_become_2 5 rfl rfl)
theorem dX9_become_54 : decode cX9_become 54 = .ok (.iastore, 1) := dk_79 (dk_at dksX9_become_2 6 rfl rfl)
theorem dX9_become_55 : decode cX9_become 55 = .ok (.iinc 2 1, 3) := dk_132 2 1 (dk_at dksX9_become_2 7 rfl rfl)
theorem dX9_become_58 : decode cX9_become 58 = .ok (.goto (-56), 3) := dk_167 255 200 (dk_at dksX9_become_2 10 rfl rfl)
theorem dX9_become_61 : decode cX9_become 61 = .ok (.aload_n 0, 1) := dk_42 (dk_at dksX9_become_2 13 rfl rfl)
theorem dX9_become_62 : decode cX9_become 62 = .ok (.aload_n 1, 1) := dk_43 (dk_at dksX9_become_2 14 rfl rfl)
theorem dX9_become_63 : decode cX9_become 63 = .ok (.getfield 54, 3) := dk_180 0 54 (dk_at dksX9_become_2 15 rfl rfl)
theorem dX9_become_66 : decode cX9_become 66 = .ok (.putfield 54, 3) := dk_181 0 54 (dk_at dksX9_become_2 18 rfl rfl)
theorem dX9_become_69 : decode cX9_become 69 = .ok (.aload_n 0, 1) := dk_42 (dk_at dksX9_become_2 21 rfl rfl)
theorem dX9_become_70 : decode cX9_become 70 = .ok (.aload_n 1, 1) := dk_43 (dk_at dksX9_become_2 22 rfl rfl)
theorem dX9_become_71 : decode cX9_become 71 = .ok (.getfield 57, 3) := dk_180 0 57 (dk_at dksX9_become_3 0 rfl rfl)
theorem dX9_become_74 : decode cX9_become 74 = .ok (.putfield 57, 3) := dk_181 0 57 (dk_at dksX9_become_3 3 rfl rfl)
theorem dX9_become_77 : decode cX9_become 77 = .ok (.aload_n 0, 1) := dk_42 (dk_at dksX9_become_3 6 rfl rfl)
theorem dX9_become_78 : decode cX9_become 78 = .ok (.aload_n 1, 1) := dk_43 (dk_at dksX9_become_3 7 rfl rfl)
theorem dX9_become_79 : decode cX9_become 79 = .ok (.getfield 63, 3) := dk_180 0 63 (dk_at dksX9_become_3 8 rfl rfl)
theorem dX9_become_82 : decode cX9_become 82 = .ok (.putfield 63, 3) := dk_181 0 63 (dk_at dksX9_become_3 11 rfl rfl)
theorem dX9_become_85 : decode cX9_become 85 = .ok (.aload_n 0, 1) := dk_42 (dk_at dksX9_become_3 14 rfl rfl)
theorem dX9_become_86 : decode cX9_become 86 = .ok (.aload_n 1, 1) := dk_43 (dk_at dksX9_become_3 15 rfl rfl)
theorem dX9_become_87 : decode cX9_become 87 = .ok (.getfield 66, 3) := dk_180 0 66 (dk_at dksX9_become_3 16 rfl rfl)
theorem dX9_become_90 : decode cX9_become 90 = .ok (.putfield 66, 3) := dk_181 0 66 (dk_at dksX9_become_3 19 rfl rfl)
theorem dX9_become_93 : decode cX9_become 93 = .ok (.aload_n 0, 1) := dk_42 (dk_at dksX9_become_3 22 rfl rfl)
theorem dX9_become_94 : decode cX9_become 94 = .ok (.aload_n 1, 1) := dk_43 (dk_at dksX9_become_3 23 rfl rfl)
theorem dX9_become_95 : decode cX9_become 95 = .ok (.getfield 72, 3) := dk_180 0 72 (dk_at dksX9_become_4 0 rfl rfl)
theorem dX9_become_98 : decode cX9_become 98 = .ok (.putfield 72, 3) := dk_181 0 72 (dk_at dksX9_become_4 3 rfl rfl)
theorem dX9_become_101 : decode cX9_become 101 = .ok (.aload_n 0, 1) := dk_42 (dk_at dksX9_become_4 6 rfl rfl)
theorem dX9_become_102 : decode cX9_become 102 = .ok (.aload_n 1, 1) := dk_43 (dk_at dksX9_become_4 7 rfl rfl)
theorem dX9_become_103 : decode cX9_become 103 = .ok (.getfield 69, 3) := dk_180 0 69 (dk_at dksX9_become_4 8 rfl rfl)
theorem dX9_become_106 : decode cX9_become 106 = .ok (.putfield 69, 3) := dk_181 0 69 (dk_at dksX9_become_4 11 rfl rfl)
theorem dX9_become_109 : decode cX9_become 109 = .ok (.return_, 1) := dk_177 (dk_at dksX9_become_4 14 rfl rfl)
def dkwX1_keepNow_4 : List UInt8 := [42, 180, 0, 166, 50, 42, 180, 0, 95, 182, 1, 1, 42, 89, 180, 0, 166, 4, 96, 181, 0, 166, 177]
abbrev dktX1_keepNow_4 : List UInt8 := dkwX1_keepNow_4 ++ []
def dkwX1_keepNow_3 : List UInt8 := [199, 0, 20, 42, 180, 0, 105, 42, 180, 0, 166, 187, 0, 92, 89, 42, 183, 0, 94, 83, 42, 180, 0, 105]
abbrev dktX1_keepNow_3 : List UInt8 := dkwX1_keepNow_3 ++ dktX1_keepNow_4
def dkwX1_keepNow_2 : List UInt8 := [16, 19, 43, 83, 42, 89, 180, 0, 166, 4, 100, 181, 0, 166, 42, 180, 0, 105, 42, 180, 0, 166, 50]
abbrev dktX1_keepNow_2 : List UInt8 := dkwX1_keepNow_2 ++ dktX1_keepNow_3
def dkwX1_keepNow_1 : List UInt8 := [42, 180, 0, 105, 28, 4, 100, 42, 180, 0, 105, 28, 50, 83, 132, 2, 1, 167, 255, 233, 42, 180, 0, 105]
abbrev dktX1_keepNow_1 : List UInt8 := dkwX1_keepNow_1 ++ dktX1_keepNow_2
def dkwX1_keepNow_0 : List UInt8 := [42, 180, 0, 166, 16, 20, 160, 0, 56, 42, 180, 0, 105, 3, 50, 76, 4, 61, 28, 16, 20, 162, 0, 23]
abbrev dktX1_keepNow_0 : List UInt8 := dkwX1_keepNow_0 ++ dktX1_keepNow_1
theorem dksX1_keepNow_0 : cX1_keepNow.data.toList.drop 0 = dktX1_keepNow_0 := by decide +kernel
theorem dksX1_keepNow_1 : cX1_keepNow.data.toList.drop 24 = dktX1_keepNow_1 := dk_seg dksX1_keepNow_0 24 rfl rfl
theorem dksX1_keepNow_2 : cX1_keepNow.data.toList.drop 48 = dktX1_keepNow_2 := dk_seg dksX1_keepNow_1 24 rfl rfl
theorem dksX1_keepNow_3 : cX1_keepNow.data.toList.drop 71 = dktX1_keepNow_3 := dk_seg dksX1_keepNow_2 23 rfl rfl
theorem dksX1_keepNow_4 : cX1_keepNow.data.toList.drop 95 = dktX1_keepNow_4 := dk_seg dksX1_keepNow_3 24 rfl rfl
theorem dX1_keepNow_0 : decode cX1_keepNow 0 = .ok (.aload_n 0, 1) := dk_42 (dk_at dksX1_keepNow_0 0 rfl rfl)
theorem dX1_keepNow_1 : decode cX1_keepNow 1 = .ok (.getfield 166, 3) := dk_180 0 166 (dk_at dksX1_keepNow_0 1 rfl rfl)
theorem dX1_keepNow_4 : decode cX1_keepNow 4 = .ok (.bipush 20, 2) := dk_16 20 (dk_at dksX1_keepNow_0 4 rfl rfl)
theorem dX1_keepNow_6 : decode cX1_keepNow 6 = .ok (.if_icmp .ne 56, 3) := dk_160 0 56 (dk_at dksX1_keepNow_0 6 rfl rfl)
theorem dX1_keepNow_9 : decode cX1_keepNow 9 = .ok (.aload_n 0, 1) := dk_42 (dk_at dksX1_keepNow_0 9 rfl rfl)
theorem dX1_keepNow_10 : decode cX1_keepNow 10 = .ok (.getfield 105, 3) := dk_180 0 105 (dk_at dksX1_keepNow_0 10 rfl rfl)
theorem dX1_keepNow_13 : decode cX1_keepNow 13 = .ok (.iconst 0, 1) := dk_3 (dk_at dksX1_keepNow_0 13 rfl rfl)
theorem dX1_keepNow_14 : decode cX1_keepNow 14 = .ok (.aaload, 1) := dk_50 (dk_at dksX1_keepNow_0 14 rfl rfl)
theorem dX1_keepNow_15 : decode cX1_keepNow 15 = .ok (.astore_n 1, 1) := dk_76 (dk_at dksX1_keepNow_0 15 rfl rfl)
theorem dX1_keepNow_16 : decode cX1_keepNow 16 = .ok (.iconst 1, 1) := dk_4 (dk_at dksX1_keepNow_0 16 rfl rfl)
theorem dX1_keepNow_17 : decode cX1_keepNow 17 = .ok (.istore_n 2, 1) := dk_61 (dk_at dksX1_keepNow_0 17 rfl rfl)
theorem dX1_keepNow_18 : decode cX1_keepNow 18 = .ok (.iload_n 2, 1) := dk_28 (dk_at dksX1_keepNow_0 18 rfl rfl)
theorem dX1_keepNow_19 : decode cX1_keepNow 19 = .ok (.bipush 20, 2) := dk_16 20 (dk_at dksX1_keepNow_0 19 rfl rfl)
theorem dX1_keepNow_21 : decode cX1_keepNow 21 = .ok (.if_icmp .ge 23, 3) := dk_162 0 23 (dk_at dksX1_keepNow_0 21 rfl rfl)
theorem dX1_keepNow_24 : decode cX1_keepNow 24 = .ok (.aload_n 0, 1) := dk_42 (dk_at dksX1_keepNow_1 0 rfl rfl)
theorem dX1_keepNow_25 : decode cX1_keepNow 25 = .ok (.getfield 105, 3) := dk_180 0 105 (dk_at dksX1_keepNow_1 1 rfl rfl)
theorem dX1_keepNow_28 : decode cX1_keepNow 28 = .ok (.iload_n 2, 1) := dk_28 (dk_at dksX1_keepNow_1 4 rfl rfl)
theorem dX1_keepNow_29 : decode cX1_keepNow 29 = .ok (.iconst 1, 1) := dk_4 (dk_at dksX1_keepNow_1 5 rfl rfl)
theorem dX1_keepNow_30 : decode cX1_keepNow 30 = .ok (.isub, 1) := dk_100 (dk_at dksX1_keepNow_1 6 rfl rfl)
theorem dX1_keepNow_31 : decode cX1_keepNow 31 = .ok (.aload_n 0, 1) := dk_42 (dk_at dksX1_keepNow_1 7 rfl rfl)
theorem dX1_keepNow_32 : decode cX1_keepNow 32 = .ok (.getfield 105, 3) := dk_180 0 105 (dk_at dksX1_keepNow_1 8 rfl rfl)
theorem dX1_keepNow_35 : decode cX1_keepNow 35 = .ok (.iload_n 2, 1) := dk_28 (dk_at dksX1_keepNow_1 11 rfl rfl)
theorem dX1_keepNow_36 : decode cX1_keepNow 36 = .ok (.aaload, 1) := dk_50 (dk_at dksX1_keepNow_1 12 rfl rfl)
theorem dX1_keepNow_37 : decode cX1_keepNow 37 = .ok (.aastore, 1) := dk_83 (dk_at dksX1_keepNow_1 13 rfl rfl)
theorem dX1_keepNow_38 : decode cX1_keepNow 38 = .ok (.iinc 2 1, 3) := dk_132 2 1 (dk_at dksX1_keepNow_1 14 rfl rfl)
theorem dX1_keepNow_41 : decode cX1_keepNow 41 = .ok (.goto (-23), 3) := dk_167 255 233 (dk_at dksX1_keepNow_1 17 rfl rfl)
theorem dX1_keepNow_44 : decode cX1_keepNow 44 = .ok (.aload_n 0, 1) := dk_42 (dk_at dksX1_keepNow_1 20 rfl rfl)
theorem dX1_keepNow_45 : decode cX1_keepNow 45 = .ok (.getfield 105, 3) := dk_180 0 105 (dk_at dksX1_keepNow_1 21 rfl rfl)
theorem dX1_keepNow_48 : decode cX1_keepNow 48 = .ok (.bipush 19, 2) := dk_16 19 (dk_at dksX1_keepNow_2 0 rfl rfl)
theorem dX1_keepNow_50 : decode cX1_keepNow 50 = .ok (.aload_n 1, 1) := dk_43 (dk_at dksX1_keepNow_2 2 rfl rfl)
theorem dX1_keepNow_51 : decode cX1_keepNow 51 = .ok (.aastore, 1) := dk_83 (dk_at dksX1_keepNow_2 3 rfl rfl)
theorem dX1_keepNow_52 : decode cX1_keepNow 52 = .ok (.aload_n 0, 1) := dk_42 (dk_at dksX1_keepNow_2 4 rfl rfl)
theorem dX1_keepNow_53 : decode cX1_keepNow 53 = .ok (.dup, 1) := dk_89 (dk_at dksX1_keepNow_2 5 rfl rfl)
theorem dX1_keepNow_54 : decode cX1_keepNow 54 = .ok (.getfield 166, 3) := dk_180 0 166 (dk_at dksX1_keepNow_2 6 rfl rfl)
theorem dX1_keepNow_57 : decode cX1_keepNow 57 = .ok (.iconst 1, 1) := dk_4 (dk_at dksX1_keepNow_2 9 rfl rfl)
theorem dX1_keepNow_58 : decode cX1_keepNow 58 = .ok (.isub, 1) := dk_100 (dk_at dksX1_keepNow_2 10 rfl rfl)
theorem dX1_keepNow_59 : decode cX1_keepNow 59 = .ok (.putfield 166, 3) := dk_181 0 166 (dk_at dksX1_keepNow_2 11 rfl rfl)
theorem dX1_keepNow_62 : decode cX1_keepNow 62 = .ok (.aload_n 0, 1) := dk_42 (dk_at dksX1_keepNow_2 14 rfl rfl)
theorem dX1_keepNow_63 : decode cX1_keepNow 63 = .ok (.getfield 105, 3) := dk_180 0 105 (dk_at dksX1_keepNow_2 15 rfl rfl)
theorem dX1_keepNow_66 : decode cX1_keepNow 66 = .ok (.aload_n 0, 1) := dk_42 (dk_at dksX1_keepNow_2 18 rfl rfl)
theorem dX1_keepNow_67 : decode cX1_keepNow 67 = .ok (.getfield 166, 3) := dk_180 0 166 (dk_at dksX1_keepNow_2 19 rfl rfl)
theorem dX1_keepNow_70 : decode cX1_keepNow 70 = .ok (.aaload, 1) := dk_50 (dk_at dksX1_keepNow_2 22 rfl rfl)
theorem dX1_keepNow_71 : decode cX1_keepNow 71 = .ok (.ifnonnull 20, 3) := dk_199 0 20 (dk_at dksX1_keepNow_3 0 rfl rfl)
theorem dX1_keepNow_74 : decode cX1_keepNow 74 = .ok (.aload_n 0, 1) := dk_42 (dk_at dksX1_keepNow_3 3 rfl rfl)
theorem dX1_keepNow_75 : decode cX1_keepNow 75 = .ok (.getfield 105, 3) := dk_180 0 105 (dk_at dksX1_keepNow_3 4 rfl rfl)
theorem dX1_keepNow_78 : decode cX1_keepNow 78 = .ok (.aload_n 0, 1) := dk_42 (dk_at dksX1_keepNow_3 7 rfl rfl)
theorem dX1_keepNow_79 : decode cX1_keepNow 79 = .ok (.getfield 166, 3) := dk_180 0 166 (dk_at dksX1_keepNow_3 8 rfl rfl)
theorem dX1_keepNow_82 : decode cX1_keepNow 82 = .ok (.new 92, 3) := dk_187 0 92 (dk_at dksX1_keepNow_3 11 rfl rfl)
theorem dX1_keepNow_85 : decode cX1_keepNow 85 = .ok (.dup, 1) := dk_89 (dk_at dksX1_keepNow_3 14 rfl rfl)
theorem dX1_keepNow_86 : decode cX1_keepNow 86 = .ok (.aload_n 0, 1) := dk_42 (dk_at dksX1_keepNow_3 15 rfl rfl)
theorem dX1_keepNow_87 : decode cX1_keepNow 87 = .ok (.invokespecial 94, 3) := dk_183 0 94 (dk_at dksX1_keepNow_3 16 rfl rfl)
theorem dX1_keepNow_90 : decode cX1_keepNow 90 = .ok (.aastore, 1) := dk_83 (dk_at dksX1_keepNow_3 19 rfl rfl)
theorem dX1_keepNow_91 : decode cX1_keepNow 91 = .ok (.aload_n 0, 1) := dk_42 (dk_at dksX1_keepNow_3 20 rfl rfl)
theorem dX1_keepNow_92 : decode cX1_keepNow 92 = .ok (.getfield 105, 3) := dk_180 0 105 (dk_at dksX1_keepNow_3 21 rfl rfl)
theorem dX1_keepNow_95 : decode cX1_keepNow 95 = .ok (.aload_n 0, 1) := dk_42 (dk_at dksX1_keepNow_4 0 rfl rfl)
theorem dX1_keepNow_96 : decode cX1_keepNow 96 = .ok (.getfield 166, 3) := dk_180 0 166 (dk_at dksX1_keepNow_4 1 rfl rfl)
theorem dX1_keepNow_99 : decode cX1_keepNow 99 = .ok (.aaload, 1) := dk_50 (dk_at dksX1_keepNow_4 4 rfl rfl)
theorem dX1_keepNow_100 : decode cX1_keepNow 100 = .ok (.aload_n 0, 1) := dk_42 (dk_at dksX1_keepNow_4 5 rfl rfl)
theorem dX1_keepNow_101 : decode cX1_keepNow 101 = .ok (.getfield 95, 3) := dk_180 0 95 (dk_at dksX1_keepNow_4 6 rfl rfl)
theorem dX1_keepNow_104 : decode cX1_keepNow 104 = .ok (.invokevirtual 257, 3) := dk_182 1 1 (dk_at dksX1_keepNow_4 9 rfl rfl)
theorem dX1_keepNow_107 : decode cX1_keepNow 107 = .ok (.aload_n 0, 1) := dk_42 (dk_at dksX1_keepNow_4 12 rfl rfl)
theorem dX1_keepNow_108 : decode cX1_keepNow 108 = .ok (.dup, 1) := dk_89 (dk_at dksX1_keepNow_4 13 rfl rfl)
theorem dX1_keepNow_109 : decode cX1_keepNow 109 = .ok (.getfield 166, 3) := dk_180 0 166 (dk_at dksX1_keepNow_4 14 rfl rfl)
theorem dX1_keepNow_112 : decode cX1_keepNow 112 = .ok (.iconst 1, 1) := dk_4 (dk_at dksX1_keepNow_4 17 rfl rfl)
theorem dX1_keepNow_113 : decode cX1_keepNow 113 = .ok (.iadd, 1) := dk_96 (dk_at dksX1_keepNow_4 18 rfl rfl)
theorem dX1_keepNow_114 : decode cX1_keepNow 114 = .ok (.putfield 166, 3) := dk_181 0 166 (dk_at dksX1_keepNow_4 19 rfl rfl)
theorem dX1_keepNow_117 : decode cX1_keepNow 117 = .ok (.return_, 1) := dk_177 (dk_at dksX1_keepNow_4 22 rfl rfl)
theorem dX4_isHeard_0 : decode cX4_isHeard 0 = .ok (.iconst 1, 1) := by decide +kernel
theorem dX4_isHeard_1 : decode cX4_isHeard 1 = .ok (.ireturn, 1) := by decide +kernel
def dkwX7_isHeard_0 : List UInt8 := [42, 27, 183, 0, 9, 153, 0, 12, 27, 8, 161, 0, 7, 4, 167, 0, 4, 3, 172]
abbrev dktX7_isHeard_0 : List UInt8 := dkwX7_isHeard_0 ++ []
theorem dksX7_isHeard_0 : cX7_isHeard.data.toList.drop 0 = dktX7_isHeard_0 := by decide +kernel
theorem dX7_isHeard_0 : decode cX7_isHeard 0 = .ok (.aload_n 0, 1) := dk_42 (dk_at dksX7_isHeard_0 0 rfl rfl)
theorem dX7_isHeard_1 : decode cX7_isHeard 1 = .ok (.iload_n 1, 1) := dk_27 (dk_at dksX7_isHeard_0 1 rfl rfl)
theorem dX7_isHeard_2 : decode cX7_isHeard 2 = .ok (.invokespecial 9, 3) := dk_183 0 9 (dk_at dksX7_isHeard_0 2 rfl rfl)
theorem dX7_isHeard_5 : decode cX7_isHeard 5 = .ok (.ifCond .eq 12, 3) := dk_153 0 12 (dk_at dksX7_isHeard_0 5 rfl rfl)
theorem dX7_isHeard_8 : decode cX7_isHeard 8 = .ok (.iload_n 1, 1) := dk_27 (dk_at dksX7_isHeard_0 8 rfl rfl)
theorem dX7_isHeard_9 : decode cX7_isHeard 9 = .ok (.iconst 5, 1) := dk_8 (dk_at dksX7_isHeard_0 9 rfl rfl)
theorem dX7_isHeard_10 : decode cX7_isHeard 10 = .ok (.if_icmp .lt 7, 3) := dk_161 0 7 (dk_at dksX7_isHeard_0 10 rfl rfl)
theorem dX7_isHeard_13 : decode cX7_isHeard 13 = .ok (.iconst 1, 1) := dk_4 (dk_at dksX7_isHeard_0 13 rfl rfl)
theorem dX7_isHeard_14 : decode cX7_isHeard 14 = .ok (.goto 4, 3) := dk_167 0 4 (dk_at dksX7_isHeard_0 14 rfl rfl)
theorem dX7_isHeard_17 : decode cX7_isHeard 17 = .ok (.iconst 0, 1) := dk_3 (dk_at dksX7_isHeard_0 17 rfl rfl)
theorem dX7_isHeard_18 : decode cX7_isHeard 18 = .ok (.ireturn, 1) := dk_172 (dk_at dksX7_isHeard_0 18 rfl rfl)
def dkwX9_hears_2 : List UInt8 := [167, 0, 14, 33, 9, 148, 153, 0, 7, 4, 167, 0, 4, 3, 172]
abbrev dktX9_hears_2 : List UInt8 := dkwX9_hears_2 ++ []
def dkwX9_hears_1 : List UInt8 := [154, 0, 26, 42, 180, 0, 3, 180, 0, 110, 44, 180, 0, 95, 50, 42, 27, 182, 0, 93, 182, 0, 114]
abbrev dktX9_hears_1 : List UInt8 := dkwX9_hears_1 ++ dktX9_hears_2
def dkwX9_hears_0 : List UInt8 := [42, 27, 44, 180, 0, 95, 182, 0, 100, 42, 180, 0, 3, 4, 182, 0, 104, 66, 33, 20, 0, 108, 148]
abbrev dktX9_hears_0 : List UInt8 := dkwX9_hears_0 ++ dktX9_hears_1
theorem dksX9_hears_0 : cX9_hears.data.toList.drop 0 = dktX9_hears_0 := by decide +kernel
theorem dksX9_hears_1 : cX9_hears.data.toList.drop 23 = dktX9_hears_1 := dk_seg dksX9_hears_0 23 rfl rfl
theorem dksX9_hears_2 : cX9_hears.data.toList.drop 46 = dktX9_hears_2 := dk_seg dksX9_hears_1 23 rfl rfl
theorem dX9_hears_0 : decode cX9_hears 0 = .ok (.aload_n 0, 1) := dk_42 (dk_at dksX9_hears_0 0 rfl rfl)
theorem dX9_hears_1 : decode cX9_hears 1 = .ok (.iload_n 1, 1) := dk_27 (dk_at dksX9_hears_0 1 rfl rfl)
theorem dX9_hears_2 : decode cX9_hears 2 = .ok (.aload_n 2, 1) := dk_44 (dk_at dksX9_hears_0 2 rfl rfl)
theorem dX9_hears_3 : decode cX9_hears 3 = .ok (.getfield 95, 3) := dk_180 0 95 (dk_at dksX9_hears_0 3 rfl rfl)
theorem dX9_hears_6 : decode cX9_hears 6 = .ok (.invokevirtual 100, 3) := dk_182 0 100 (dk_at dksX9_hears_0 6 rfl rfl)
theorem dX9_hears_9 : decode cX9_hears 9 = .ok (.aload_n 0, 1) := dk_42 (dk_at dksX9_hears_0 9 rfl rfl)
theorem dX9_hears_10 : decode cX9_hears 10 = .ok (.getfield 3, 3) := dk_180 0 3 (dk_at dksX9_hears_0 10 rfl rfl)
theorem dX9_hears_13 : decode cX9_hears 13 = .ok (.iconst 1, 1) := dk_4 (dk_at dksX9_hears_0 13 rfl rfl)
theorem dX9_hears_14 : decode cX9_hears 14 = .ok (.invokevirtual 104, 3) := dk_182 0 104 (dk_at dksX9_hears_0 14 rfl rfl)
theorem dX9_hears_17 : decode cX9_hears 17 = .ok (.lstore_n 3, 1) := dk_66 (dk_at dksX9_hears_0 17 rfl rfl)
theorem dX9_hears_18 : decode cX9_hears 18 = .ok (.lload_n 3, 1) := dk_33 (dk_at dksX9_hears_0 18 rfl rfl)
theorem dX9_hears_19 : decode cX9_hears 19 = .ok (.ldc2_w 108, 3) := dk_20 0 108 (dk_at dksX9_hears_0 19 rfl rfl)
theorem dX9_hears_22 : decode cX9_hears 22 = .ok (.lcmp, 1) := dk_148 (dk_at dksX9_hears_0 22 rfl rfl)
theorem dX9_hears_23 : decode cX9_hears 23 = .ok (.ifCond .ne 26, 3) := dk_154 0 26 (dk_at dksX9_hears_1 0 rfl rfl)
theorem dX9_hears_26 : decode cX9_hears 26 = .ok (.aload_n 0, 1) := dk_42 (dk_at dksX9_hears_1 3 rfl rfl)
theorem dX9_hears_27 : decode cX9_hears 27 = .ok (.getfield 3, 3) := dk_180 0 3 (dk_at dksX9_hears_1 4 rfl rfl)
theorem dX9_hears_30 : decode cX9_hears 30 = .ok (.getfield 110, 3) := dk_180 0 110 (dk_at dksX9_hears_1 7 rfl rfl)
theorem dX9_hears_33 : decode cX9_hears 33 = .ok (.aload_n 2, 1) := dk_44 (dk_at dksX9_hears_1 10 rfl rfl)
theorem dX9_hears_34 : decode cX9_hears 34 = .ok (.getfield 95, 3) := dk_180 0 95 (dk_at dksX9_hears_1 11 rfl rfl)
theorem dX9_hears_37 : decode cX9_hears 37 = .ok (.aaload, 1) := dk_50 (dk_at dksX9_hears_1 14 rfl rfl)
theorem dX9_hears_38 : decode cX9_hears 38 = .ok (.aload_n 0, 1) := dk_42 (dk_at dksX9_hears_1 15 rfl rfl)
theorem dX9_hears_39 : decode cX9_hears 39 = .ok (.iload_n 1, 1) := dk_27 (dk_at dksX9_hears_1 16 rfl rfl)
theorem dX9_hears_40 : decode cX9_hears 40 = .ok (.invokevirtual 93, 3) := dk_182 0 93 (dk_at dksX9_hears_1 17 rfl rfl)
theorem dX9_hears_43 : decode cX9_hears 43 = .ok (.invokevirtual 114, 3) := dk_182 0 114 (dk_at dksX9_hears_1 20 rfl rfl)
theorem dX9_hears_46 : decode cX9_hears 46 = .ok (.goto 14, 3) := dk_167 0 14 (dk_at dksX9_hears_2 0 rfl rfl)
theorem dX9_hears_49 : decode cX9_hears 49 = .ok (.lload_n 3, 1) := dk_33 (dk_at dksX9_hears_2 3 rfl rfl)
theorem dX9_hears_50 : decode cX9_hears 50 = .ok (.lconst 0, 1) := dk_9 (dk_at dksX9_hears_2 4 rfl rfl)
theorem dX9_hears_51 : decode cX9_hears 51 = .ok (.lcmp, 1) := dk_148 (dk_at dksX9_hears_2 5 rfl rfl)
theorem dX9_hears_52 : decode cX9_hears 52 = .ok (.ifCond .eq 7, 3) := dk_153 0 7 (dk_at dksX9_hears_2 6 rfl rfl)
theorem dX9_hears_55 : decode cX9_hears 55 = .ok (.iconst 1, 1) := dk_4 (dk_at dksX9_hears_2 9 rfl rfl)
theorem dX9_hears_56 : decode cX9_hears 56 = .ok (.goto 4, 3) := dk_167 0 4 (dk_at dksX9_hears_2 10 rfl rfl)
theorem dX9_hears_59 : decode cX9_hears 59 = .ok (.iconst 0, 1) := dk_3 (dk_at dksX9_hears_2 13 rfl rfl)
theorem dX9_hears_60 : decode cX9_hears 60 = .ok (.ireturn, 1) := dk_172 (dk_at dksX9_hears_2 14 rfl rfl)
def dkwX9_odds_3 : List UInt8 := [184, 0, 128, 136, 172]
abbrev dktX9_odds_3 : List UInt8 := dkwX9_odds_3 ++ []
def dkwX9_odds_2 : List UInt8 := [27, 182, 0, 41, 192, 0, 47, 180, 0, 90, 104, 167, 0, 15, 9, 20, 0, 120, 33, 184, 0, 122]
abbrev dktX9_odds_2 : List UInt8 := dkwX9_odds_2 ++ dktX9_odds_3
def dkwX9_odds_1 : List UInt8 := [182, 0, 104, 66, 33, 20, 0, 108, 148, 154, 0, 29, 16, 10, 42, 180, 0, 3, 180, 0, 32, 180, 0, 36]
abbrev dktX9_odds_1 : List UInt8 := dkwX9_odds_1 ++ dktX9_odds_2
def dkwX9_odds_0 : List UInt8 := [42, 180, 0, 66, 154, 0, 5, 3, 172, 42, 27, 44, 180, 0, 95, 182, 0, 100, 42, 180, 0, 3, 3]
abbrev dktX9_odds_0 : List UInt8 := dkwX9_odds_0 ++ dktX9_odds_1
theorem dksX9_odds_0 : cX9_odds.data.toList.drop 0 = dktX9_odds_0 := by decide +kernel
theorem dksX9_odds_1 : cX9_odds.data.toList.drop 23 = dktX9_odds_1 := dk_seg dksX9_odds_0 23 rfl rfl
theorem dksX9_odds_2 : cX9_odds.data.toList.drop 47 = dktX9_odds_2 := dk_seg dksX9_odds_1 24 rfl rfl
theorem dksX9_odds_3 : cX9_odds.data.toList.drop 69 = dktX9_odds_3 := dk_seg dksX9_odds_2 22 rfl rfl
theorem dX9_odds_0 : decode cX9_odds 0 = .ok (.aload_n 0, 1) := dk_42 (dk_at dksX9_odds_0 0 rfl rfl)
theorem dX9_odds_1 : decode cX9_odds 1 = .ok (.getfield 66, 3) := dk_180 0 66 (dk_at dksX9_odds_0 1 rfl rfl)
theorem dX9_odds_4 : decode cX9_odds 4 = .ok (.ifCond .ne 5, 3) := dk_154 0 5 (dk_at dksX9_odds_0 4 rfl rfl)
theorem dX9_odds_7 : decode cX9_odds 7 = .ok (.iconst 0, 1) := dk_3 (dk_at dksX9_odds_0 7 rfl rfl)
theorem dX9_odds_8 : decode cX9_odds 8 = .ok (.ireturn, 1) := dk_172 (dk_at dksX9_odds_0 8 rfl rfl)
theorem dX9_odds_9 : decode cX9_odds 9 = .ok (.aload_n 0, 1) := dk_42 (dk_at dksX9_odds_0 9 rfl rfl)
theorem dX9_odds_10 : decode cX9_odds 10 = .ok (.iload_n 1, 1) := dk_27 (dk_at dksX9_odds_0 10 rfl rfl)
theorem dX9_odds_11 : decode cX9_odds 11 = .ok (.aload_n 2, 1) := dk_44 (dk_at dksX9_odds_0 11 rfl rfl)
theorem dX9_odds_12 : decode cX9_odds 12 = .ok (.getfield 95, 3) := dk_180 0 95 (dk_at dksX9_odds_0 12 rfl rfl)
theorem dX9_odds_15 : decode cX9_odds 15 = .ok (.invokevirtual 100, 3) := dk_182 0 100 (dk_at dksX9_odds_0 15 rfl rfl)
theorem dX9_odds_18 : decode cX9_odds 18 = .ok (.aload_n 0, 1) := dk_42 (dk_at dksX9_odds_0 18 rfl rfl)
theorem dX9_odds_19 : decode cX9_odds 19 = .ok (.getfield 3, 3) := dk_180 0 3 (dk_at dksX9_odds_0 19 rfl rfl)
theorem dX9_odds_22 : decode cX9_odds 22 = .ok (.iconst 0, 1) := dk_3 (dk_at dksX9_odds_0 22 rfl rfl)
theorem dX9_odds_23 : decode cX9_odds 23 = .ok (.invokevirtual 104, 3) := dk_182 0 104 (dk_at dksX9_odds_1 0 rfl rfl)
theorem dX9_odds_26 : decode cX9_odds 26 = .ok (.lstore_n 3, 1) := dk_66 (dk_at dksX9_odds_1 3 rfl rfl)
theorem dX9_odds_27 : decode cX9_odds 27 = .ok (.lload_n 3, 1) := dk_33 (dk_at dksX9_odds_1 4 rfl rfl)
theorem dX9_odds_28 : decode cX9_odds 28 = .ok (.ldc2_w 108, 3) := dk_20 0 108 (dk_at dksX9_odds_1 5 rfl rfl)
theorem dX9_odds_31 : decode cX9_odds 31 = .ok (.lcmp, 1) := dk_148 (dk_at dksX9_odds_1 8 rfl rfl)
theorem dX9_odds_32 : decode cX9_odds 32 = .ok (.ifCond .ne 29, 3) := dk_154 0 29 (dk_at dksX9_odds_1 9 rfl rfl)
theorem dX9_odds_35 : decode cX9_odds 35 = .ok (.bipush 10, 2) := dk_16 10 (dk_at dksX9_odds_1 12 rfl rfl)
theorem dX9_odds_37 : decode cX9_odds 37 = .ok (.aload_n 0, 1) := dk_42 (dk_at dksX9_odds_1 14 rfl rfl)
theorem dX9_odds_38 : decode cX9_odds 38 = .ok (.getfield 3, 3) := dk_180 0 3 (dk_at dksX9_odds_1 15 rfl rfl)
theorem dX9_odds_41 : decode cX9_odds 41 = .ok (.getfield 32, 3) := dk_180 0 32 (dk_at dksX9_odds_1 18 rfl rfl)
theorem dX9_odds_44 : decode cX9_odds 44 = .ok (.getfield 36, 3) := dk_180 0 36 (dk_at dksX9_odds_1 21 rfl rfl)
theorem dX9_odds_47 : decode cX9_odds 47 = .ok (.iload_n 1, 1) := dk_27 (dk_at dksX9_odds_2 0 rfl rfl)
theorem dX9_odds_48 : decode cX9_odds 48 = .ok (.invokevirtual 41, 3) := dk_182 0 41 (dk_at dksX9_odds_2 1 rfl rfl)
theorem dX9_odds_51 : decode cX9_odds 51 = .ok (.checkcast 47, 3) := dk_192 0 47 (dk_at dksX9_odds_2 4 rfl rfl)
theorem dX9_odds_54 : decode cX9_odds 54 = .ok (.getfield 90, 3) := dk_180 0 90 (dk_at dksX9_odds_2 7 rfl rfl)
theorem dX9_odds_57 : decode cX9_odds 57 = .ok (.imul, 1) := dk_104 (dk_at dksX9_odds_2 10 rfl rfl)
theorem dX9_odds_58 : decode cX9_odds 58 = .ok (.goto 15, 3) := dk_167 0 15 (dk_at dksX9_odds_2 11 rfl rfl)
theorem dX9_odds_61 : decode cX9_odds 61 = .ok (.lconst 0, 1) := dk_9 (dk_at dksX9_odds_2 14 rfl rfl)
theorem dX9_odds_62 : decode cX9_odds 62 = .ok (.ldc2_w 120, 3) := dk_20 0 120 (dk_at dksX9_odds_2 15 rfl rfl)
theorem dX9_odds_65 : decode cX9_odds 65 = .ok (.lload_n 3, 1) := dk_33 (dk_at dksX9_odds_2 18 rfl rfl)
theorem dX9_odds_66 : decode cX9_odds 66 = .ok (.invokestatic 122, 3) := dk_184 0 122 (dk_at dksX9_odds_2 19 rfl rfl)
theorem dX9_odds_69 : decode cX9_odds 69 = .ok (.invokestatic 128, 3) := dk_184 0 128 (dk_at dksX9_odds_3 0 rfl rfl)
theorem dX9_odds_72 : decode cX9_odds 72 = .ok (.l2i, 1) := dk_136 (dk_at dksX9_odds_3 3 rfl rfl)
theorem dX9_odds_73 : decode cX9_odds 73 = .ok (.ireturn, 1) := dk_172 (dk_at dksX9_odds_3 4 rfl rfl)
def dkwX9_draw_1 : List UInt8 := [122, 27, 112, 172]
abbrev dktX9_draw_1 : List UInt8 := dkwX9_draw_1 ++ []
def dkwX9_draw_0 : List UInt8 := [42, 42, 180, 0, 63, 18, 81, 104, 17, 48, 57, 96, 18, 82, 126, 181, 0, 63, 42, 180, 0, 63, 16, 16]
abbrev dktX9_draw_0 : List UInt8 := dkwX9_draw_0 ++ dktX9_draw_1
theorem dksX9_draw_0 : cX9_draw.data.toList.drop 0 = dktX9_draw_0 := by decide +kernel
theorem dksX9_draw_1 : cX9_draw.data.toList.drop 24 = dktX9_draw_1 := dk_seg dksX9_draw_0 24 rfl rfl
theorem dX9_draw_0 : decode cX9_draw 0 = .ok (.aload_n 0, 1) := dk_42 (dk_at dksX9_draw_0 0 rfl rfl)
theorem dX9_draw_1 : decode cX9_draw 1 = .ok (.aload_n 0, 1) := dk_42 (dk_at dksX9_draw_0 1 rfl rfl)
theorem dX9_draw_2 : decode cX9_draw 2 = .ok (.getfield 63, 3) := dk_180 0 63 (dk_at dksX9_draw_0 2 rfl rfl)
theorem dX9_draw_5 : decode cX9_draw 5 = .ok (.ldc 81, 2) := dk_18 81 (dk_at dksX9_draw_0 5 rfl rfl)
theorem dX9_draw_7 : decode cX9_draw 7 = .ok (.imul, 1) := dk_104 (dk_at dksX9_draw_0 7 rfl rfl)
theorem dX9_draw_8 : decode cX9_draw 8 = .ok (.sipush 12345, 3) := dk_17 48 57 (dk_at dksX9_draw_0 8 rfl rfl)
theorem dX9_draw_11 : decode cX9_draw 11 = .ok (.iadd, 1) := dk_96 (dk_at dksX9_draw_0 11 rfl rfl)
theorem dX9_draw_12 : decode cX9_draw 12 = .ok (.ldc 82, 2) := dk_18 82 (dk_at dksX9_draw_0 12 rfl rfl)
theorem dX9_draw_14 : decode cX9_draw 14 = .ok (.iand, 1) := dk_126 (dk_at dksX9_draw_0 14 rfl rfl)
theorem dX9_draw_15 : decode cX9_draw 15 = .ok (.putfield 63, 3) := dk_181 0 63 (dk_at dksX9_draw_0 15 rfl rfl)
theorem dX9_draw_18 : decode cX9_draw 18 = .ok (.aload_n 0, 1) := dk_42 (dk_at dksX9_draw_0 18 rfl rfl)
theorem dX9_draw_19 : decode cX9_draw 19 = .ok (.getfield 63, 3) := dk_180 0 63 (dk_at dksX9_draw_0 19 rfl rfl)
theorem dX9_draw_22 : decode cX9_draw 22 = .ok (.bipush 16, 2) := dk_16 16 (dk_at dksX9_draw_0 22 rfl rfl)
theorem dX9_draw_24 : decode cX9_draw 24 = .ok (.ishr, 1) := dk_122 (dk_at dksX9_draw_1 0 rfl rfl)
theorem dX9_draw_25 : decode cX9_draw 25 = .ok (.iload_n 1, 1) := dk_27 (dk_at dksX9_draw_1 1 rfl rfl)
theorem dX9_draw_26 : decode cX9_draw 26 = .ok (.irem, 1) := dk_112 (dk_at dksX9_draw_1 2 rfl rfl)
theorem dX9_draw_27 : decode cX9_draw 27 = .ok (.ireturn, 1) := dk_172 (dk_at dksX9_draw_1 3 rfl rfl)
theorem dX4_asks_0 : decode cX4_asks 0 = .ok (.aload_n 1, 1) := by decide +kernel
theorem dX4_asks_1 : decode cX4_asks 1 = .ok (.getfield 9, 3) := by decide +kernel
theorem dX4_asks_4 : decode cX4_asks 4 = .ok (.ireturn, 1) := by decide +kernel
theorem dX8_asks_0 : decode cX8_asks 0 = .ok (.iconst (-1), 1) := by decide +kernel
theorem dX8_asks_1 : decode cX8_asks 1 = .ok (.ireturn, 1) := by decide +kernel
def dkwX9_ask_11 : List UInt8 := [132, 11, 1, 167, 255, 217, 42, 180, 0, 22, 28, 92, 46, 4, 96, 79, 4, 172]
abbrev dktX9_ask_11 : List UInt8 := dkwX9_ask_11 ++ []
def dkwX9_ask_10 : List UInt8 := [42, 28, 21, 11, 182, 0, 137, 153, 0, 17, 42, 180, 0, 15, 21, 11, 92, 46, 4, 21, 8, 120, 128, 79]
abbrev dktX9_ask_10 : List UInt8 := dkwX9_ask_10 ++ dktX9_ask_11
def dkwX9_ask_9 : List UInt8 := [54, 10, 21, 10, 154, 0, 5, 3, 172, 3, 54, 11, 21, 11, 42, 180, 0, 3, 182, 0, 28, 162, 0, 33]
abbrev dktX9_ask_9 : List UInt8 := dkwX9_ask_9 ++ dktX9_ask_10
def dkwX9_ask_8 : List UInt8 := [159, 0, 19, 21, 9, 158, 0, 18, 42, 16, 100, 182, 0, 159, 21, 9, 162, 0, 7, 4, 167, 0, 4, 3]
abbrev dktX9_ask_8 : List UInt8 := dkwX9_ask_8 ++ dktX9_ask_9
def dkwX9_ask_7 : List UInt8 := [21, 9, 16, 50, 161, 0, 7, 4, 167, 0, 4, 3, 54, 10, 21, 4, 153, 0, 33, 21, 9, 16, 100]
abbrev dktX9_ask_7 : List UInt8 := dkwX9_ask_7 ++ dktX9_ask_8
def dkwX9_ask_6 : List UInt8 := [180, 0, 15, 28, 46, 21, 8, 122, 4, 126, 154, 0, 5, 3, 172, 42, 28, 25, 5, 182, 0, 155, 54, 9]
abbrev dktX9_ask_6 : List UInt8 := dkwX9_ask_6 ++ dktX9_ask_7
def dkwX9_ask_5 : List UInt8 := [180, 0, 15, 21, 9, 92, 46, 21, 7, 128, 79, 132, 9, 1, 167, 255, 202, 21, 8, 2, 159, 0, 17, 42]
abbrev dktX9_ask_5 : List UInt8 := dkwX9_ask_5 ++ dktX9_ask_6
def dkwX9_ask_4 : List UInt8 := [42, 27, 21, 9, 182, 0, 137, 153, 0, 26, 42, 21, 9, 25, 5, 182, 0, 151, 153, 0, 15, 42]
abbrev dktX9_ask_4 : List UInt8 := dkwX9_ask_4 ++ dktX9_ask_5
def dkwX9_ask_3 : List UInt8 := [181, 0, 57, 3, 54, 9, 21, 9, 42, 180, 0, 3, 182, 0, 28, 162, 0, 48, 21, 9, 27, 159, 0, 36]
abbrev dktX9_ask_3 : List UInt8 := dkwX9_ask_3 ++ dktX9_ask_4
def dkwX9_ask_2 : List UInt8 := [182, 0, 148, 54, 8, 42, 180, 0, 25, 27, 92, 46, 4, 96, 79, 42, 89, 180, 0, 57, 4, 96]
abbrev dktX9_ask_2 : List UInt8 := dkwX9_ask_2 ++ dktX9_ask_3
def dkwX9_ask_1 : List UInt8 := [180, 0, 110, 25, 5, 180, 0, 95, 50, 58, 6, 25, 6, 25, 5, 182, 0, 144, 54, 7, 25, 6, 25, 5]
abbrev dktX9_ask_1 : List UInt8 := dkwX9_ask_1 ++ dktX9_ask_2
def dkwX9_ask_0 : List UInt8 := [42, 180, 0, 3, 180, 0, 32, 180, 0, 134, 29, 182, 0, 41, 192, 0, 96, 58, 5, 42, 180, 0, 3]
abbrev dktX9_ask_0 : List UInt8 := dkwX9_ask_0 ++ dktX9_ask_1
theorem dksX9_ask_0 : cX9_ask.data.toList.drop 0 = dktX9_ask_0 := by decide +kernel
theorem dksX9_ask_1 : cX9_ask.data.toList.drop 23 = dktX9_ask_1 := dk_seg dksX9_ask_0 23 rfl rfl
theorem dksX9_ask_2 : cX9_ask.data.toList.drop 47 = dktX9_ask_2 := dk_seg dksX9_ask_1 24 rfl rfl
theorem dksX9_ask_3 : cX9_ask.data.toList.drop 69 = dktX9_ask_3 := dk_seg dksX9_ask_2 22 rfl rfl
theorem dksX9_ask_4 : cX9_ask.data.toList.drop 93 = dktX9_ask_4 := dk_seg dksX9_ask_3 24 rfl rfl
theorem dksX9_ask_5 : cX9_ask.data.toList.drop 115 = dktX9_ask_5 := dk_seg dksX9_ask_4 22 rfl rfl
theorem dksX9_ask_6 : cX9_ask.data.toList.drop 139 = dktX9_ask_6 := dk_seg dksX9_ask_5 24 rfl rfl
theorem dksX9_ask_7 : cX9_ask.data.toList.drop 163 = dktX9_ask_7 := dk_seg dksX9_ask_6 24 rfl rfl
theorem dksX9_ask_8 : cX9_ask.data.toList.drop 186 = dktX9_ask_8 := dk_seg dksX9_ask_7 23 rfl rfl
theorem dksX9_ask_9 : cX9_ask.data.toList.drop 210 = dktX9_ask_9 := dk_seg dksX9_ask_8 24 rfl rfl
theorem dksX9_ask_10 : cX9_ask.data.toList.drop 234 = dktX9_ask_10 := dk_seg dksX9_ask_9 24 rfl rfl
theorem dksX9_ask_11 : cX9_ask.data.toList.drop 258 = dktX9_ask_11 := dk_seg dksX9_ask_10 24 rfl rfl
theorem dX9_ask_0 : decode cX9_ask 0 = .ok (.aload_n 0, 1) := dk_42 (dk_at dksX9_ask_0 0 rfl rfl)
theorem dX9_ask_1 : decode cX9_ask 1 = .ok (.getfield 3, 3) := dk_180 0 3 (dk_at dksX9_ask_0 1 rfl rfl)
theorem dX9_ask_4 : decode cX9_ask 4 = .ok (.getfield 32, 3) := dk_180 0 32 (dk_at dksX9_ask_0 4 rfl rfl)
theorem dX9_ask_7 : decode cX9_ask 7 = .ok (.getfield 134, 3) := dk_180 0 134 (dk_at dksX9_ask_0 7 rfl rfl)
theorem dX9_ask_10 : decode cX9_ask 10 = .ok (.iload_n 3, 1) := dk_29 (dk_at dksX9_ask_0 10 rfl rfl)
theorem dX9_ask_11 : decode cX9_ask 11 = .ok (.invokevirtual 41, 3) := dk_182 0 41 (dk_at dksX9_ask_0 11 rfl rfl)
theorem dX9_ask_14 : decode cX9_ask 14 = .ok (.checkcast 96, 3) := dk_192 0 96 (dk_at dksX9_ask_0 14 rfl rfl)
theorem dX9_ask_17 : decode cX9_ask 17 = .ok (.astore 5, 2) := dk_58 5 (dk_at dksX9_ask_0 17 rfl rfl)
theorem dX9_ask_19 : decode cX9_ask 19 = .ok (.aload_n 0, 1) := dk_42 (dk_at dksX9_ask_0 19 rfl rfl)
theorem dX9_ask_20 : decode cX9_ask 20 = .ok (.getfield 3, 3) := dk_180 0 3 (dk_at dksX9_ask_0 20 rfl rfl)
theorem dX9_ask_23 : decode cX9_ask 23 = .ok (.getfield 110, 3) := dk_180 0 110 (dk_at dksX9_ask_1 0 rfl rfl)
theorem dX9_ask_26 : decode cX9_ask 26 = .ok (.aload 5, 2) := dk_25 5 (dk_at dksX9_ask_1 3 rfl rfl)
theorem dX9_ask_28 : decode cX9_ask 28 = .ok (.getfield 95, 3) := dk_180 0 95 (dk_at dksX9_ask_1 5 rfl rfl)
theorem dX9_ask_31 : decode cX9_ask 31 = .ok (.aaload, 1) := dk_50 (dk_at dksX9_ask_1 8 rfl rfl)
theorem dX9_ask_32 : decode cX9_ask 32 = .ok (.astore 6, 2) := dk_58 6 (dk_at dksX9_ask_1 9 rfl rfl)
theorem dX9_ask_34 : decode cX9_ask 34 = .ok (.aload 6, 2) := dk_25 6 (dk_at dksX9_ask_1 11 rfl rfl)
theorem dX9_ask_36 : decode cX9_ask 36 = .ok (.aload 5, 2) := dk_25 5 (dk_at dksX9_ask_1 13 rfl rfl)
theorem dX9_ask_38 : decode cX9_ask 38 = .ok (.invokevirtual 144, 3) := dk_182 0 144 (dk_at dksX9_ask_1 15 rfl rfl)
theorem dX9_ask_41 : decode cX9_ask 41 = .ok (.istore 7, 2) := dk_54 7 (dk_at dksX9_ask_1 18 rfl rfl)
theorem dX9_ask_43 : decode cX9_ask 43 = .ok (.aload 6, 2) := dk_25 6 (dk_at dksX9_ask_1 20 rfl rfl)
theorem dX9_ask_45 : decode cX9_ask 45 = .ok (.aload 5, 2) := dk_25 5 (dk_at dksX9_ask_1 22 rfl rfl)
theorem dX9_ask_47 : decode cX9_ask 47 = .ok (.invokevirtual 148, 3) := dk_182 0 148 (dk_at dksX9_ask_2 0 rfl rfl)
theorem dX9_ask_50 : decode cX9_ask 50 = .ok (.istore 8, 2) := dk_54 8 (dk_at dksX9_ask_2 3 rfl rfl)
theorem dX9_ask_52 : decode cX9_ask 52 = .ok (.aload_n 0, 1) := dk_42 (dk_at dksX9_ask_2 5 rfl rfl)
theorem dX9_ask_53 : decode cX9_ask 53 = .ok (.getfield 25, 3) := dk_180 0 25 (dk_at dksX9_ask_2 6 rfl rfl)
theorem dX9_ask_56 : decode cX9_ask 56 = .ok (.iload_n 1, 1) := dk_27 (dk_at dksX9_ask_2 9 rfl rfl)
theorem dX9_ask_57 : decode cX9_ask 57 = .ok (.dup2, 1) := dk_92 (dk_at dksX9_ask_2 10 rfl rfl)
theorem dX9_ask_58 : decode cX9_ask 58 = .ok (.iaload, 1) := dk_46 (dk_at dksX9_ask_2 11 rfl rfl)
theorem dX9_ask_59 : decode cX9_ask 59 = .ok (.iconst 1, 1) := dk_4 (dk_at dksX9_ask_2 12 rfl rfl)
theorem dX9_ask_60 : decode cX9_ask 60 = .ok (.iadd, 1) := dk_96 (dk_at dksX9_ask_2 13 rfl rfl)
theorem dX9_ask_61 : decode cX9_ask 61 = .ok (.iastore, 1) := dk_79 (dk_at dksX9_ask_2 14 rfl rfl)
theorem dX9_ask_62 : decode cX9_ask 62 = .ok (.aload_n 0, 1) := dk_42 (dk_at dksX9_ask_2 15 rfl rfl)
theorem dX9_ask_63 : decode cX9_ask 63 = .ok (.dup, 1) := dk_89 (dk_at dksX9_ask_2 16 rfl rfl)
theorem dX9_ask_64 : decode cX9_ask 64 = .ok (.getfield 57, 3) := dk_180 0 57 (dk_at dksX9_ask_2 17 rfl rfl)
theorem dX9_ask_67 : decode cX9_ask 67 = .ok (.iconst 1, 1) := dk_4 (dk_at dksX9_ask_2 20 rfl rfl)
theorem dX9_ask_68 : decode cX9_ask 68 = .ok (.iadd, 1) := dk_96 (dk_at dksX9_ask_2 21 rfl rfl)
theorem dX9_ask_69 : decode cX9_ask 69 = .ok (.putfield 57, 3) := dk_181 0 57 (dk_at dksX9_ask_3 0 rfl rfl)
theorem dX9_ask_72 : decode cX9_ask 72 = .ok (.iconst 0, 1) := dk_3 (dk_at dksX9_ask_3 3 rfl rfl)
theorem dX9_ask_73 : decode cX9_ask 73 = .ok (.istore 9, 2) := dk_54 9 (dk_at dksX9_ask_3 4 rfl rfl)
theorem dX9_ask_75 : decode cX9_ask 75 = .ok (.iload 9, 2) := dk_21 9 (dk_at dksX9_ask_3 6 rfl rfl)
theorem dX9_ask_77 : decode cX9_ask 77 = .ok (.aload_n 0, 1) := dk_42 (dk_at dksX9_ask_3 8 rfl rfl)
theorem dX9_ask_78 : decode cX9_ask 78 = .ok (.getfield 3, 3) := dk_180 0 3 (dk_at dksX9_ask_3 9 rfl rfl)
theorem dX9_ask_81 : decode cX9_ask 81 = .ok (.invokevirtual 28, 3) := dk_182 0 28 (dk_at dksX9_ask_3 12 rfl rfl)
theorem dX9_ask_84 : decode cX9_ask 84 = .ok (.if_icmp .ge 48, 3) := dk_162 0 48 (dk_at dksX9_ask_3 15 rfl rfl)
theorem dX9_ask_87 : decode cX9_ask 87 = .ok (.iload 9, 2) := dk_21 9 (dk_at dksX9_ask_3 18 rfl rfl)
theorem dX9_ask_89 : decode cX9_ask 89 = .ok (.iload_n 1, 1) := dk_27 (dk_at dksX9_ask_3 20 rfl rfl)
theorem dX9_ask_90 : decode cX9_ask 90 = .ok (.if_icmp .eq 36, 3) := dk_159 0 36 (dk_at dksX9_ask_3 21 rfl rfl)
theorem dX9_ask_93 : decode cX9_ask 93 = .ok (.aload_n 0, 1) := dk_42 (dk_at dksX9_ask_4 0 rfl rfl)
theorem dX9_ask_94 : decode cX9_ask 94 = .ok (.iload_n 1, 1) := dk_27 (dk_at dksX9_ask_4 1 rfl rfl)
theorem dX9_ask_95 : decode cX9_ask 95 = .ok (.iload 9, 2) := dk_21 9 (dk_at dksX9_ask_4 2 rfl rfl)
theorem dX9_ask_97 : decode cX9_ask 97 = .ok (.invokevirtual 137, 3) := dk_182 0 137 (dk_at dksX9_ask_4 4 rfl rfl)
theorem dX9_ask_100 : decode cX9_ask 100 = .ok (.ifCond .eq 26, 3) := dk_153 0 26 (dk_at dksX9_ask_4 7 rfl rfl)
theorem dX9_ask_103 : decode cX9_ask 103 = .ok (.aload_n 0, 1) := dk_42 (dk_at dksX9_ask_4 10 rfl rfl)
theorem dX9_ask_104 : decode cX9_ask 104 = .ok (.iload 9, 2) := dk_21 9 (dk_at dksX9_ask_4 11 rfl rfl)
theorem dX9_ask_106 : decode cX9_ask 106 = .ok (.aload 5, 2) := dk_25 5 (dk_at dksX9_ask_4 13 rfl rfl)
theorem dX9_ask_108 : decode cX9_ask 108 = .ok (.invokevirtual 151, 3) := dk_182 0 151 (dk_at dksX9_ask_4 15 rfl rfl)
theorem dX9_ask_111 : decode cX9_ask 111 = .ok (.ifCond .eq 15, 3) := dk_153 0 15 (dk_at dksX9_ask_4 18 rfl rfl)
theorem dX9_ask_114 : decode cX9_ask 114 = .ok (.aload_n 0, 1) := dk_42 (dk_at dksX9_ask_4 21 rfl rfl)
theorem dX9_ask_115 : decode cX9_ask 115 = .ok (.getfield 15, 3) := dk_180 0 15 (dk_at dksX9_ask_5 0 rfl rfl)
theorem dX9_ask_118 : decode cX9_ask 118 = .ok (.iload 9, 2) := dk_21 9 (dk_at dksX9_ask_5 3 rfl rfl)
theorem dX9_ask_120 : decode cX9_ask 120 = .ok (.dup2, 1) := dk_92 (dk_at dksX9_ask_5 5 rfl rfl)
theorem dX9_ask_121 : decode cX9_ask 121 = .ok (.iaload, 1) := dk_46 (dk_at dksX9_ask_5 6 rfl rfl)
theorem dX9_ask_122 : decode cX9_ask 122 = .ok (.iload 7, 2) := dk_21 7 (dk_at dksX9_ask_5 7 rfl rfl)
theorem dX9_ask_124 : decode cX9_ask 124 = .ok (.ior, 1) := dk_128 (dk_at dksX9_ask_5 9 rfl rfl)
theorem dX9_ask_125 : decode cX9_ask 125 = .ok (.iastore, 1) := dk_79 (dk_at dksX9_ask_5 10 rfl rfl)
theorem dX9_ask_126 : decode cX9_ask 126 = .ok (.iinc 9 1, 3) := dk_132 9 1 (dk_at dksX9_ask_5 11 rfl rfl)
theorem dX9_ask_129 : decode cX9_ask 129 = .ok (.goto (-54), 3) := dk_167 255 202 (dk_at dksX9_ask_5 14 rfl rfl)
theorem dX9_ask_132 : decode cX9_ask 132 = .ok (.iload 8, 2) := dk_21 8 (dk_at dksX9_ask_5 17 rfl rfl)
theorem dX9_ask_134 : decode cX9_ask 134 = .ok (.iconst (-1), 1) := dk_2 (dk_at dksX9_ask_5 19 rfl rfl)
theorem dX9_ask_135 : decode cX9_ask 135 = .ok (.if_icmp .eq 17, 3) := dk_159 0 17 (dk_at dksX9_ask_5 20 rfl rfl)
theorem dX9_ask_138 : decode cX9_ask 138 = .ok (.aload_n 0, 1) := dk_42 (dk_at dksX9_ask_5 23 rfl rfl)
theorem dX9_ask_139 : decode cX9_ask 139 = .ok (.getfield 15, 3) := dk_180 0 15 (dk_at dksX9_ask_6 0 rfl rfl)
theorem dX9_ask_142 : decode cX9_ask 142 = .ok (.iload_n 2, 1) := dk_28 (dk_at dksX9_ask_6 3 rfl rfl)
theorem dX9_ask_143 : decode cX9_ask 143 = .ok (.iaload, 1) := dk_46 (dk_at dksX9_ask_6 4 rfl rfl)
theorem dX9_ask_144 : decode cX9_ask 144 = .ok (.iload 8, 2) := dk_21 8 (dk_at dksX9_ask_6 5 rfl rfl)
theorem dX9_ask_146 : decode cX9_ask 146 = .ok (.ishr, 1) := dk_122 (dk_at dksX9_ask_6 7 rfl rfl)
theorem dX9_ask_147 : decode cX9_ask 147 = .ok (.iconst 1, 1) := dk_4 (dk_at dksX9_ask_6 8 rfl rfl)
theorem dX9_ask_148 : decode cX9_ask 148 = .ok (.iand, 1) := dk_126 (dk_at dksX9_ask_6 9 rfl rfl)
theorem dX9_ask_149 : decode cX9_ask 149 = .ok (.ifCond .ne 5, 3) := dk_154 0 5 (dk_at dksX9_ask_6 10 rfl rfl)
theorem dX9_ask_152 : decode cX9_ask 152 = .ok (.iconst 0, 1) := dk_3 (dk_at dksX9_ask_6 13 rfl rfl)
theorem dX9_ask_153 : decode cX9_ask 153 = .ok (.ireturn, 1) := dk_172 (dk_at dksX9_ask_6 14 rfl rfl)
theorem dX9_ask_154 : decode cX9_ask 154 = .ok (.aload_n 0, 1) := dk_42 (dk_at dksX9_ask_6 15 rfl rfl)
theorem dX9_ask_155 : decode cX9_ask 155 = .ok (.iload_n 2, 1) := dk_28 (dk_at dksX9_ask_6 16 rfl rfl)
theorem dX9_ask_156 : decode cX9_ask 156 = .ok (.aload 5, 2) := dk_25 5 (dk_at dksX9_ask_6 17 rfl rfl)
theorem dX9_ask_158 : decode cX9_ask 158 = .ok (.invokevirtual 155, 3) := dk_182 0 155 (dk_at dksX9_ask_6 19 rfl rfl)
theorem dX9_ask_161 : decode cX9_ask 161 = .ok (.istore 9, 2) := dk_54 9 (dk_at dksX9_ask_6 22 rfl rfl)
theorem dX9_ask_163 : decode cX9_ask 163 = .ok (.iload 9, 2) := dk_21 9 (dk_at dksX9_ask_7 0 rfl rfl)
theorem dX9_ask_165 : decode cX9_ask 165 = .ok (.bipush 50, 2) := dk_16 50 (dk_at dksX9_ask_7 2 rfl rfl)
theorem dX9_ask_167 : decode cX9_ask 167 = .ok (.if_icmp .lt 7, 3) := dk_161 0 7 (dk_at dksX9_ask_7 4 rfl rfl)
theorem dX9_ask_170 : decode cX9_ask 170 = .ok (.iconst 1, 1) := dk_4 (dk_at dksX9_ask_7 7 rfl rfl)
theorem dX9_ask_171 : decode cX9_ask 171 = .ok (.goto 4, 3) := dk_167 0 4 (dk_at dksX9_ask_7 8 rfl rfl)
theorem dX9_ask_174 : decode cX9_ask 174 = .ok (.iconst 0, 1) := dk_3 (dk_at dksX9_ask_7 11 rfl rfl)
theorem dX9_ask_175 : decode cX9_ask 175 = .ok (.istore 10, 2) := dk_54 10 (dk_at dksX9_ask_7 12 rfl rfl)
theorem dX9_ask_177 : decode cX9_ask 177 = .ok (.iload 4, 2) := dk_21 4 (dk_at dksX9_ask_7 14 rfl rfl)
theorem dX9_ask_179 : decode cX9_ask 179 = .ok (.ifCond .eq 33, 3) := dk_153 0 33 (dk_at dksX9_ask_7 16 rfl rfl)
theorem dX9_ask_182 : decode cX9_ask 182 = .ok (.iload 9, 2) := dk_21 9 (dk_at dksX9_ask_7 19 rfl rfl)
theorem dX9_ask_184 : decode cX9_ask 184 = .ok (.bipush 100, 2) := dk_16 100 (dk_at dksX9_ask_7 21 rfl rfl)
theorem dX9_ask_186 : decode cX9_ask 186 = .ok (.if_icmp .eq 19, 3) := dk_159 0 19 (dk_at dksX9_ask_8 0 rfl rfl)
theorem dX9_ask_189 : decode cX9_ask 189 = .ok (.iload 9, 2) := dk_21 9 (dk_at dksX9_ask_8 3 rfl rfl)
theorem dX9_ask_191 : decode cX9_ask 191 = .ok (.ifCond .le 18, 3) := dk_158 0 18 (dk_at dksX9_ask_8 5 rfl rfl)
theorem dX9_ask_194 : decode cX9_ask 194 = .ok (.aload_n 0, 1) := dk_42 (dk_at dksX9_ask_8 8 rfl rfl)
theorem dX9_ask_195 : decode cX9_ask 195 = .ok (.bipush 100, 2) := dk_16 100 (dk_at dksX9_ask_8 9 rfl rfl)
theorem dX9_ask_197 : decode cX9_ask 197 = .ok (.invokevirtual 159, 3) := dk_182 0 159 (dk_at dksX9_ask_8 11 rfl rfl)
theorem dX9_ask_200 : decode cX9_ask 200 = .ok (.iload 9, 2) := dk_21 9 (dk_at dksX9_ask_8 14 rfl rfl)
theorem dX9_ask_202 : decode cX9_ask 202 = .ok (.if_icmp .ge 7, 3) := dk_162 0 7 (dk_at dksX9_ask_8 16 rfl rfl)
theorem dX9_ask_205 : decode cX9_ask 205 = .ok (.iconst 1, 1) := dk_4 (dk_at dksX9_ask_8 19 rfl rfl)
theorem dX9_ask_206 : decode cX9_ask 206 = .ok (.goto 4, 3) := dk_167 0 4 (dk_at dksX9_ask_8 20 rfl rfl)
theorem dX9_ask_209 : decode cX9_ask 209 = .ok (.iconst 0, 1) := dk_3 (dk_at dksX9_ask_8 23 rfl rfl)
theorem dX9_ask_210 : decode cX9_ask 210 = .ok (.istore 10, 2) := dk_54 10 (dk_at dksX9_ask_9 0 rfl rfl)
theorem dX9_ask_212 : decode cX9_ask 212 = .ok (.iload 10, 2) := dk_21 10 (dk_at dksX9_ask_9 2 rfl rfl)
theorem dX9_ask_214 : decode cX9_ask 214 = .ok (.ifCond .ne 5, 3) := dk_154 0 5 (dk_at dksX9_ask_9 4 rfl rfl)
theorem dX9_ask_217 : decode cX9_ask 217 = .ok (.iconst 0, 1) := dk_3 (dk_at dksX9_ask_9 7 rfl rfl)
theorem dX9_ask_218 : decode cX9_ask 218 = .ok (.ireturn, 1) := dk_172 (dk_at dksX9_ask_9 8 rfl rfl)
theorem dX9_ask_219 : decode cX9_ask 219 = .ok (.iconst 0, 1) := dk_3 (dk_at dksX9_ask_9 9 rfl rfl)
theorem dX9_ask_220 : decode cX9_ask 220 = .ok (.istore 11, 2) := dk_54 11 (dk_at dksX9_ask_9 10 rfl rfl)
theorem dX9_ask_222 : decode cX9_ask 222 = .ok (.iload 11, 2) := dk_21 11 (dk_at dksX9_ask_9 12 rfl rfl)
theorem dX9_ask_224 : decode cX9_ask 224 = .ok (.aload_n 0, 1) := dk_42 (dk_at dksX9_ask_9 14 rfl rfl)
theorem dX9_ask_225 : decode cX9_ask 225 = .ok (.getfield 3, 3) := dk_180 0 3 (dk_at dksX9_ask_9 15 rfl rfl)
theorem dX9_ask_228 : decode cX9_ask 228 = .ok (.invokevirtual 28, 3) := dk_182 0 28 (dk_at dksX9_ask_9 18 rfl rfl)
theorem dX9_ask_231 : decode cX9_ask 231 = .ok (.if_icmp .ge 33, 3) := dk_162 0 33 (dk_at dksX9_ask_9 21 rfl rfl)
theorem dX9_ask_234 : decode cX9_ask 234 = .ok (.aload_n 0, 1) := dk_42 (dk_at dksX9_ask_10 0 rfl rfl)
theorem dX9_ask_235 : decode cX9_ask 235 = .ok (.iload_n 2, 1) := dk_28 (dk_at dksX9_ask_10 1 rfl rfl)
theorem dX9_ask_236 : decode cX9_ask 236 = .ok (.iload 11, 2) := dk_21 11 (dk_at dksX9_ask_10 2 rfl rfl)
theorem dX9_ask_238 : decode cX9_ask 238 = .ok (.invokevirtual 137, 3) := dk_182 0 137 (dk_at dksX9_ask_10 4 rfl rfl)
theorem dX9_ask_241 : decode cX9_ask 241 = .ok (.ifCond .eq 17, 3) := dk_153 0 17 (dk_at dksX9_ask_10 7 rfl rfl)
theorem dX9_ask_244 : decode cX9_ask 244 = .ok (.aload_n 0, 1) := dk_42 (dk_at dksX9_ask_10 10 rfl rfl)
theorem dX9_ask_245 : decode cX9_ask 245 = .ok (.getfield 15, 3) := dk_180 0 15 (dk_at dksX9_ask_10 11 rfl rfl)
theorem dX9_ask_248 : decode cX9_ask 248 = .ok (.iload 11, 2) := dk_21 11 (dk_at dksX9_ask_10 14 rfl rfl)
theorem dX9_ask_250 : decode cX9_ask 250 = .ok (.dup2, 1) := dk_92 (dk_at dksX9_ask_10 16 rfl rfl)
theorem dX9_ask_251 : decode cX9_ask 251 = .ok (.iaload, 1) := dk_46 (dk_at dksX9_ask_10 17 rfl rfl)
theorem dX9_ask_252 : decode cX9_ask 252 = .ok (.iconst 1, 1) := dk_4 (dk_at dksX9_ask_10 18 rfl rfl)
theorem dX9_ask_253 : decode cX9_ask 253 = .ok (.iload 8, 2) := dk_21 8 (dk_at dksX9_ask_10 19 rfl rfl)
theorem dX9_ask_255 : decode cX9_ask 255 = .ok (.ishl, 1) := dk_120 (dk_at dksX9_ask_10 21 rfl rfl)
theorem dX9_ask_256 : decode cX9_ask 256 = .ok (.ior, 1) := dk_128 (dk_at dksX9_ask_10 22 rfl rfl)
theorem dX9_ask_257 : decode cX9_ask 257 = .ok (.iastore, 1) := dk_79 (dk_at dksX9_ask_10 23 rfl rfl)
theorem dX9_ask_258 : decode cX9_ask 258 = .ok (.iinc 11 1, 3) := dk_132 11 1 (dk_at dksX9_ask_11 0 rfl rfl)
theorem dX9_ask_261 : decode cX9_ask 261 = .ok (.goto (-39), 3) := dk_167 255 217 (dk_at dksX9_ask_11 3 rfl rfl)
theorem dX9_ask_264 : decode cX9_ask 264 = .ok (.aload_n 0, 1) := dk_42 (dk_at dksX9_ask_11 6 rfl rfl)
theorem dX9_ask_265 : decode cX9_ask 265 = .ok (.getfield 22, 3) := dk_180 0 22 (dk_at dksX9_ask_11 7 rfl rfl)
theorem dX9_ask_268 : decode cX9_ask 268 = .ok (.iload_n 2, 1) := dk_28 (dk_at dksX9_ask_11 10 rfl rfl)
theorem dX9_ask_269 : decode cX9_ask 269 = .ok (.dup2, 1) := dk_92 (dk_at dksX9_ask_11 11 rfl rfl)
theorem dX9_ask_270 : decode cX9_ask 270 = .ok (.iaload, 1) := dk_46 (dk_at dksX9_ask_11 12 rfl rfl)
theorem dX9_ask_271 : decode cX9_ask 271 = .ok (.iconst 1, 1) := dk_4 (dk_at dksX9_ask_11 13 rfl rfl)
theorem dX9_ask_272 : decode cX9_ask 272 = .ok (.iadd, 1) := dk_96 (dk_at dksX9_ask_11 14 rfl rfl)
theorem dX9_ask_273 : decode cX9_ask 273 = .ok (.iastore, 1) := dk_79 (dk_at dksX9_ask_11 15 rfl rfl)
theorem dX9_ask_274 : decode cX9_ask 274 = .ok (.iconst 1, 1) := dk_4 (dk_at dksX9_ask_11 16 rfl rfl)
theorem dX9_ask_275 : decode cX9_ask 275 = .ok (.ireturn, 1) := dk_172 (dk_at dksX9_ask_11 17 rfl rfl)
def dkwX1_ask_2 : List UInt8 := [182, 1, 8, 153, 0, 7, 4, 167, 0, 4, 3, 172]
abbrev dktX1_ask_2 : List UInt8 := dkwX1_ask_2 ++ []
def dkwX1_ask_1 : List UInt8 := [28, 29, 4, 182, 0, 245, 154, 0, 6, 16, 254, 172, 42, 182, 1, 5, 42, 180, 0, 95, 27, 28, 29, 4]
abbrev dktX1_ask_1 : List UInt8 := dkwX1_ask_1 ++ dktX1_ask_2
def dkwX1_ask_0 : List UInt8 := [42, 27, 28, 182, 0, 241, 153, 0, 11, 42, 29, 182, 0, 226, 154, 0, 5, 2, 172, 42, 180, 0, 95, 27]
abbrev dktX1_ask_0 : List UInt8 := dkwX1_ask_0 ++ dktX1_ask_1
theorem dksX1_ask_0 : cX1_ask.data.toList.drop 0 = dktX1_ask_0 := by decide +kernel
theorem dksX1_ask_1 : cX1_ask.data.toList.drop 24 = dktX1_ask_1 := dk_seg dksX1_ask_0 24 rfl rfl
theorem dksX1_ask_2 : cX1_ask.data.toList.drop 48 = dktX1_ask_2 := dk_seg dksX1_ask_1 24 rfl rfl
theorem dX1_ask_0 : decode cX1_ask 0 = .ok (.aload_n 0, 1) := dk_42 (dk_at dksX1_ask_0 0 rfl rfl)
theorem dX1_ask_1 : decode cX1_ask 1 = .ok (.iload_n 1, 1) := dk_27 (dk_at dksX1_ask_0 1 rfl rfl)
theorem dX1_ask_2 : decode cX1_ask 2 = .ok (.iload_n 2, 1) := dk_28 (dk_at dksX1_ask_0 2 rfl rfl)
theorem dX1_ask_3 : decode cX1_ask 3 = .ok (.invokevirtual 241, 3) := dk_182 0 241 (dk_at dksX1_ask_0 3 rfl rfl)
theorem dX1_ask_6 : decode cX1_ask 6 = .ok (.ifCond .eq 11, 3) := dk_153 0 11 (dk_at dksX1_ask_0 6 rfl rfl)
theorem dX1_ask_9 : decode cX1_ask 9 = .ok (.aload_n 0, 1) := dk_42 (dk_at dksX1_ask_0 9 rfl rfl)
theorem dX1_ask_10 : decode cX1_ask 10 = .ok (.iload_n 3, 1) := dk_29 (dk_at dksX1_ask_0 10 rfl rfl)
theorem dX1_ask_11 : decode cX1_ask 11 = .ok (.invokevirtual 226, 3) := dk_182 0 226 (dk_at dksX1_ask_0 11 rfl rfl)
theorem dX1_ask_14 : decode cX1_ask 14 = .ok (.ifCond .ne 5, 3) := dk_154 0 5 (dk_at dksX1_ask_0 14 rfl rfl)
theorem dX1_ask_17 : decode cX1_ask 17 = .ok (.iconst (-1), 1) := dk_2 (dk_at dksX1_ask_0 17 rfl rfl)
theorem dX1_ask_18 : decode cX1_ask 18 = .ok (.ireturn, 1) := dk_172 (dk_at dksX1_ask_0 18 rfl rfl)
theorem dX1_ask_19 : decode cX1_ask 19 = .ok (.aload_n 0, 1) := dk_42 (dk_at dksX1_ask_0 19 rfl rfl)
theorem dX1_ask_20 : decode cX1_ask 20 = .ok (.getfield 95, 3) := dk_180 0 95 (dk_at dksX1_ask_0 20 rfl rfl)
theorem dX1_ask_23 : decode cX1_ask 23 = .ok (.iload_n 1, 1) := dk_27 (dk_at dksX1_ask_0 23 rfl rfl)
theorem dX1_ask_24 : decode cX1_ask 24 = .ok (.iload_n 2, 1) := dk_28 (dk_at dksX1_ask_1 0 rfl rfl)
theorem dX1_ask_25 : decode cX1_ask 25 = .ok (.iload_n 3, 1) := dk_29 (dk_at dksX1_ask_1 1 rfl rfl)
theorem dX1_ask_26 : decode cX1_ask 26 = .ok (.iconst 1, 1) := dk_4 (dk_at dksX1_ask_1 2 rfl rfl)
theorem dX1_ask_27 : decode cX1_ask 27 = .ok (.invokevirtual 245, 3) := dk_182 0 245 (dk_at dksX1_ask_1 3 rfl rfl)
theorem dX1_ask_30 : decode cX1_ask 30 = .ok (.ifCond .ne 6, 3) := dk_154 0 6 (dk_at dksX1_ask_1 6 rfl rfl)
theorem dX1_ask_33 : decode cX1_ask 33 = .ok (.bipush (-2), 2) := dk_16 254 (dk_at dksX1_ask_1 9 rfl rfl)
theorem dX1_ask_35 : decode cX1_ask 35 = .ok (.ireturn, 1) := dk_172 (dk_at dksX1_ask_1 11 rfl rfl)
theorem dX1_ask_36 : decode cX1_ask 36 = .ok (.aload_n 0, 1) := dk_42 (dk_at dksX1_ask_1 12 rfl rfl)
theorem dX1_ask_37 : decode cX1_ask 37 = .ok (.invokevirtual 261, 3) := dk_182 1 5 (dk_at dksX1_ask_1 13 rfl rfl)
theorem dX1_ask_40 : decode cX1_ask 40 = .ok (.aload_n 0, 1) := dk_42 (dk_at dksX1_ask_1 16 rfl rfl)
theorem dX1_ask_41 : decode cX1_ask 41 = .ok (.getfield 95, 3) := dk_180 0 95 (dk_at dksX1_ask_1 17 rfl rfl)
theorem dX1_ask_44 : decode cX1_ask 44 = .ok (.iload_n 1, 1) := dk_27 (dk_at dksX1_ask_1 20 rfl rfl)
theorem dX1_ask_45 : decode cX1_ask 45 = .ok (.iload_n 2, 1) := dk_28 (dk_at dksX1_ask_1 21 rfl rfl)
theorem dX1_ask_46 : decode cX1_ask 46 = .ok (.iload_n 3, 1) := dk_29 (dk_at dksX1_ask_1 22 rfl rfl)
theorem dX1_ask_47 : decode cX1_ask 47 = .ok (.iconst 1, 1) := dk_4 (dk_at dksX1_ask_1 23 rfl rfl)
theorem dX1_ask_48 : decode cX1_ask 48 = .ok (.invokevirtual 264, 3) := dk_182 1 8 (dk_at dksX1_ask_2 0 rfl rfl)
theorem dX1_ask_51 : decode cX1_ask 51 = .ok (.ifCond .eq 7, 3) := dk_153 0 7 (dk_at dksX1_ask_2 3 rfl rfl)
theorem dX1_ask_54 : decode cX1_ask 54 = .ok (.iconst 1, 1) := dk_4 (dk_at dksX1_ask_2 6 rfl rfl)
theorem dX1_ask_55 : decode cX1_ask 55 = .ok (.goto 4, 3) := dk_167 0 4 (dk_at dksX1_ask_2 7 rfl rfl)
theorem dX1_ask_58 : decode cX1_ask 58 = .ok (.iconst 0, 1) := dk_3 (dk_at dksX1_ask_2 10 rfl rfl)
theorem dX1_ask_59 : decode cX1_ask 59 = .ok (.ireturn, 1) := dk_172 (dk_at dksX1_ask_2 11 rfl rfl)
def dkwX1_isFact_0 : List UInt8 := [27, 133, 9, 42, 180, 0, 13, 180, 0, 179, 182, 0, 23, 4, 100, 133, 184, 0, 147, 172]
abbrev dktX1_isFact_0 : List UInt8 := dkwX1_isFact_0 ++ []
theorem dksX1_isFact_0 : cX1_isFact.data.toList.drop 0 = dktX1_isFact_0 := by decide +kernel
theorem dX1_isFact_0 : decode cX1_isFact 0 = .ok (.iload_n 1, 1) := dk_27 (dk_at dksX1_isFact_0 0 rfl rfl)
theorem dX1_isFact_1 : decode cX1_isFact 1 = .ok (.i2l, 1) := dk_133 (dk_at dksX1_isFact_0 1 rfl rfl)
theorem dX1_isFact_2 : decode cX1_isFact 2 = .ok (.lconst 0, 1) := dk_9 (dk_at dksX1_isFact_0 2 rfl rfl)
theorem dX1_isFact_3 : decode cX1_isFact 3 = .ok (.aload_n 0, 1) := dk_42 (dk_at dksX1_isFact_0 3 rfl rfl)
theorem dX1_isFact_4 : decode cX1_isFact 4 = .ok (.getfield 13, 3) := dk_180 0 13 (dk_at dksX1_isFact_0 4 rfl rfl)
theorem dX1_isFact_7 : decode cX1_isFact 7 = .ok (.getfield 179, 3) := dk_180 0 179 (dk_at dksX1_isFact_0 7 rfl rfl)
theorem dX1_isFact_10 : decode cX1_isFact 10 = .ok (.invokevirtual 23, 3) := dk_182 0 23 (dk_at dksX1_isFact_0 10 rfl rfl)
theorem dX1_isFact_13 : decode cX1_isFact 13 = .ok (.iconst 1, 1) := dk_4 (dk_at dksX1_isFact_0 13 rfl rfl)
theorem dX1_isFact_14 : decode cX1_isFact 14 = .ok (.isub, 1) := dk_100 (dk_at dksX1_isFact_0 14 rfl rfl)
theorem dX1_isFact_15 : decode cX1_isFact 15 = .ok (.i2l, 1) := dk_133 (dk_at dksX1_isFact_0 15 rfl rfl)
theorem dX1_isFact_16 : decode cX1_isFact 16 = .ok (.invokestatic 147, 3) := dk_184 0 147 (dk_at dksX1_isFact_0 16 rfl rfl)
theorem dX1_isFact_19 : decode cX1_isFact 19 = .ok (.ireturn, 1) := dk_172 (dk_at dksX1_isFact_0 19 rfl rfl)
def dkwX1_tell_2 : List UInt8 := [46, 4, 28, 120, 128, 79, 4, 172]
abbrev dktX1_tell_2 : List UInt8 := dkwX1_tell_2 ++ []
def dkwX1_tell_1 : List UInt8 := [46, 28, 122, 4, 126, 4, 160, 0, 5, 3, 172, 42, 182, 1, 5, 42, 180, 0, 95, 180, 0, 214, 27, 92]
abbrev dktX1_tell_1 : List UInt8 := dkwX1_tell_1 ++ dktX1_tell_2
def dkwX1_tell_0 : List UInt8 := [42, 27, 182, 0, 192, 153, 0, 28, 42, 28, 182, 1, 11, 153, 0, 20, 42, 180, 0, 95, 180, 0, 214, 27]
abbrev dktX1_tell_0 : List UInt8 := dkwX1_tell_0 ++ dktX1_tell_1
theorem dksX1_tell_0 : cX1_tell.data.toList.drop 0 = dktX1_tell_0 := by decide +kernel
theorem dksX1_tell_1 : cX1_tell.data.toList.drop 24 = dktX1_tell_1 := dk_seg dksX1_tell_0 24 rfl rfl
theorem dksX1_tell_2 : cX1_tell.data.toList.drop 48 = dktX1_tell_2 := dk_seg dksX1_tell_1 24 rfl rfl
theorem dX1_tell_0 : decode cX1_tell 0 = .ok (.aload_n 0, 1) := dk_42 (dk_at dksX1_tell_0 0 rfl rfl)
theorem dX1_tell_1 : decode cX1_tell 1 = .ok (.iload_n 1, 1) := dk_27 (dk_at dksX1_tell_0 1 rfl rfl)
theorem dX1_tell_2 : decode cX1_tell 2 = .ok (.invokevirtual 192, 3) := dk_182 0 192 (dk_at dksX1_tell_0 2 rfl rfl)
theorem dX1_tell_5 : decode cX1_tell 5 = .ok (.ifCond .eq 28, 3) := dk_153 0 28 (dk_at dksX1_tell_0 5 rfl rfl)
theorem dX1_tell_8 : decode cX1_tell 8 = .ok (.aload_n 0, 1) := dk_42 (dk_at dksX1_tell_0 8 rfl rfl)
theorem dX1_tell_9 : decode cX1_tell 9 = .ok (.iload_n 2, 1) := dk_28 (dk_at dksX1_tell_0 9 rfl rfl)
theorem dX1_tell_10 : decode cX1_tell 10 = .ok (.invokevirtual 267, 3) := dk_182 1 11 (dk_at dksX1_tell_0 10 rfl rfl)
theorem dX1_tell_13 : decode cX1_tell 13 = .ok (.ifCond .eq 20, 3) := dk_153 0 20 (dk_at dksX1_tell_0 13 rfl rfl)
theorem dX1_tell_16 : decode cX1_tell 16 = .ok (.aload_n 0, 1) := dk_42 (dk_at dksX1_tell_0 16 rfl rfl)
theorem dX1_tell_17 : decode cX1_tell 17 = .ok (.getfield 95, 3) := dk_180 0 95 (dk_at dksX1_tell_0 17 rfl rfl)
theorem dX1_tell_20 : decode cX1_tell 20 = .ok (.getfield 214, 3) := dk_180 0 214 (dk_at dksX1_tell_0 20 rfl rfl)
theorem dX1_tell_23 : decode cX1_tell 23 = .ok (.iload_n 1, 1) := dk_27 (dk_at dksX1_tell_0 23 rfl rfl)
theorem dX1_tell_24 : decode cX1_tell 24 = .ok (.iaload, 1) := dk_46 (dk_at dksX1_tell_1 0 rfl rfl)
theorem dX1_tell_25 : decode cX1_tell 25 = .ok (.iload_n 2, 1) := dk_28 (dk_at dksX1_tell_1 1 rfl rfl)
theorem dX1_tell_26 : decode cX1_tell 26 = .ok (.ishr, 1) := dk_122 (dk_at dksX1_tell_1 2 rfl rfl)
theorem dX1_tell_27 : decode cX1_tell 27 = .ok (.iconst 1, 1) := dk_4 (dk_at dksX1_tell_1 3 rfl rfl)
theorem dX1_tell_28 : decode cX1_tell 28 = .ok (.iand, 1) := dk_126 (dk_at dksX1_tell_1 4 rfl rfl)
theorem dX1_tell_29 : decode cX1_tell 29 = .ok (.iconst 1, 1) := dk_4 (dk_at dksX1_tell_1 5 rfl rfl)
theorem dX1_tell_30 : decode cX1_tell 30 = .ok (.if_icmp .ne 5, 3) := dk_160 0 5 (dk_at dksX1_tell_1 6 rfl rfl)
theorem dX1_tell_33 : decode cX1_tell 33 = .ok (.iconst 0, 1) := dk_3 (dk_at dksX1_tell_1 9 rfl rfl)
theorem dX1_tell_34 : decode cX1_tell 34 = .ok (.ireturn, 1) := dk_172 (dk_at dksX1_tell_1 10 rfl rfl)
theorem dX1_tell_35 : decode cX1_tell 35 = .ok (.aload_n 0, 1) := dk_42 (dk_at dksX1_tell_1 11 rfl rfl)
theorem dX1_tell_36 : decode cX1_tell 36 = .ok (.invokevirtual 261, 3) := dk_182 1 5 (dk_at dksX1_tell_1 12 rfl rfl)
theorem dX1_tell_39 : decode cX1_tell 39 = .ok (.aload_n 0, 1) := dk_42 (dk_at dksX1_tell_1 15 rfl rfl)
theorem dX1_tell_40 : decode cX1_tell 40 = .ok (.getfield 95, 3) := dk_180 0 95 (dk_at dksX1_tell_1 16 rfl rfl)
theorem dX1_tell_43 : decode cX1_tell 43 = .ok (.getfield 214, 3) := dk_180 0 214 (dk_at dksX1_tell_1 19 rfl rfl)
theorem dX1_tell_46 : decode cX1_tell 46 = .ok (.iload_n 1, 1) := dk_27 (dk_at dksX1_tell_1 22 rfl rfl)
theorem dX1_tell_47 : decode cX1_tell 47 = .ok (.dup2, 1) := dk_92 (dk_at dksX1_tell_1 23 rfl rfl)
theorem dX1_tell_48 : decode cX1_tell 48 = .ok (.iaload, 1) := dk_46 (dk_at dksX1_tell_2 0 rfl rfl)
theorem dX1_tell_49 : decode cX1_tell 49 = .ok (.iconst 1, 1) := dk_4 (dk_at dksX1_tell_2 1 rfl rfl)
theorem dX1_tell_50 : decode cX1_tell 50 = .ok (.iload_n 2, 1) := dk_28 (dk_at dksX1_tell_2 2 rfl rfl)
theorem dX1_tell_51 : decode cX1_tell 51 = .ok (.ishl, 1) := dk_120 (dk_at dksX1_tell_2 3 rfl rfl)
theorem dX1_tell_52 : decode cX1_tell 52 = .ok (.ior, 1) := dk_128 (dk_at dksX1_tell_2 4 rfl rfl)
theorem dX1_tell_53 : decode cX1_tell 53 = .ok (.iastore, 1) := dk_79 (dk_at dksX1_tell_2 5 rfl rfl)
theorem dX1_tell_54 : decode cX1_tell 54 = .ok (.iconst 1, 1) := dk_4 (dk_at dksX1_tell_2 6 rfl rfl)
theorem dX1_tell_55 : decode cX1_tell 55 = .ok (.ireturn, 1) := dk_172 (dk_at dksX1_tell_2 7 rfl rfl)
def dkwX1_send_2 : List UInt8 := [79, 4, 172]
abbrev dktX1_send_2 : List UInt8 := dkwX1_send_2 ++ []
def dkwX1_send_1 : List UInt8 := [180, 0, 211, 27, 46, 28, 160, 0, 5, 3, 172, 42, 182, 1, 5, 42, 180, 0, 95, 180, 0, 211, 27, 28]
abbrev dktX1_send_1 : List UInt8 := dkwX1_send_1 ++ dktX1_send_2
def dkwX1_send_0 : List UInt8 := [42, 27, 182, 0, 192, 153, 0, 28, 28, 133, 9, 20, 1, 14, 184, 0, 147, 153, 0, 16, 42, 180, 0, 95]
abbrev dktX1_send_0 : List UInt8 := dkwX1_send_0 ++ dktX1_send_1
theorem dksX1_send_0 : cX1_send.data.toList.drop 0 = dktX1_send_0 := by decide +kernel
theorem dksX1_send_1 : cX1_send.data.toList.drop 24 = dktX1_send_1 := dk_seg dksX1_send_0 24 rfl rfl
theorem dksX1_send_2 : cX1_send.data.toList.drop 48 = dktX1_send_2 := dk_seg dksX1_send_1 24 rfl rfl
theorem dX1_send_0 : decode cX1_send 0 = .ok (.aload_n 0, 1) := dk_42 (dk_at dksX1_send_0 0 rfl rfl)
theorem dX1_send_1 : decode cX1_send 1 = .ok (.iload_n 1, 1) := dk_27 (dk_at dksX1_send_0 1 rfl rfl)
theorem dX1_send_2 : decode cX1_send 2 = .ok (.invokevirtual 192, 3) := dk_182 0 192 (dk_at dksX1_send_0 2 rfl rfl)
theorem dX1_send_5 : decode cX1_send 5 = .ok (.ifCond .eq 28, 3) := dk_153 0 28 (dk_at dksX1_send_0 5 rfl rfl)
theorem dX1_send_8 : decode cX1_send 8 = .ok (.iload_n 2, 1) := dk_28 (dk_at dksX1_send_0 8 rfl rfl)
theorem dX1_send_9 : decode cX1_send 9 = .ok (.i2l, 1) := dk_133 (dk_at dksX1_send_0 9 rfl rfl)
theorem dX1_send_10 : decode cX1_send 10 = .ok (.lconst 0, 1) := dk_9 (dk_at dksX1_send_0 10 rfl rfl)
theorem dX1_send_11 : decode cX1_send 11 = .ok (.ldc2_w 270, 3) := dk_20 1 14 (dk_at dksX1_send_0 11 rfl rfl)
theorem dX1_send_14 : decode cX1_send 14 = .ok (.invokestatic 147, 3) := dk_184 0 147 (dk_at dksX1_send_0 14 rfl rfl)
theorem dX1_send_17 : decode cX1_send 17 = .ok (.ifCond .eq 16, 3) := dk_153 0 16 (dk_at dksX1_send_0 17 rfl rfl)
theorem dX1_send_20 : decode cX1_send 20 = .ok (.aload_n 0, 1) := dk_42 (dk_at dksX1_send_0 20 rfl rfl)
theorem dX1_send_21 : decode cX1_send 21 = .ok (.getfield 95, 3) := dk_180 0 95 (dk_at dksX1_send_0 21 rfl rfl)
theorem dX1_send_24 : decode cX1_send 24 = .ok (.getfield 211, 3) := dk_180 0 211 (dk_at dksX1_send_1 0 rfl rfl)
theorem dX1_send_27 : decode cX1_send 27 = .ok (.iload_n 1, 1) := dk_27 (dk_at dksX1_send_1 3 rfl rfl)
theorem dX1_send_28 : decode cX1_send 28 = .ok (.iaload, 1) := dk_46 (dk_at dksX1_send_1 4 rfl rfl)
theorem dX1_send_29 : decode cX1_send 29 = .ok (.iload_n 2, 1) := dk_28 (dk_at dksX1_send_1 5 rfl rfl)
theorem dX1_send_30 : decode cX1_send 30 = .ok (.if_icmp .ne 5, 3) := dk_160 0 5 (dk_at dksX1_send_1 6 rfl rfl)
theorem dX1_send_33 : decode cX1_send 33 = .ok (.iconst 0, 1) := dk_3 (dk_at dksX1_send_1 9 rfl rfl)
theorem dX1_send_34 : decode cX1_send 34 = .ok (.ireturn, 1) := dk_172 (dk_at dksX1_send_1 10 rfl rfl)
theorem dX1_send_35 : decode cX1_send 35 = .ok (.aload_n 0, 1) := dk_42 (dk_at dksX1_send_1 11 rfl rfl)
theorem dX1_send_36 : decode cX1_send 36 = .ok (.invokevirtual 261, 3) := dk_182 1 5 (dk_at dksX1_send_1 12 rfl rfl)
theorem dX1_send_39 : decode cX1_send 39 = .ok (.aload_n 0, 1) := dk_42 (dk_at dksX1_send_1 15 rfl rfl)
theorem dX1_send_40 : decode cX1_send 40 = .ok (.getfield 95, 3) := dk_180 0 95 (dk_at dksX1_send_1 16 rfl rfl)
theorem dX1_send_43 : decode cX1_send 43 = .ok (.getfield 211, 3) := dk_180 0 211 (dk_at dksX1_send_1 19 rfl rfl)
theorem dX1_send_46 : decode cX1_send 46 = .ok (.iload_n 1, 1) := dk_27 (dk_at dksX1_send_1 22 rfl rfl)
theorem dX1_send_47 : decode cX1_send 47 = .ok (.iload_n 2, 1) := dk_28 (dk_at dksX1_send_1 23 rfl rfl)
theorem dX1_send_48 : decode cX1_send 48 = .ok (.iastore, 1) := dk_79 (dk_at dksX1_send_2 0 rfl rfl)
theorem dX1_send_49 : decode cX1_send 49 = .ok (.iconst 1, 1) := dk_4 (dk_at dksX1_send_2 1 rfl rfl)
theorem dX1_send_50 : decode cX1_send 50 = .ok (.ireturn, 1) := dk_172 (dk_at dksX1_send_2 2 rfl rfl)
def dkwX1_end_2 : List UInt8 := [79, 132, 1, 1, 167, 255, 238, 42, 180, 0, 95, 180, 1, 16, 172]
abbrev dktX1_end_2 : List UInt8 := dkwX1_end_2 ++ []
def dkwX1_end_1 : List UInt8 := [180, 1, 16, 4, 96, 181, 1, 16, 3, 60, 27, 8, 162, 0, 19, 42, 180, 0, 95, 180, 0, 220, 27, 3]
abbrev dktX1_end_1 : List UInt8 := dkwX1_end_1 ++ dktX1_end_2
def dkwX1_end_0 : List UInt8 := [42, 180, 0, 95, 180, 1, 16, 17, 3, 231, 160, 0, 5, 2, 172, 42, 182, 1, 5, 42, 180, 0, 95, 89]
abbrev dktX1_end_0 : List UInt8 := dkwX1_end_0 ++ dktX1_end_1
theorem dksX1_end_0 : cX1_end.data.toList.drop 0 = dktX1_end_0 := by decide +kernel
theorem dksX1_end_1 : cX1_end.data.toList.drop 24 = dktX1_end_1 := dk_seg dksX1_end_0 24 rfl rfl
theorem dksX1_end_2 : cX1_end.data.toList.drop 48 = dktX1_end_2 := dk_seg dksX1_end_1 24 rfl rfl
theorem dX1_end_0 : decode cX1_end 0 = .ok (.aload_n 0, 1) := dk_42 (dk_at dksX1_end_0 0 rfl rfl)
theorem dX1_end_1 : decode cX1_end 1 = .ok (.getfield 95, 3) := dk_180 0 95 (dk_at dksX1_end_0 1 rfl rfl)
theorem dX1_end_4 : decode cX1_end 4 = .ok (.getfield 272, 3) := dk_180 1 16 (dk_at dksX1_end_0 4 rfl rfl)
theorem dX1_end_7 : decode cX1_end 7 = .ok (.sipush 999, 3) := dk_17 3 231 (dk_at dksX1_end_0 7 rfl rfl)
theorem dX1_end_10 : decode cX1_end 10 = .ok (.if_icmp .ne 5, 3) := dk_160 0 5 (dk_at dksX1_end_0 10 rfl rfl)
theorem dX1_end_13 : decode cX1_end 13 = .ok (.iconst (-1), 1) := dk_2 (dk_at dksX1_end_0 13 rfl rfl)
theorem dX1_end_14 : decode cX1_end 14 = .ok (.ireturn, 1) := dk_172 (dk_at dksX1_end_0 14 rfl rfl)
theorem dX1_end_15 : decode cX1_end 15 = .ok (.aload_n 0, 1) := dk_42 (dk_at dksX1_end_0 15 rfl rfl)
theorem dX1_end_16 : decode cX1_end 16 = .ok (.invokevirtual 261, 3) := dk_182 1 5 (dk_at dksX1_end_0 16 rfl rfl)
theorem dX1_end_19 : decode cX1_end 19 = .ok (.aload_n 0, 1) := dk_42 (dk_at dksX1_end_0 19 rfl rfl)
theorem dX1_end_20 : decode cX1_end 20 = .ok (.getfield 95, 3) := dk_180 0 95 (dk_at dksX1_end_0 20 rfl rfl)
theorem dX1_end_23 : decode cX1_end 23 = .ok (.dup, 1) := dk_89 (dk_at dksX1_end_0 23 rfl rfl)
theorem dX1_end_24 : decode cX1_end 24 = .ok (.getfield 272, 3) := dk_180 1 16 (dk_at dksX1_end_1 0 rfl rfl)
theorem dX1_end_27 : decode cX1_end 27 = .ok (.iconst 1, 1) := dk_4 (dk_at dksX1_end_1 3 rfl rfl)
theorem dX1_end_28 : decode cX1_end 28 = .ok (.iadd, 1) := dk_96 (dk_at dksX1_end_1 4 rfl rfl)
theorem dX1_end_29 : decode cX1_end 29 = .ok (.putfield 272, 3) := dk_181 1 16 (dk_at dksX1_end_1 5 rfl rfl)
theorem dX1_end_32 : decode cX1_end 32 = .ok (.iconst 0, 1) := dk_3 (dk_at dksX1_end_1 8 rfl rfl)
theorem dX1_end_33 : decode cX1_end 33 = .ok (.istore_n 1, 1) := dk_60 (dk_at dksX1_end_1 9 rfl rfl)
theorem dX1_end_34 : decode cX1_end 34 = .ok (.iload_n 1, 1) := dk_27 (dk_at dksX1_end_1 10 rfl rfl)
theorem dX1_end_35 : decode cX1_end 35 = .ok (.iconst 5, 1) := dk_8 (dk_at dksX1_end_1 11 rfl rfl)
theorem dX1_end_36 : decode cX1_end 36 = .ok (.if_icmp .ge 19, 3) := dk_162 0 19 (dk_at dksX1_end_1 12 rfl rfl)
theorem dX1_end_39 : decode cX1_end 39 = .ok (.aload_n 0, 1) := dk_42 (dk_at dksX1_end_1 15 rfl rfl)
theorem dX1_end_40 : decode cX1_end 40 = .ok (.getfield 95, 3) := dk_180 0 95 (dk_at dksX1_end_1 16 rfl rfl)
theorem dX1_end_43 : decode cX1_end 43 = .ok (.getfield 220, 3) := dk_180 0 220 (dk_at dksX1_end_1 19 rfl rfl)
theorem dX1_end_46 : decode cX1_end 46 = .ok (.iload_n 1, 1) := dk_27 (dk_at dksX1_end_1 22 rfl rfl)
theorem dX1_end_47 : decode cX1_end 47 = .ok (.iconst 0, 1) := dk_3 (dk_at dksX1_end_1 23 rfl rfl)
theorem dX1_end_48 : decode cX1_end 48 = .ok (.iastore, 1) := dk_79 (dk_at dksX1_end_2 0 rfl rfl)
theorem dX1_end_49 : decode cX1_end 49 = .ok (.iinc 1 1, 3) := dk_132 1 1 (dk_at dksX1_end_2 1 rfl rfl)
theorem dX1_end_52 : decode cX1_end 52 = .ok (.goto (-18), 3) := dk_167 255 238 (dk_at dksX1_end_2 4 rfl rfl)
theorem dX1_end_55 : decode cX1_end 55 = .ok (.aload_n 0, 1) := dk_42 (dk_at dksX1_end_2 7 rfl rfl)
theorem dX1_end_56 : decode cX1_end 56 = .ok (.getfield 95, 3) := dk_180 0 95 (dk_at dksX1_end_2 8 rfl rfl)
theorem dX1_end_59 : decode cX1_end 59 = .ok (.getfield 272, 3) := dk_180 1 16 (dk_at dksX1_end_2 11 rfl rfl)
theorem dX1_end_62 : decode cX1_end 62 = .ok (.ireturn, 1) := dk_172 (dk_at dksX1_end_2 14 rfl rfl)
def dkwX9_sum_2 : List UInt8 := [167, 255, 214, 27, 172]
abbrev dktX9_sum_2 : List UInt8 := dkwX9_sum_2 ++ []
def dkwX9_sum_1 : List UInt8 := [4, 160, 0, 7, 3, 167, 0, 12, 42, 180, 0, 15, 28, 46, 184, 0, 75, 96, 60, 132, 2, 1]
abbrev dktX9_sum_1 : List UInt8 := dkwX9_sum_1 ++ dktX9_sum_2
def dkwX9_sum_0 : List UInt8 := [3, 60, 3, 61, 28, 42, 180, 0, 3, 182, 0, 28, 162, 0, 37, 27, 42, 180, 0, 69, 28, 122, 4, 126]
abbrev dktX9_sum_0 : List UInt8 := dkwX9_sum_0 ++ dktX9_sum_1
theorem dksX9_sum_0 : cX9_sum.data.toList.drop 0 = dktX9_sum_0 := by decide +kernel
theorem dksX9_sum_1 : cX9_sum.data.toList.drop 24 = dktX9_sum_1 := dk_seg dksX9_sum_0 24 rfl rfl
theorem dksX9_sum_2 : cX9_sum.data.toList.drop 46 = dktX9_sum_2 := dk_seg dksX9_sum_1 22 rfl rfl
theorem dX9_sum_0 : decode cX9_sum 0 = .ok (.iconst 0, 1) := dk_3 (dk_at dksX9_sum_0 0 rfl rfl)
theorem dX9_sum_1 : decode cX9_sum 1 = .ok (.istore_n 1, 1) := dk_60 (dk_at dksX9_sum_0 1 rfl rfl)
theorem dX9_sum_2 : decode cX9_sum 2 = .ok (.iconst 0, 1) := dk_3 (dk_at dksX9_sum_0 2 rfl rfl)
theorem dX9_sum_3 : decode cX9_sum 3 = .ok (.istore_n 2, 1) := dk_61 (dk_at dksX9_sum_0 3 rfl rfl)
theorem dX9_sum_4 : decode cX9_sum 4 = .ok (.iload_n 2, 1) := dk_28 (dk_at dksX9_sum_0 4 rfl rfl)
theorem dX9_sum_5 : decode cX9_sum 5 = .ok (.aload_n 0, 1) := dk_42 (dk_at dksX9_sum_0 5 rfl rfl)
theorem dX9_sum_6 : decode cX9_sum 6 = .ok (.getfield 3, 3) := dk_180 0 3 (dk_at dksX9_sum_0 6 rfl rfl)
theorem dX9_sum_9 : decode cX9_sum 9 = .ok (.invokevirtual 28, 3) := dk_182 0 28 (dk_at dksX9_sum_0 9 rfl rfl)
theorem dX9_sum_12 : decode cX9_sum 12 = .ok (.if_icmp .ge 37, 3) := dk_162 0 37 (dk_at dksX9_sum_0 12 rfl rfl)
theorem dX9_sum_15 : decode cX9_sum 15 = .ok (.iload_n 1, 1) := dk_27 (dk_at dksX9_sum_0 15 rfl rfl)
theorem dX9_sum_16 : decode cX9_sum 16 = .ok (.aload_n 0, 1) := dk_42 (dk_at dksX9_sum_0 16 rfl rfl)
theorem dX9_sum_17 : decode cX9_sum 17 = .ok (.getfield 69, 3) := dk_180 0 69 (dk_at dksX9_sum_0 17 rfl rfl)
theorem dX9_sum_20 : decode cX9_sum 20 = .ok (.iload_n 2, 1) := dk_28 (dk_at dksX9_sum_0 20 rfl rfl)
theorem dX9_sum_21 : decode cX9_sum 21 = .ok (.ishr, 1) := dk_122 (dk_at dksX9_sum_0 21 rfl rfl)
theorem dX9_sum_22 : decode cX9_sum 22 = .ok (.iconst 1, 1) := dk_4 (dk_at dksX9_sum_0 22 rfl rfl)
theorem dX9_sum_23 : decode cX9_sum 23 = .ok (.iand, 1) := dk_126 (dk_at dksX9_sum_0 23 rfl rfl)
theorem dX9_sum_24 : decode cX9_sum 24 = .ok (.iconst 1, 1) := dk_4 (dk_at dksX9_sum_1 0 rfl rfl)
theorem dX9_sum_25 : decode cX9_sum 25 = .ok (.if_icmp .ne 7, 3) := dk_160 0 7 (dk_at dksX9_sum_1 1 rfl rfl)
theorem dX9_sum_28 : decode cX9_sum 28 = .ok (.iconst 0, 1) := dk_3 (dk_at dksX9_sum_1 4 rfl rfl)
theorem dX9_sum_29 : decode cX9_sum 29 = .ok (.goto 12, 3) := dk_167 0 12 (dk_at dksX9_sum_1 5 rfl rfl)
theorem dX9_sum_32 : decode cX9_sum 32 = .ok (.aload_n 0, 1) := dk_42 (dk_at dksX9_sum_1 8 rfl rfl)
theorem dX9_sum_33 : decode cX9_sum 33 = .ok (.getfield 15, 3) := dk_180 0 15 (dk_at dksX9_sum_1 9 rfl rfl)
theorem dX9_sum_36 : decode cX9_sum 36 = .ok (.iload_n 2, 1) := dk_28 (dk_at dksX9_sum_1 12 rfl rfl)
theorem dX9_sum_37 : decode cX9_sum 37 = .ok (.iaload, 1) := dk_46 (dk_at dksX9_sum_1 13 rfl rfl)
theorem dX9_sum_38 : decode cX9_sum 38 = .ok (.invokestatic 75, 3) := dk_184 0 75 (dk_at dksX9_sum_1 14 rfl rfl)
theorem dX9_sum_41 : decode cX9_sum 41 = .ok (.iadd, 1) := dk_96 (dk_at dksX9_sum_1 17 rfl rfl)
theorem dX9_sum_42 : decode cX9_sum 42 = .ok (.istore_n 1, 1) := dk_60 (dk_at dksX9_sum_1 18 rfl rfl)
theorem dX9_sum_43 : decode cX9_sum 43 = .ok (.iinc 2 1, 3) := dk_132 2 1 (dk_at dksX9_sum_1 19 rfl rfl)
theorem dX9_sum_46 : decode cX9_sum 46 = .ok (.goto (-42), 3) := dk_167 255 214 (dk_at dksX9_sum_2 0 rfl rfl)
theorem dX9_sum_49 : decode cX9_sum 49 = .ok (.iload_n 1, 1) := dk_27 (dk_at dksX9_sum_2 3 rfl rfl)
theorem dX9_sum_50 : decode cX9_sum 50 = .ok (.ireturn, 1) := dk_172 (dk_at dksX9_sum_2 4 rfl rfl)
def dkwX9_askAll_4 : List UInt8 := [167, 255, 176, 42, 182, 0, 162, 28, 164, 0, 7, 4, 167, 0, 4, 3, 60, 167, 255, 148, 177]
abbrev dktX9_askAll_4 : List UInt8 := dkwX9_askAll_4 ++ []
def dkwX9_askAll_3 : List UInt8 := [21, 5, 3, 182, 0, 171, 87, 132, 5, 1, 167, 255, 217, 132, 4, 1, 167, 255, 196, 132, 3, 1]
abbrev dktX9_askAll_3 : List UInt8 := dkwX9_askAll_3 ++ dktX9_askAll_4
def dkwX9_askAll_2 : List UInt8 := [182, 0, 165, 162, 0, 33, 42, 29, 21, 4, 21, 5, 3, 182, 0, 167, 153, 0, 14, 42, 29, 21, 4]
abbrev dktX9_askAll_2 : List UInt8 := dkwX9_askAll_2 ++ dktX9_askAll_3
def dkwX9_askAll_1 : List UInt8 := [3, 54, 4, 21, 4, 42, 180, 0, 3, 182, 0, 28, 162, 0, 54, 3, 54, 5, 21, 5, 42, 180, 0, 3]
abbrev dktX9_askAll_1 : List UInt8 := dkwX9_askAll_1 ++ dktX9_askAll_2
def dkwX9_askAll_0 : List UInt8 := [4, 60, 27, 153, 0, 110, 42, 182, 0, 162, 61, 3, 62, 29, 42, 180, 0, 3, 182, 0, 28, 162, 0, 75]
abbrev dktX9_askAll_0 : List UInt8 := dkwX9_askAll_0 ++ dktX9_askAll_1
theorem dksX9_askAll_0 : cX9_askAll.data.toList.drop 0 = dktX9_askAll_0 := by decide +kernel
theorem dksX9_askAll_1 : cX9_askAll.data.toList.drop 24 = dktX9_askAll_1 := dk_seg dksX9_askAll_0 24 rfl rfl
theorem dksX9_askAll_2 : cX9_askAll.data.toList.drop 48 = dktX9_askAll_2 := dk_seg dksX9_askAll_1 24 rfl rfl
theorem dksX9_askAll_3 : cX9_askAll.data.toList.drop 71 = dktX9_askAll_3 := dk_seg dksX9_askAll_2 23 rfl rfl
theorem dksX9_askAll_4 : cX9_askAll.data.toList.drop 93 = dktX9_askAll_4 := dk_seg dksX9_askAll_3 22 rfl rfl
theorem dX9_askAll_0 : decode cX9_askAll 0 = .ok (.iconst 1, 1) := dk_4 (dk_at dksX9_askAll_0 0 rfl rfl)
theorem dX9_askAll_1 : decode cX9_askAll 1 = .ok (.istore_n 1, 1) := dk_60 (dk_at dksX9_askAll_0 1 rfl rfl)
theorem dX9_askAll_2 : decode cX9_askAll 2 = .ok (.iload_n 1, 1) := dk_27 (dk_at dksX9_askAll_0 2 rfl rfl)
theorem dX9_askAll_3 : decode cX9_askAll 3 = .ok (.ifCond .eq 110, 3) := dk_153 0 110 (dk_at dksX9_askAll_0 3 rfl rfl)
theorem dX9_askAll_6 : decode cX9_askAll 6 = .ok (.aload_n 0, 1) := dk_42 (dk_at dksX9_askAll_0 6 rfl rfl)
theorem dX9_askAll_7 : decode cX9_askAll 7 = .ok (.invokevirtual 162, 3) := dk_182 0 162 (dk_at dksX9_askAll_0 7 rfl rfl)
theorem dX9_askAll_10 : decode cX9_askAll 10 = .ok (.istore_n 2, 1) := dk_61 (dk_at dksX9_askAll_0 10 rfl rfl)
theorem dX9_askAll_11 : decode cX9_askAll 11 = .ok (.iconst 0, 1) := dk_3 (dk_at dksX9_askAll_0 11 rfl rfl)
theorem dX9_askAll_12 : decode cX9_askAll 12 = .ok (.istore_n 3, 1) := dk_62 (dk_at dksX9_askAll_0 12 rfl rfl)
theorem dX9_askAll_13 : decode cX9_askAll 13 = .ok (.iload_n 3, 1) := dk_29 (dk_at dksX9_askAll_0 13 rfl rfl)
theorem dX9_askAll_14 : decode cX9_askAll 14 = .ok (.aload_n 0, 1) := dk_42 (dk_at dksX9_askAll_0 14 rfl rfl)
theorem dX9_askAll_15 : decode cX9_askAll 15 = .ok (.getfield 3, 3) := dk_180 0 3 (dk_at dksX9_askAll_0 15 rfl rfl)
theorem dX9_askAll_18 : decode cX9_askAll 18 = .ok (.invokevirtual 28, 3) := dk_182 0 28 (dk_at dksX9_askAll_0 18 rfl rfl)
theorem dX9_askAll_21 : decode cX9_askAll 21 = .ok (.if_icmp .ge 75, 3) := dk_162 0 75 (dk_at dksX9_askAll_0 21 rfl rfl)
theorem dX9_askAll_24 : decode cX9_askAll 24 = .ok (.iconst 0, 1) := dk_3 (dk_at dksX9_askAll_1 0 rfl rfl)
theorem dX9_askAll_25 : decode cX9_askAll 25 = .ok (.istore 4, 2) := dk_54 4 (dk_at dksX9_askAll_1 1 rfl rfl)
theorem dX9_askAll_27 : decode cX9_askAll 27 = .ok (.iload 4, 2) := dk_21 4 (dk_at dksX9_askAll_1 3 rfl rfl)
theorem dX9_askAll_29 : decode cX9_askAll 29 = .ok (.aload_n 0, 1) := dk_42 (dk_at dksX9_askAll_1 5 rfl rfl)
theorem dX9_askAll_30 : decode cX9_askAll 30 = .ok (.getfield 3, 3) := dk_180 0 3 (dk_at dksX9_askAll_1 6 rfl rfl)
theorem dX9_askAll_33 : decode cX9_askAll 33 = .ok (.invokevirtual 28, 3) := dk_182 0 28 (dk_at dksX9_askAll_1 9 rfl rfl)
theorem dX9_askAll_36 : decode cX9_askAll 36 = .ok (.if_icmp .ge 54, 3) := dk_162 0 54 (dk_at dksX9_askAll_1 12 rfl rfl)
theorem dX9_askAll_39 : decode cX9_askAll 39 = .ok (.iconst 0, 1) := dk_3 (dk_at dksX9_askAll_1 15 rfl rfl)
theorem dX9_askAll_40 : decode cX9_askAll 40 = .ok (.istore 5, 2) := dk_54 5 (dk_at dksX9_askAll_1 16 rfl rfl)
theorem dX9_askAll_42 : decode cX9_askAll 42 = .ok (.iload 5, 2) := dk_21 5 (dk_at dksX9_askAll_1 18 rfl rfl)
theorem dX9_askAll_44 : decode cX9_askAll 44 = .ok (.aload_n 0, 1) := dk_42 (dk_at dksX9_askAll_1 20 rfl rfl)
theorem dX9_askAll_45 : decode cX9_askAll 45 = .ok (.getfield 3, 3) := dk_180 0 3 (dk_at dksX9_askAll_1 21 rfl rfl)
theorem dX9_askAll_48 : decode cX9_askAll 48 = .ok (.invokevirtual 165, 3) := dk_182 0 165 (dk_at dksX9_askAll_2 0 rfl rfl)
theorem dX9_askAll_51 : decode cX9_askAll 51 = .ok (.if_icmp .ge 33, 3) := dk_162 0 33 (dk_at dksX9_askAll_2 3 rfl rfl)
theorem dX9_askAll_54 : decode cX9_askAll 54 = .ok (.aload_n 0, 1) := dk_42 (dk_at dksX9_askAll_2 6 rfl rfl)
theorem dX9_askAll_55 : decode cX9_askAll 55 = .ok (.iload_n 3, 1) := dk_29 (dk_at dksX9_askAll_2 7 rfl rfl)
theorem dX9_askAll_56 : decode cX9_askAll 56 = .ok (.iload 4, 2) := dk_21 4 (dk_at dksX9_askAll_2 8 rfl rfl)
theorem dX9_askAll_58 : decode cX9_askAll 58 = .ok (.iload 5, 2) := dk_21 5 (dk_at dksX9_askAll_2 10 rfl rfl)
theorem dX9_askAll_60 : decode cX9_askAll 60 = .ok (.iconst 0, 1) := dk_3 (dk_at dksX9_askAll_2 12 rfl rfl)
theorem dX9_askAll_61 : decode cX9_askAll 61 = .ok (.invokevirtual 167, 3) := dk_182 0 167 (dk_at dksX9_askAll_2 13 rfl rfl)
theorem dX9_askAll_64 : decode cX9_askAll 64 = .ok (.ifCond .eq 14, 3) := dk_153 0 14 (dk_at dksX9_askAll_2 16 rfl rfl)
theorem dX9_askAll_67 : decode cX9_askAll 67 = .ok (.aload_n 0, 1) := dk_42 (dk_at dksX9_askAll_2 19 rfl rfl)
theorem dX9_askAll_68 : decode cX9_askAll 68 = .ok (.iload_n 3, 1) := dk_29 (dk_at dksX9_askAll_2 20 rfl rfl)
theorem dX9_askAll_69 : decode cX9_askAll 69 = .ok (.iload 4, 2) := dk_21 4 (dk_at dksX9_askAll_2 21 rfl rfl)
theorem dX9_askAll_71 : decode cX9_askAll 71 = .ok (.iload 5, 2) := dk_21 5 (dk_at dksX9_askAll_3 0 rfl rfl)
theorem dX9_askAll_73 : decode cX9_askAll 73 = .ok (.iconst 0, 1) := dk_3 (dk_at dksX9_askAll_3 2 rfl rfl)
theorem dX9_askAll_74 : decode cX9_askAll 74 = .ok (.invokevirtual 171, 3) := dk_182 0 171 (dk_at dksX9_askAll_3 3 rfl rfl)
theorem dX9_askAll_77 : decode cX9_askAll 77 = .ok (.pop, 1) := dk_87 (dk_at dksX9_askAll_3 6 rfl rfl)
theorem dX9_askAll_78 : decode cX9_askAll 78 = .ok (.iinc 5 1, 3) := dk_132 5 1 (dk_at dksX9_askAll_3 7 rfl rfl)
theorem dX9_askAll_81 : decode cX9_askAll 81 = .ok (.goto (-39), 3) := dk_167 255 217 (dk_at dksX9_askAll_3 10 rfl rfl)
theorem dX9_askAll_84 : decode cX9_askAll 84 = .ok (.iinc 4 1, 3) := dk_132 4 1 (dk_at dksX9_askAll_3 13 rfl rfl)
theorem dX9_askAll_87 : decode cX9_askAll 87 = .ok (.goto (-60), 3) := dk_167 255 196 (dk_at dksX9_askAll_3 16 rfl rfl)
theorem dX9_askAll_90 : decode cX9_askAll 90 = .ok (.iinc 3 1, 3) := dk_132 3 1 (dk_at dksX9_askAll_3 19 rfl rfl)
theorem dX9_askAll_93 : decode cX9_askAll 93 = .ok (.goto (-80), 3) := dk_167 255 176 (dk_at dksX9_askAll_4 0 rfl rfl)
theorem dX9_askAll_96 : decode cX9_askAll 96 = .ok (.aload_n 0, 1) := dk_42 (dk_at dksX9_askAll_4 3 rfl rfl)
theorem dX9_askAll_97 : decode cX9_askAll 97 = .ok (.invokevirtual 162, 3) := dk_182 0 162 (dk_at dksX9_askAll_4 4 rfl rfl)
theorem dX9_askAll_100 : decode cX9_askAll 100 = .ok (.iload_n 2, 1) := dk_28 (dk_at dksX9_askAll_4 7 rfl rfl)
theorem dX9_askAll_101 : decode cX9_askAll 101 = .ok (.if_icmp .le 7, 3) := dk_164 0 7 (dk_at dksX9_askAll_4 8 rfl rfl)
theorem dX9_askAll_104 : decode cX9_askAll 104 = .ok (.iconst 1, 1) := dk_4 (dk_at dksX9_askAll_4 11 rfl rfl)
theorem dX9_askAll_105 : decode cX9_askAll 105 = .ok (.goto 4, 3) := dk_167 0 4 (dk_at dksX9_askAll_4 12 rfl rfl)
theorem dX9_askAll_108 : decode cX9_askAll 108 = .ok (.iconst 0, 1) := dk_3 (dk_at dksX9_askAll_4 15 rfl rfl)
theorem dX9_askAll_109 : decode cX9_askAll 109 = .ok (.istore_n 1, 1) := dk_60 (dk_at dksX9_askAll_4 16 rfl rfl)
theorem dX9_askAll_110 : decode cX9_askAll 110 = .ok (.goto (-108), 3) := dk_167 255 148 (dk_at dksX9_askAll_4 17 rfl rfl)
theorem dX9_askAll_113 : decode cX9_askAll 113 = .ok (.return_, 1) := dk_177 (dk_at dksX9_askAll_4 20 rfl rfl)
def dkwX1_askAllWithout_1 : List UInt8 := [182, 1, 22, 177]
abbrev dktX1_askAllWithout_1 : List UInt8 := dkwX1_askAllWithout_1 ++ []
def dkwX1_askAllWithout_0 : List UInt8 := [42, 180, 0, 99, 42, 180, 0, 95, 182, 1, 1, 42, 180, 0, 99, 27, 181, 1, 19, 42, 180, 0, 99]
abbrev dktX1_askAllWithout_0 : List UInt8 := dkwX1_askAllWithout_0 ++ dktX1_askAllWithout_1
theorem dksX1_askAllWithout_0 : cX1_askAllWithout.data.toList.drop 0 = dktX1_askAllWithout_0 := by decide +kernel
theorem dksX1_askAllWithout_1 : cX1_askAllWithout.data.toList.drop 23 = dktX1_askAllWithout_1 := dk_seg dksX1_askAllWithout_0 23 rfl rfl
theorem dX1_askAllWithout_0 : decode cX1_askAllWithout 0 = .ok (.aload_n 0, 1) := dk_42 (dk_at dksX1_askAllWithout_0 0 rfl rfl)
theorem dX1_askAllWithout_1 : decode cX1_askAllWithout 1 = .ok (.getfield 99, 3) := dk_180 0 99 (dk_at dksX1_askAllWithout_0 1 rfl rfl)
theorem dX1_askAllWithout_4 : decode cX1_askAllWithout 4 = .ok (.aload_n 0, 1) := dk_42 (dk_at dksX1_askAllWithout_0 4 rfl rfl)
theorem dX1_askAllWithout_5 : decode cX1_askAllWithout 5 = .ok (.getfield 95, 3) := dk_180 0 95 (dk_at dksX1_askAllWithout_0 5 rfl rfl)
theorem dX1_askAllWithout_8 : decode cX1_askAllWithout 8 = .ok (.invokevirtual 257, 3) := dk_182 1 1 (dk_at dksX1_askAllWithout_0 8 rfl rfl)
theorem dX1_askAllWithout_11 : decode cX1_askAllWithout 11 = .ok (.aload_n 0, 1) := dk_42 (dk_at dksX1_askAllWithout_0 11 rfl rfl)
theorem dX1_askAllWithout_12 : decode cX1_askAllWithout 12 = .ok (.getfield 99, 3) := dk_180 0 99 (dk_at dksX1_askAllWithout_0 12 rfl rfl)
theorem dX1_askAllWithout_15 : decode cX1_askAllWithout 15 = .ok (.iload_n 1, 1) := dk_27 (dk_at dksX1_askAllWithout_0 15 rfl rfl)
theorem dX1_askAllWithout_16 : decode cX1_askAllWithout 16 = .ok (.putfield 275, 3) := dk_181 1 19 (dk_at dksX1_askAllWithout_0 16 rfl rfl)
theorem dX1_askAllWithout_19 : decode cX1_askAllWithout 19 = .ok (.aload_n 0, 1) := dk_42 (dk_at dksX1_askAllWithout_0 19 rfl rfl)
theorem dX1_askAllWithout_20 : decode cX1_askAllWithout 20 = .ok (.getfield 99, 3) := dk_180 0 99 (dk_at dksX1_askAllWithout_0 20 rfl rfl)
theorem dX1_askAllWithout_23 : decode cX1_askAllWithout 23 = .ok (.invokevirtual 278, 3) := dk_182 1 22 (dk_at dksX1_askAllWithout_1 0 rfl rfl)
theorem dX1_askAllWithout_26 : decode cX1_askAllWithout 26 = .ok (.return_, 1) := dk_177 (dk_at dksX1_askAllWithout_1 3 rfl rfl)
def dkwX1_all_1 : List UInt8 := [172]
abbrev dktX1_all_1 : List UInt8 := dkwX1_all_1 ++ []
def dkwX1_all_0 : List UInt8 := [42, 27, 182, 0, 192, 154, 0, 5, 2, 172, 42, 3, 182, 1, 25, 42, 180, 0, 99, 180, 0, 214, 27, 46]
abbrev dktX1_all_0 : List UInt8 := dkwX1_all_0 ++ dktX1_all_1
theorem dksX1_all_0 : cX1_all.data.toList.drop 0 = dktX1_all_0 := by decide +kernel
theorem dksX1_all_1 : cX1_all.data.toList.drop 24 = dktX1_all_1 := dk_seg dksX1_all_0 24 rfl rfl
theorem dX1_all_0 : decode cX1_all 0 = .ok (.aload_n 0, 1) := dk_42 (dk_at dksX1_all_0 0 rfl rfl)
theorem dX1_all_1 : decode cX1_all 1 = .ok (.iload_n 1, 1) := dk_27 (dk_at dksX1_all_0 1 rfl rfl)
theorem dX1_all_2 : decode cX1_all 2 = .ok (.invokevirtual 192, 3) := dk_182 0 192 (dk_at dksX1_all_0 2 rfl rfl)
theorem dX1_all_5 : decode cX1_all 5 = .ok (.ifCond .ne 5, 3) := dk_154 0 5 (dk_at dksX1_all_0 5 rfl rfl)
theorem dX1_all_8 : decode cX1_all 8 = .ok (.iconst (-1), 1) := dk_2 (dk_at dksX1_all_0 8 rfl rfl)
theorem dX1_all_9 : decode cX1_all 9 = .ok (.ireturn, 1) := dk_172 (dk_at dksX1_all_0 9 rfl rfl)
theorem dX1_all_10 : decode cX1_all 10 = .ok (.aload_n 0, 1) := dk_42 (dk_at dksX1_all_0 10 rfl rfl)
theorem dX1_all_11 : decode cX1_all 11 = .ok (.iconst 0, 1) := dk_3 (dk_at dksX1_all_0 11 rfl rfl)
theorem dX1_all_12 : decode cX1_all 12 = .ok (.invokevirtual 281, 3) := dk_182 1 25 (dk_at dksX1_all_0 12 rfl rfl)
theorem dX1_all_15 : decode cX1_all 15 = .ok (.aload_n 0, 1) := dk_42 (dk_at dksX1_all_0 15 rfl rfl)
theorem dX1_all_16 : decode cX1_all 16 = .ok (.getfield 99, 3) := dk_180 0 99 (dk_at dksX1_all_0 16 rfl rfl)
theorem dX1_all_19 : decode cX1_all 19 = .ok (.getfield 214, 3) := dk_180 0 214 (dk_at dksX1_all_0 19 rfl rfl)
theorem dX1_all_22 : decode cX1_all 22 = .ok (.iload_n 1, 1) := dk_27 (dk_at dksX1_all_0 22 rfl rfl)
theorem dX1_all_23 : decode cX1_all 23 = .ok (.iaload, 1) := dk_46 (dk_at dksX1_all_0 23 rfl rfl)
theorem dX1_all_24 : decode cX1_all 24 = .ok (.ireturn, 1) := dk_172 (dk_at dksX1_all_1 0 rfl rfl)
def dkwX1_learns_1 : List UInt8 := [167, 0, 4, 3, 172]
abbrev dktX1_learns_1 : List UInt8 := dkwX1_learns_1 ++ []
def dkwX1_learns_0 : List UInt8 := [42, 29, 182, 1, 25, 42, 180, 0, 99, 180, 0, 214, 27, 46, 28, 122, 4, 126, 4, 160, 0, 7, 4]
abbrev dktX1_learns_0 : List UInt8 := dkwX1_learns_0 ++ dktX1_learns_1
theorem dksX1_learns_0 : cX1_learns.data.toList.drop 0 = dktX1_learns_0 := by decide +kernel
theorem dksX1_learns_1 : cX1_learns.data.toList.drop 23 = dktX1_learns_1 := dk_seg dksX1_learns_0 23 rfl rfl
theorem dX1_learns_0 : decode cX1_learns 0 = .ok (.aload_n 0, 1) := dk_42 (dk_at dksX1_learns_0 0 rfl rfl)
theorem dX1_learns_1 : decode cX1_learns 1 = .ok (.iload_n 3, 1) := dk_29 (dk_at dksX1_learns_0 1 rfl rfl)
theorem dX1_learns_2 : decode cX1_learns 2 = .ok (.invokevirtual 281, 3) := dk_182 1 25 (dk_at dksX1_learns_0 2 rfl rfl)
theorem dX1_learns_5 : decode cX1_learns 5 = .ok (.aload_n 0, 1) := dk_42 (dk_at dksX1_learns_0 5 rfl rfl)
theorem dX1_learns_6 : decode cX1_learns 6 = .ok (.getfield 99, 3) := dk_180 0 99 (dk_at dksX1_learns_0 6 rfl rfl)
theorem dX1_learns_9 : decode cX1_learns 9 = .ok (.getfield 214, 3) := dk_180 0 214 (dk_at dksX1_learns_0 9 rfl rfl)
theorem dX1_learns_12 : decode cX1_learns 12 = .ok (.iload_n 1, 1) := dk_27 (dk_at dksX1_learns_0 12 rfl rfl)
theorem dX1_learns_13 : decode cX1_learns 13 = .ok (.iaload, 1) := dk_46 (dk_at dksX1_learns_0 13 rfl rfl)
theorem dX1_learns_14 : decode cX1_learns 14 = .ok (.iload_n 2, 1) := dk_28 (dk_at dksX1_learns_0 14 rfl rfl)
theorem dX1_learns_15 : decode cX1_learns 15 = .ok (.ishr, 1) := dk_122 (dk_at dksX1_learns_0 15 rfl rfl)
theorem dX1_learns_16 : decode cX1_learns 16 = .ok (.iconst 1, 1) := dk_4 (dk_at dksX1_learns_0 16 rfl rfl)
theorem dX1_learns_17 : decode cX1_learns 17 = .ok (.iand, 1) := dk_126 (dk_at dksX1_learns_0 17 rfl rfl)
theorem dX1_learns_18 : decode cX1_learns 18 = .ok (.iconst 1, 1) := dk_4 (dk_at dksX1_learns_0 18 rfl rfl)
theorem dX1_learns_19 : decode cX1_learns 19 = .ok (.if_icmp .ne 7, 3) := dk_160 0 7 (dk_at dksX1_learns_0 19 rfl rfl)
theorem dX1_learns_22 : decode cX1_learns 22 = .ok (.iconst 1, 1) := dk_4 (dk_at dksX1_learns_0 22 rfl rfl)
theorem dX1_learns_23 : decode cX1_learns 23 = .ok (.goto 4, 3) := dk_167 0 4 (dk_at dksX1_learns_1 0 rfl rfl)
theorem dX1_learns_26 : decode cX1_learns 26 = .ok (.iconst 0, 1) := dk_3 (dk_at dksX1_learns_1 3 rfl rfl)
theorem dX1_learns_27 : decode cX1_learns 27 = .ok (.ireturn, 1) := dk_172 (dk_at dksX1_learns_1 4 rfl rfl)
def dkwX1_never_1 : List UInt8 := [153, 0, 7, 3, 167, 0, 8, 4, 167, 0, 4, 2, 172]
abbrev dktX1_never_1 : List UInt8 := dkwX1_never_1 ++ []
def dkwX1_never_0 : List UInt8 := [42, 27, 182, 0, 192, 153, 0, 29, 42, 28, 182, 1, 11, 153, 0, 21, 42, 27, 28, 3, 182, 1, 28]
abbrev dktX1_never_0 : List UInt8 := dkwX1_never_0 ++ dktX1_never_1
theorem dksX1_never_0 : cX1_never.data.toList.drop 0 = dktX1_never_0 := by decide +kernel
theorem dksX1_never_1 : cX1_never.data.toList.drop 23 = dktX1_never_1 := dk_seg dksX1_never_0 23 rfl rfl
theorem dX1_never_0 : decode cX1_never 0 = .ok (.aload_n 0, 1) := dk_42 (dk_at dksX1_never_0 0 rfl rfl)
theorem dX1_never_1 : decode cX1_never 1 = .ok (.iload_n 1, 1) := dk_27 (dk_at dksX1_never_0 1 rfl rfl)
theorem dX1_never_2 : decode cX1_never 2 = .ok (.invokevirtual 192, 3) := dk_182 0 192 (dk_at dksX1_never_0 2 rfl rfl)
theorem dX1_never_5 : decode cX1_never 5 = .ok (.ifCond .eq 29, 3) := dk_153 0 29 (dk_at dksX1_never_0 5 rfl rfl)
theorem dX1_never_8 : decode cX1_never 8 = .ok (.aload_n 0, 1) := dk_42 (dk_at dksX1_never_0 8 rfl rfl)
theorem dX1_never_9 : decode cX1_never 9 = .ok (.iload_n 2, 1) := dk_28 (dk_at dksX1_never_0 9 rfl rfl)
theorem dX1_never_10 : decode cX1_never 10 = .ok (.invokevirtual 267, 3) := dk_182 1 11 (dk_at dksX1_never_0 10 rfl rfl)
theorem dX1_never_13 : decode cX1_never 13 = .ok (.ifCond .eq 21, 3) := dk_153 0 21 (dk_at dksX1_never_0 13 rfl rfl)
theorem dX1_never_16 : decode cX1_never 16 = .ok (.aload_n 0, 1) := dk_42 (dk_at dksX1_never_0 16 rfl rfl)
theorem dX1_never_17 : decode cX1_never 17 = .ok (.iload_n 1, 1) := dk_27 (dk_at dksX1_never_0 17 rfl rfl)
theorem dX1_never_18 : decode cX1_never 18 = .ok (.iload_n 2, 1) := dk_28 (dk_at dksX1_never_0 18 rfl rfl)
theorem dX1_never_19 : decode cX1_never 19 = .ok (.iconst 0, 1) := dk_3 (dk_at dksX1_never_0 19 rfl rfl)
theorem dX1_never_20 : decode cX1_never 20 = .ok (.invokevirtual 284, 3) := dk_182 1 28 (dk_at dksX1_never_0 20 rfl rfl)
theorem dX1_never_23 : decode cX1_never 23 = .ok (.ifCond .eq 7, 3) := dk_153 0 7 (dk_at dksX1_never_1 0 rfl rfl)
theorem dX1_never_26 : decode cX1_never 26 = .ok (.iconst 0, 1) := dk_3 (dk_at dksX1_never_1 3 rfl rfl)
theorem dX1_never_27 : decode cX1_never 27 = .ok (.goto 8, 3) := dk_167 0 8 (dk_at dksX1_never_1 4 rfl rfl)
theorem dX1_never_30 : decode cX1_never 30 = .ok (.iconst 1, 1) := dk_4 (dk_at dksX1_never_1 7 rfl rfl)
theorem dX1_never_31 : decode cX1_never 31 = .ok (.goto 4, 3) := dk_167 0 4 (dk_at dksX1_never_1 8 rfl rfl)
theorem dX1_never_34 : decode cX1_never 34 = .ok (.iconst (-1), 1) := dk_2 (dk_at dksX1_never_1 11 rfl rfl)
theorem dX1_never_35 : decode cX1_never 35 = .ok (.ireturn, 1) := dk_172 (dk_at dksX1_never_1 12 rfl rfl)
def dkwX1_away_3 : List UInt8 := [182, 1, 28, 154, 0, 6, 21, 4, 62, 132, 4, 1, 167, 255, 197, 29, 172]
abbrev dktX1_away_3 : List UInt8 := dkwX1_away_3 ++ []
def dkwX1_away_2 : List UInt8 := [159, 0, 18, 21, 4, 184, 1, 32, 29, 184, 1, 32, 161, 0, 6, 167, 0, 17, 42, 27, 28, 21, 4]
abbrev dktX1_away_2 : List UInt8 := dkwX1_away_2 ++ dktX1_away_3
def dkwX1_away_1 : List UInt8 := [21, 4, 4, 42, 182, 0, 188, 120, 162, 0, 54, 21, 4, 27, 122, 4, 126, 4, 159, 0, 38, 29, 16, 254]
abbrev dktX1_away_1 : List UInt8 := dkwX1_away_1 ++ dktX1_away_2
def dkwX1_away_0 : List UInt8 := [42, 27, 182, 0, 192, 153, 0, 11, 42, 28, 182, 1, 11, 154, 0, 5, 2, 172, 16, 254, 62, 3, 54, 4]
abbrev dktX1_away_0 : List UInt8 := dkwX1_away_0 ++ dktX1_away_1
theorem dksX1_away_0 : cX1_away.data.toList.drop 0 = dktX1_away_0 := by decide +kernel
theorem dksX1_away_1 : cX1_away.data.toList.drop 24 = dktX1_away_1 := dk_seg dksX1_away_0 24 rfl rfl
theorem dksX1_away_2 : cX1_away.data.toList.drop 48 = dktX1_away_2 := dk_seg dksX1_away_1 24 rfl rfl
theorem dksX1_away_3 : cX1_away.data.toList.drop 71 = dktX1_away_3 := dk_seg dksX1_away_2 23 rfl rfl
theorem dX1_away_0 : decode cX1_away 0 = .ok (.aload_n 0, 1) := dk_42 (dk_at dksX1_away_0 0 rfl rfl)
theorem dX1_away_1 : decode cX1_away 1 = .ok (.iload_n 1, 1) := dk_27 (dk_at dksX1_away_0 1 rfl rfl)
theorem dX1_away_2 : decode cX1_away 2 = .ok (.invokevirtual 192, 3) := dk_182 0 192 (dk_at dksX1_away_0 2 rfl rfl)
theorem dX1_away_5 : decode cX1_away 5 = .ok (.ifCond .eq 11, 3) := dk_153 0 11 (dk_at dksX1_away_0 5 rfl rfl)
theorem dX1_away_8 : decode cX1_away 8 = .ok (.aload_n 0, 1) := dk_42 (dk_at dksX1_away_0 8 rfl rfl)
theorem dX1_away_9 : decode cX1_away 9 = .ok (.iload_n 2, 1) := dk_28 (dk_at dksX1_away_0 9 rfl rfl)
theorem dX1_away_10 : decode cX1_away 10 = .ok (.invokevirtual 267, 3) := dk_182 1 11 (dk_at dksX1_away_0 10 rfl rfl)
theorem dX1_away_13 : decode cX1_away 13 = .ok (.ifCond .ne 5, 3) := dk_154 0 5 (dk_at dksX1_away_0 13 rfl rfl)
theorem dX1_away_16 : decode cX1_away 16 = .ok (.iconst (-1), 1) := dk_2 (dk_at dksX1_away_0 16 rfl rfl)
theorem dX1_away_17 : decode cX1_away 17 = .ok (.ireturn, 1) := dk_172 (dk_at dksX1_away_0 17 rfl rfl)
theorem dX1_away_18 : decode cX1_away 18 = .ok (.bipush (-2), 2) := dk_16 254 (dk_at dksX1_away_0 18 rfl rfl)
theorem dX1_away_20 : decode cX1_away 20 = .ok (.istore_n 3, 1) := dk_62 (dk_at dksX1_away_0 20 rfl rfl)
theorem dX1_away_21 : decode cX1_away 21 = .ok (.iconst 0, 1) := dk_3 (dk_at dksX1_away_0 21 rfl rfl)
theorem dX1_away_22 : decode cX1_away 22 = .ok (.istore 4, 2) := dk_54 4 (dk_at dksX1_away_0 22 rfl rfl)
theorem dX1_away_24 : decode cX1_away 24 = .ok (.iload 4, 2) := dk_21 4 (dk_at dksX1_away_1 0 rfl rfl)
theorem dX1_away_26 : decode cX1_away 26 = .ok (.iconst 1, 1) := dk_4 (dk_at dksX1_away_1 2 rfl rfl)
theorem dX1_away_27 : decode cX1_away 27 = .ok (.aload_n 0, 1) := dk_42 (dk_at dksX1_away_1 3 rfl rfl)
theorem dX1_away_28 : decode cX1_away 28 = .ok (.invokevirtual 188, 3) := dk_182 0 188 (dk_at dksX1_away_1 4 rfl rfl)
theorem dX1_away_31 : decode cX1_away 31 = .ok (.ishl, 1) := dk_120 (dk_at dksX1_away_1 7 rfl rfl)
theorem dX1_away_32 : decode cX1_away 32 = .ok (.if_icmp .ge 54, 3) := dk_162 0 54 (dk_at dksX1_away_1 8 rfl rfl)
theorem dX1_away_35 : decode cX1_away 35 = .ok (.iload 4, 2) := dk_21 4 (dk_at dksX1_away_1 11 rfl rfl)
theorem dX1_away_37 : decode cX1_away 37 = .ok (.iload_n 1, 1) := dk_27 (dk_at dksX1_away_1 13 rfl rfl)
theorem dX1_away_38 : decode cX1_away 38 = .ok (.ishr, 1) := dk_122 (dk_at dksX1_away_1 14 rfl rfl)
theorem dX1_away_39 : decode cX1_away 39 = .ok (.iconst 1, 1) := dk_4 (dk_at dksX1_away_1 15 rfl rfl)
theorem dX1_away_40 : decode cX1_away 40 = .ok (.iand, 1) := dk_126 (dk_at dksX1_away_1 16 rfl rfl)
theorem dX1_away_41 : decode cX1_away 41 = .ok (.iconst 1, 1) := dk_4 (dk_at dksX1_away_1 17 rfl rfl)
theorem dX1_away_42 : decode cX1_away 42 = .ok (.if_icmp .eq 38, 3) := dk_159 0 38 (dk_at dksX1_away_1 18 rfl rfl)
theorem dX1_away_45 : decode cX1_away 45 = .ok (.iload_n 3, 1) := dk_29 (dk_at dksX1_away_1 21 rfl rfl)
theorem dX1_away_46 : decode cX1_away 46 = .ok (.bipush (-2), 2) := dk_16 254 (dk_at dksX1_away_1 22 rfl rfl)
theorem dX1_away_48 : decode cX1_away 48 = .ok (.if_icmp .eq 18, 3) := dk_159 0 18 (dk_at dksX1_away_2 0 rfl rfl)
theorem dX1_away_51 : decode cX1_away 51 = .ok (.iload 4, 2) := dk_21 4 (dk_at dksX1_away_2 3 rfl rfl)
theorem dX1_away_53 : decode cX1_away 53 = .ok (.invokestatic 288, 3) := dk_184 1 32 (dk_at dksX1_away_2 5 rfl rfl)
theorem dX1_away_56 : decode cX1_away 56 = .ok (.iload_n 3, 1) := dk_29 (dk_at dksX1_away_2 8 rfl rfl)
theorem dX1_away_57 : decode cX1_away 57 = .ok (.invokestatic 288, 3) := dk_184 1 32 (dk_at dksX1_away_2 9 rfl rfl)
theorem dX1_away_60 : decode cX1_away 60 = .ok (.if_icmp .lt 6, 3) := dk_161 0 6 (dk_at dksX1_away_2 12 rfl rfl)
theorem dX1_away_63 : decode cX1_away 63 = .ok (.goto 17, 3) := dk_167 0 17 (dk_at dksX1_away_2 15 rfl rfl)
theorem dX1_away_66 : decode cX1_away 66 = .ok (.aload_n 0, 1) := dk_42 (dk_at dksX1_away_2 18 rfl rfl)
theorem dX1_away_67 : decode cX1_away 67 = .ok (.iload_n 1, 1) := dk_27 (dk_at dksX1_away_2 19 rfl rfl)
theorem dX1_away_68 : decode cX1_away 68 = .ok (.iload_n 2, 1) := dk_28 (dk_at dksX1_away_2 20 rfl rfl)
theorem dX1_away_69 : decode cX1_away 69 = .ok (.iload 4, 2) := dk_21 4 (dk_at dksX1_away_2 21 rfl rfl)
theorem dX1_away_71 : decode cX1_away 71 = .ok (.invokevirtual 284, 3) := dk_182 1 28 (dk_at dksX1_away_3 0 rfl rfl)
theorem dX1_away_74 : decode cX1_away 74 = .ok (.ifCond .ne 6, 3) := dk_154 0 6 (dk_at dksX1_away_3 3 rfl rfl)
theorem dX1_away_77 : decode cX1_away 77 = .ok (.iload 4, 2) := dk_21 4 (dk_at dksX1_away_3 6 rfl rfl)
theorem dX1_away_79 : decode cX1_away 79 = .ok (.istore_n 3, 1) := dk_62 (dk_at dksX1_away_3 8 rfl rfl)
theorem dX1_away_80 : decode cX1_away 80 = .ok (.iinc 4 1, 3) := dk_132 4 1 (dk_at dksX1_away_3 9 rfl rfl)
theorem dX1_away_83 : decode cX1_away 83 = .ok (.goto (-59), 3) := dk_167 255 197 (dk_at dksX1_away_3 12 rfl rfl)
theorem dX1_away_86 : decode cX1_away 86 = .ok (.iload_n 3, 1) := dk_29 (dk_at dksX1_away_3 15 rfl rfl)
theorem dX1_away_87 : decode cX1_away 87 = .ok (.ireturn, 1) := dk_172 (dk_at dksX1_away_3 16 rfl rfl)
def dkwX1_spread_2 : List UInt8 := [167, 255, 227, 28, 172]
abbrev dktX1_spread_2 : List UInt8 := dkwX1_spread_2 ++ []
def dkwX1_spread_1 : List UInt8 := [162, 0, 27, 28, 42, 180, 0, 99, 180, 0, 214, 29, 46, 27, 122, 4, 126, 29, 120, 128, 61, 132, 3, 1]
abbrev dktX1_spread_1 : List UInt8 := dkwX1_spread_1 ++ dktX1_spread_2
def dkwX1_spread_0 : List UInt8 := [42, 27, 182, 1, 11, 154, 0, 5, 2, 172, 42, 3, 182, 1, 25, 3, 61, 3, 62, 29, 42, 182, 0, 188]
abbrev dktX1_spread_0 : List UInt8 := dkwX1_spread_0 ++ dktX1_spread_1
theorem dksX1_spread_0 : cX1_spread.data.toList.drop 0 = dktX1_spread_0 := by decide +kernel
theorem dksX1_spread_1 : cX1_spread.data.toList.drop 24 = dktX1_spread_1 := dk_seg dksX1_spread_0 24 rfl rfl
theorem dksX1_spread_2 : cX1_spread.data.toList.drop 48 = dktX1_spread_2 := dk_seg dksX1_spread_1 24 rfl rfl
theorem dX1_spread_0 : decode cX1_spread 0 = .ok (.aload_n 0, 1) := dk_42 (dk_at dksX1_spread_0 0 rfl rfl)
theorem dX1_spread_1 : decode cX1_spread 1 = .ok (.iload_n 1, 1) := dk_27 (dk_at dksX1_spread_0 1 rfl rfl)
theorem dX1_spread_2 : decode cX1_spread 2 = .ok (.invokevirtual 267, 3) := dk_182 1 11 (dk_at dksX1_spread_0 2 rfl rfl)
theorem dX1_spread_5 : decode cX1_spread 5 = .ok (.ifCond .ne 5, 3) := dk_154 0 5 (dk_at dksX1_spread_0 5 rfl rfl)
theorem dX1_spread_8 : decode cX1_spread 8 = .ok (.iconst (-1), 1) := dk_2 (dk_at dksX1_spread_0 8 rfl rfl)
theorem dX1_spread_9 : decode cX1_spread 9 = .ok (.ireturn, 1) := dk_172 (dk_at dksX1_spread_0 9 rfl rfl)
theorem dX1_spread_10 : decode cX1_spread 10 = .ok (.aload_n 0, 1) := dk_42 (dk_at dksX1_spread_0 10 rfl rfl)
theorem dX1_spread_11 : decode cX1_spread 11 = .ok (.iconst 0, 1) := dk_3 (dk_at dksX1_spread_0 11 rfl rfl)
theorem dX1_spread_12 : decode cX1_spread 12 = .ok (.invokevirtual 281, 3) := dk_182 1 25 (dk_at dksX1_spread_0 12 rfl rfl)
theorem dX1_spread_15 : decode cX1_spread 15 = .ok (.iconst 0, 1) := dk_3 (dk_at dksX1_spread_0 15 rfl rfl)
theorem dX1_spread_16 : decode cX1_spread 16 = .ok (.istore_n 2, 1) := dk_61 (dk_at dksX1_spread_0 16 rfl rfl)
theorem dX1_spread_17 : decode cX1_spread 17 = .ok (.iconst 0, 1) := dk_3 (dk_at dksX1_spread_0 17 rfl rfl)
theorem dX1_spread_18 : decode cX1_spread 18 = .ok (.istore_n 3, 1) := dk_62 (dk_at dksX1_spread_0 18 rfl rfl)
theorem dX1_spread_19 : decode cX1_spread 19 = .ok (.iload_n 3, 1) := dk_29 (dk_at dksX1_spread_0 19 rfl rfl)
theorem dX1_spread_20 : decode cX1_spread 20 = .ok (.aload_n 0, 1) := dk_42 (dk_at dksX1_spread_0 20 rfl rfl)
theorem dX1_spread_21 : decode cX1_spread 21 = .ok (.invokevirtual 188, 3) := dk_182 0 188 (dk_at dksX1_spread_0 21 rfl rfl)
theorem dX1_spread_24 : decode cX1_spread 24 = .ok (.if_icmp .ge 27, 3) := dk_162 0 27 (dk_at dksX1_spread_1 0 rfl rfl)
theorem dX1_spread_27 : decode cX1_spread 27 = .ok (.iload_n 2, 1) := dk_28 (dk_at dksX1_spread_1 3 rfl rfl)
theorem dX1_spread_28 : decode cX1_spread 28 = .ok (.aload_n 0, 1) := dk_42 (dk_at dksX1_spread_1 4 rfl rfl)
theorem dX1_spread_29 : decode cX1_spread 29 = .ok (.getfield 99, 3) := dk_180 0 99 (dk_at dksX1_spread_1 5 rfl rfl)
theorem dX1_spread_32 : decode cX1_spread 32 = .ok (.getfield 214, 3) := dk_180 0 214 (dk_at dksX1_spread_1 8 rfl rfl)
theorem dX1_spread_35 : decode cX1_spread 35 = .ok (.iload_n 3, 1) := dk_29 (dk_at dksX1_spread_1 11 rfl rfl)
theorem dX1_spread_36 : decode cX1_spread 36 = .ok (.iaload, 1) := dk_46 (dk_at dksX1_spread_1 12 rfl rfl)
theorem dX1_spread_37 : decode cX1_spread 37 = .ok (.iload_n 1, 1) := dk_27 (dk_at dksX1_spread_1 13 rfl rfl)
theorem dX1_spread_38 : decode cX1_spread 38 = .ok (.ishr, 1) := dk_122 (dk_at dksX1_spread_1 14 rfl rfl)
theorem dX1_spread_39 : decode cX1_spread 39 = .ok (.iconst 1, 1) := dk_4 (dk_at dksX1_spread_1 15 rfl rfl)
theorem dX1_spread_40 : decode cX1_spread 40 = .ok (.iand, 1) := dk_126 (dk_at dksX1_spread_1 16 rfl rfl)
theorem dX1_spread_41 : decode cX1_spread 41 = .ok (.iload_n 3, 1) := dk_29 (dk_at dksX1_spread_1 17 rfl rfl)
theorem dX1_spread_42 : decode cX1_spread 42 = .ok (.ishl, 1) := dk_120 (dk_at dksX1_spread_1 18 rfl rfl)
theorem dX1_spread_43 : decode cX1_spread 43 = .ok (.ior, 1) := dk_128 (dk_at dksX1_spread_1 19 rfl rfl)
theorem dX1_spread_44 : decode cX1_spread 44 = .ok (.istore_n 2, 1) := dk_61 (dk_at dksX1_spread_1 20 rfl rfl)
theorem dX1_spread_45 : decode cX1_spread 45 = .ok (.iinc 3 1, 3) := dk_132 3 1 (dk_at dksX1_spread_1 21 rfl rfl)
theorem dX1_spread_48 : decode cX1_spread 48 = .ok (.goto (-29), 3) := dk_167 255 227 (dk_at dksX1_spread_2 0 rfl rfl)
theorem dX1_spread_51 : decode cX1_spread 51 = .ok (.iload_n 2, 1) := dk_28 (dk_at dksX1_spread_2 3 rfl rfl)
theorem dX1_spread_52 : decode cX1_spread 52 = .ok (.ireturn, 1) := dk_172 (dk_at dksX1_spread_2 4 rfl rfl)
def dkwX1_learnsIf_2 : List UInt8 := [160, 0, 7, 4, 167, 0, 4, 3, 172]
abbrev dktX1_learnsIf_2 : List UInt8 := dkwX1_learnsIf_2 ++ []
def dkwX1_learnsIf_1 : List UInt8 := [120, 128, 79, 42, 180, 0, 99, 182, 1, 22, 42, 180, 0, 99, 180, 0, 214, 27, 46, 28, 122, 4, 126, 4]
abbrev dktX1_learnsIf_1 : List UInt8 := dkwX1_learnsIf_1 ++ dktX1_learnsIf_2
def dkwX1_learnsIf_0 : List UInt8 := [42, 180, 0, 99, 42, 180, 0, 95, 182, 1, 1, 42, 180, 0, 99, 180, 0, 214, 29, 92, 46, 4, 21, 4]
abbrev dktX1_learnsIf_0 : List UInt8 := dkwX1_learnsIf_0 ++ dktX1_learnsIf_1
theorem dksX1_learnsIf_0 : cX1_learnsIf.data.toList.drop 0 = dktX1_learnsIf_0 := by decide +kernel
theorem dksX1_learnsIf_1 : cX1_learnsIf.data.toList.drop 24 = dktX1_learnsIf_1 := dk_seg dksX1_learnsIf_0 24 rfl rfl
theorem dksX1_learnsIf_2 : cX1_learnsIf.data.toList.drop 48 = dktX1_learnsIf_2 := dk_seg dksX1_learnsIf_1 24 rfl rfl
theorem dX1_learnsIf_0 : decode cX1_learnsIf 0 = .ok (.aload_n 0, 1) := dk_42 (dk_at dksX1_learnsIf_0 0 rfl rfl)
theorem dX1_learnsIf_1 : decode cX1_learnsIf 1 = .ok (.getfield 99, 3) := dk_180 0 99 (dk_at dksX1_learnsIf_0 1 rfl rfl)
theorem dX1_learnsIf_4 : decode cX1_learnsIf 4 = .ok (.aload_n 0, 1) := dk_42 (dk_at dksX1_learnsIf_0 4 rfl rfl)
theorem dX1_learnsIf_5 : decode cX1_learnsIf 5 = .ok (.getfield 95, 3) := dk_180 0 95 (dk_at dksX1_learnsIf_0 5 rfl rfl)
theorem dX1_learnsIf_8 : decode cX1_learnsIf 8 = .ok (.invokevirtual 257, 3) := dk_182 1 1 (dk_at dksX1_learnsIf_0 8 rfl rfl)
theorem dX1_learnsIf_11 : decode cX1_learnsIf 11 = .ok (.aload_n 0, 1) := dk_42 (dk_at dksX1_learnsIf_0 11 rfl rfl)
theorem dX1_learnsIf_12 : decode cX1_learnsIf 12 = .ok (.getfield 99, 3) := dk_180 0 99 (dk_at dksX1_learnsIf_0 12 rfl rfl)
theorem dX1_learnsIf_15 : decode cX1_learnsIf 15 = .ok (.getfield 214, 3) := dk_180 0 214 (dk_at dksX1_learnsIf_0 15 rfl rfl)
theorem dX1_learnsIf_18 : decode cX1_learnsIf 18 = .ok (.iload_n 3, 1) := dk_29 (dk_at dksX1_learnsIf_0 18 rfl rfl)
theorem dX1_learnsIf_19 : decode cX1_learnsIf 19 = .ok (.dup2, 1) := dk_92 (dk_at dksX1_learnsIf_0 19 rfl rfl)
theorem dX1_learnsIf_20 : decode cX1_learnsIf 20 = .ok (.iaload, 1) := dk_46 (dk_at dksX1_learnsIf_0 20 rfl rfl)
theorem dX1_learnsIf_21 : decode cX1_learnsIf 21 = .ok (.iconst 1, 1) := dk_4 (dk_at dksX1_learnsIf_0 21 rfl rfl)
theorem dX1_learnsIf_22 : decode cX1_learnsIf 22 = .ok (.iload 4, 2) := dk_21 4 (dk_at dksX1_learnsIf_0 22 rfl rfl)
theorem dX1_learnsIf_24 : decode cX1_learnsIf 24 = .ok (.ishl, 1) := dk_120 (dk_at dksX1_learnsIf_1 0 rfl rfl)
theorem dX1_learnsIf_25 : decode cX1_learnsIf 25 = .ok (.ior, 1) := dk_128 (dk_at dksX1_learnsIf_1 1 rfl rfl)
theorem dX1_learnsIf_26 : decode cX1_learnsIf 26 = .ok (.iastore, 1) := dk_79 (dk_at dksX1_learnsIf_1 2 rfl rfl)
theorem dX1_learnsIf_27 : decode cX1_learnsIf 27 = .ok (.aload_n 0, 1) := dk_42 (dk_at dksX1_learnsIf_1 3 rfl rfl)
theorem dX1_learnsIf_28 : decode cX1_learnsIf 28 = .ok (.getfield 99, 3) := dk_180 0 99 (dk_at dksX1_learnsIf_1 4 rfl rfl)
theorem dX1_learnsIf_31 : decode cX1_learnsIf 31 = .ok (.invokevirtual 278, 3) := dk_182 1 22 (dk_at dksX1_learnsIf_1 7 rfl rfl)
theorem dX1_learnsIf_34 : decode cX1_learnsIf 34 = .ok (.aload_n 0, 1) := dk_42 (dk_at dksX1_learnsIf_1 10 rfl rfl)
theorem dX1_learnsIf_35 : decode cX1_learnsIf 35 = .ok (.getfield 99, 3) := dk_180 0 99 (dk_at dksX1_learnsIf_1 11 rfl rfl)
theorem dX1_learnsIf_38 : decode cX1_learnsIf 38 = .ok (.getfield 214, 3) := dk_180 0 214 (dk_at dksX1_learnsIf_1 14 rfl rfl)
theorem dX1_learnsIf_41 : decode cX1_learnsIf 41 = .ok (.iload_n 1, 1) := dk_27 (dk_at dksX1_learnsIf_1 17 rfl rfl)
theorem dX1_learnsIf_42 : decode cX1_learnsIf 42 = .ok (.iaload, 1) := dk_46 (dk_at dksX1_learnsIf_1 18 rfl rfl)
theorem dX1_learnsIf_43 : decode cX1_learnsIf 43 = .ok (.iload_n 2, 1) := dk_28 (dk_at dksX1_learnsIf_1 19 rfl rfl)
theorem dX1_learnsIf_44 : decode cX1_learnsIf 44 = .ok (.ishr, 1) := dk_122 (dk_at dksX1_learnsIf_1 20 rfl rfl)
theorem dX1_learnsIf_45 : decode cX1_learnsIf 45 = .ok (.iconst 1, 1) := dk_4 (dk_at dksX1_learnsIf_1 21 rfl rfl)
theorem dX1_learnsIf_46 : decode cX1_learnsIf 46 = .ok (.iand, 1) := dk_126 (dk_at dksX1_learnsIf_1 22 rfl rfl)
theorem dX1_learnsIf_47 : decode cX1_learnsIf 47 = .ok (.iconst 1, 1) := dk_4 (dk_at dksX1_learnsIf_1 23 rfl rfl)
theorem dX1_learnsIf_48 : decode cX1_learnsIf 48 = .ok (.if_icmp .ne 7, 3) := dk_160 0 7 (dk_at dksX1_learnsIf_2 0 rfl rfl)
theorem dX1_learnsIf_51 : decode cX1_learnsIf 51 = .ok (.iconst 1, 1) := dk_4 (dk_at dksX1_learnsIf_2 3 rfl rfl)
theorem dX1_learnsIf_52 : decode cX1_learnsIf 52 = .ok (.goto 4, 3) := dk_167 0 4 (dk_at dksX1_learnsIf_2 4 rfl rfl)
theorem dX1_learnsIf_55 : decode cX1_learnsIf 55 = .ok (.iconst 0, 1) := dk_3 (dk_at dksX1_learnsIf_2 7 rfl rfl)
theorem dX1_learnsIf_56 : decode cX1_learnsIf 56 = .ok (.ireturn, 1) := dk_172 (dk_at dksX1_learnsIf_2 8 rfl rfl)
def dkwX1_hint_6 : List UInt8 := [167, 255, 159, 16, 254, 172]
abbrev dktX1_hint_6 : List UInt8 := dkwX1_hint_6 ++ []
def dkwX1_hint_5 : List UInt8 := [153, 0, 15, 29, 154, 0, 8, 21, 4, 167, 0, 5, 21, 5, 172, 132, 5, 1, 167, 255, 177, 132, 4, 1]
abbrev dktX1_hint_5 : List UInt8 := dkwX1_hint_5 ++ dktX1_hint_6
def dkwX1_hint_4 : List UInt8 := [4, 167, 0, 4, 3, 54, 6, 21, 6, 153, 0, 28, 42, 27, 28, 21, 4, 21, 5, 182, 1, 38]
abbrev dktX1_hint_4 : List UInt8 := dkwX1_hint_4 ++ dktX1_hint_5
def dkwX1_hint_3 : List UInt8 := [21, 5, 28, 159, 0, 25, 42, 180, 0, 95, 180, 0, 214, 21, 4, 46, 21, 5, 122, 4, 126, 154, 0, 7]
abbrev dktX1_hint_3 : List UInt8 := dkwX1_hint_3 ++ dktX1_hint_4
def dkwX1_hint_2 : List UInt8 := [182, 0, 188, 162, 0, 94, 3, 54, 5, 21, 5, 42, 180, 0, 13, 180, 0, 179, 182, 0, 23, 162, 0, 70]
abbrev dktX1_hint_2 : List UInt8 := dkwX1_hint_2 ++ dktX1_hint_3
def dkwX1_hint_1 : List UInt8 := [154, 0, 5, 2, 172, 42, 27, 28, 3, 182, 1, 28, 153, 0, 6, 16, 254, 172, 3, 54, 4, 21, 4, 42]
abbrev dktX1_hint_1 : List UInt8 := dkwX1_hint_1 ++ dktX1_hint_2
def dkwX1_hint_0 : List UInt8 := [42, 27, 182, 0, 192, 153, 0, 21, 42, 28, 182, 1, 11, 153, 0, 13, 29, 133, 9, 10, 184, 0, 147]
abbrev dktX1_hint_0 : List UInt8 := dkwX1_hint_0 ++ dktX1_hint_1
theorem dksX1_hint_0 : cX1_hint.data.toList.drop 0 = dktX1_hint_0 := by decide +kernel
theorem dksX1_hint_1 : cX1_hint.data.toList.drop 23 = dktX1_hint_1 := dk_seg dksX1_hint_0 23 rfl rfl
theorem dksX1_hint_2 : cX1_hint.data.toList.drop 47 = dktX1_hint_2 := dk_seg dksX1_hint_1 24 rfl rfl
theorem dksX1_hint_3 : cX1_hint.data.toList.drop 71 = dktX1_hint_3 := dk_seg dksX1_hint_2 24 rfl rfl
theorem dksX1_hint_4 : cX1_hint.data.toList.drop 95 = dktX1_hint_4 := dk_seg dksX1_hint_3 24 rfl rfl
theorem dksX1_hint_5 : cX1_hint.data.toList.drop 117 = dktX1_hint_5 := dk_seg dksX1_hint_4 22 rfl rfl
theorem dksX1_hint_6 : cX1_hint.data.toList.drop 141 = dktX1_hint_6 := dk_seg dksX1_hint_5 24 rfl rfl
theorem dX1_hint_0 : decode cX1_hint 0 = .ok (.aload_n 0, 1) := dk_42 (dk_at dksX1_hint_0 0 rfl rfl)
theorem dX1_hint_1 : decode cX1_hint 1 = .ok (.iload_n 1, 1) := dk_27 (dk_at dksX1_hint_0 1 rfl rfl)
theorem dX1_hint_2 : decode cX1_hint 2 = .ok (.invokevirtual 192, 3) := dk_182 0 192 (dk_at dksX1_hint_0 2 rfl rfl)
theorem dX1_hint_5 : decode cX1_hint 5 = .ok (.ifCond .eq 21, 3) := dk_153 0 21 (dk_at dksX1_hint_0 5 rfl rfl)
theorem dX1_hint_8 : decode cX1_hint 8 = .ok (.aload_n 0, 1) := dk_42 (dk_at dksX1_hint_0 8 rfl rfl)
theorem dX1_hint_9 : decode cX1_hint 9 = .ok (.iload_n 2, 1) := dk_28 (dk_at dksX1_hint_0 9 rfl rfl)
theorem dX1_hint_10 : decode cX1_hint 10 = .ok (.invokevirtual 267, 3) := dk_182 1 11 (dk_at dksX1_hint_0 10 rfl rfl)
theorem dX1_hint_13 : decode cX1_hint 13 = .ok (.ifCond .eq 13, 3) := dk_153 0 13 (dk_at dksX1_hint_0 13 rfl rfl)
theorem dX1_hint_16 : decode cX1_hint 16 = .ok (.iload_n 3, 1) := dk_29 (dk_at dksX1_hint_0 16 rfl rfl)
theorem dX1_hint_17 : decode cX1_hint 17 = .ok (.i2l, 1) := dk_133 (dk_at dksX1_hint_0 17 rfl rfl)
theorem dX1_hint_18 : decode cX1_hint 18 = .ok (.lconst 0, 1) := dk_9 (dk_at dksX1_hint_0 18 rfl rfl)
theorem dX1_hint_19 : decode cX1_hint 19 = .ok (.lconst 1, 1) := dk_10 (dk_at dksX1_hint_0 19 rfl rfl)
theorem dX1_hint_20 : decode cX1_hint 20 = .ok (.invokestatic 147, 3) := dk_184 0 147 (dk_at dksX1_hint_0 20 rfl rfl)
theorem dX1_hint_23 : decode cX1_hint 23 = .ok (.ifCond .ne 5, 3) := dk_154 0 5 (dk_at dksX1_hint_1 0 rfl rfl)
theorem dX1_hint_26 : decode cX1_hint 26 = .ok (.iconst (-1), 1) := dk_2 (dk_at dksX1_hint_1 3 rfl rfl)
theorem dX1_hint_27 : decode cX1_hint 27 = .ok (.ireturn, 1) := dk_172 (dk_at dksX1_hint_1 4 rfl rfl)
theorem dX1_hint_28 : decode cX1_hint 28 = .ok (.aload_n 0, 1) := dk_42 (dk_at dksX1_hint_1 5 rfl rfl)
theorem dX1_hint_29 : decode cX1_hint 29 = .ok (.iload_n 1, 1) := dk_27 (dk_at dksX1_hint_1 6 rfl rfl)
theorem dX1_hint_30 : decode cX1_hint 30 = .ok (.iload_n 2, 1) := dk_28 (dk_at dksX1_hint_1 7 rfl rfl)
theorem dX1_hint_31 : decode cX1_hint 31 = .ok (.iconst 0, 1) := dk_3 (dk_at dksX1_hint_1 8 rfl rfl)
theorem dX1_hint_32 : decode cX1_hint 32 = .ok (.invokevirtual 284, 3) := dk_182 1 28 (dk_at dksX1_hint_1 9 rfl rfl)
theorem dX1_hint_35 : decode cX1_hint 35 = .ok (.ifCond .eq 6, 3) := dk_153 0 6 (dk_at dksX1_hint_1 12 rfl rfl)
theorem dX1_hint_38 : decode cX1_hint 38 = .ok (.bipush (-2), 2) := dk_16 254 (dk_at dksX1_hint_1 15 rfl rfl)
theorem dX1_hint_40 : decode cX1_hint 40 = .ok (.ireturn, 1) := dk_172 (dk_at dksX1_hint_1 17 rfl rfl)
theorem dX1_hint_41 : decode cX1_hint 41 = .ok (.iconst 0, 1) := dk_3 (dk_at dksX1_hint_1 18 rfl rfl)
theorem dX1_hint_42 : decode cX1_hint 42 = .ok (.istore 4, 2) := dk_54 4 (dk_at dksX1_hint_1 19 rfl rfl)
theorem dX1_hint_44 : decode cX1_hint 44 = .ok (.iload 4, 2) := dk_21 4 (dk_at dksX1_hint_1 21 rfl rfl)
theorem dX1_hint_46 : decode cX1_hint 46 = .ok (.aload_n 0, 1) := dk_42 (dk_at dksX1_hint_1 23 rfl rfl)
theorem dX1_hint_47 : decode cX1_hint 47 = .ok (.invokevirtual 188, 3) := dk_182 0 188 (dk_at dksX1_hint_2 0 rfl rfl)
theorem dX1_hint_50 : decode cX1_hint 50 = .ok (.if_icmp .ge 94, 3) := dk_162 0 94 (dk_at dksX1_hint_2 3 rfl rfl)
theorem dX1_hint_53 : decode cX1_hint 53 = .ok (.iconst 0, 1) := dk_3 (dk_at dksX1_hint_2 6 rfl rfl)
theorem dX1_hint_54 : decode cX1_hint 54 = .ok (.istore 5, 2) := dk_54 5 (dk_at dksX1_hint_2 7 rfl rfl)
theorem dX1_hint_56 : decode cX1_hint 56 = .ok (.iload 5, 2) := dk_21 5 (dk_at dksX1_hint_2 9 rfl rfl)
theorem dX1_hint_58 : decode cX1_hint 58 = .ok (.aload_n 0, 1) := dk_42 (dk_at dksX1_hint_2 11 rfl rfl)
theorem dX1_hint_59 : decode cX1_hint 59 = .ok (.getfield 13, 3) := dk_180 0 13 (dk_at dksX1_hint_2 12 rfl rfl)
theorem dX1_hint_62 : decode cX1_hint 62 = .ok (.getfield 179, 3) := dk_180 0 179 (dk_at dksX1_hint_2 15 rfl rfl)
theorem dX1_hint_65 : decode cX1_hint 65 = .ok (.invokevirtual 23, 3) := dk_182 0 23 (dk_at dksX1_hint_2 18 rfl rfl)
theorem dX1_hint_68 : decode cX1_hint 68 = .ok (.if_icmp .ge 70, 3) := dk_162 0 70 (dk_at dksX1_hint_2 21 rfl rfl)
theorem dX1_hint_71 : decode cX1_hint 71 = .ok (.iload 5, 2) := dk_21 5 (dk_at dksX1_hint_3 0 rfl rfl)
theorem dX1_hint_73 : decode cX1_hint 73 = .ok (.iload_n 2, 1) := dk_28 (dk_at dksX1_hint_3 2 rfl rfl)
theorem dX1_hint_74 : decode cX1_hint 74 = .ok (.if_icmp .eq 25, 3) := dk_159 0 25 (dk_at dksX1_hint_3 3 rfl rfl)
theorem dX1_hint_77 : decode cX1_hint 77 = .ok (.aload_n 0, 1) := dk_42 (dk_at dksX1_hint_3 6 rfl rfl)
theorem dX1_hint_78 : decode cX1_hint 78 = .ok (.getfield 95, 3) := dk_180 0 95 (dk_at dksX1_hint_3 7 rfl rfl)
theorem dX1_hint_81 : decode cX1_hint 81 = .ok (.getfield 214, 3) := dk_180 0 214 (dk_at dksX1_hint_3 10 rfl rfl)
theorem dX1_hint_84 : decode cX1_hint 84 = .ok (.iload 4, 2) := dk_21 4 (dk_at dksX1_hint_3 13 rfl rfl)
theorem dX1_hint_86 : decode cX1_hint 86 = .ok (.iaload, 1) := dk_46 (dk_at dksX1_hint_3 15 rfl rfl)
theorem dX1_hint_87 : decode cX1_hint 87 = .ok (.iload 5, 2) := dk_21 5 (dk_at dksX1_hint_3 16 rfl rfl)
theorem dX1_hint_89 : decode cX1_hint 89 = .ok (.ishr, 1) := dk_122 (dk_at dksX1_hint_3 18 rfl rfl)
theorem dX1_hint_90 : decode cX1_hint 90 = .ok (.iconst 1, 1) := dk_4 (dk_at dksX1_hint_3 19 rfl rfl)
theorem dX1_hint_91 : decode cX1_hint 91 = .ok (.iand, 1) := dk_126 (dk_at dksX1_hint_3 20 rfl rfl)
theorem dX1_hint_92 : decode cX1_hint 92 = .ok (.ifCond .ne 7, 3) := dk_154 0 7 (dk_at dksX1_hint_3 21 rfl rfl)
theorem dX1_hint_95 : decode cX1_hint 95 = .ok (.iconst 1, 1) := dk_4 (dk_at dksX1_hint_4 0 rfl rfl)
theorem dX1_hint_96 : decode cX1_hint 96 = .ok (.goto 4, 3) := dk_167 0 4 (dk_at dksX1_hint_4 1 rfl rfl)
theorem dX1_hint_99 : decode cX1_hint 99 = .ok (.iconst 0, 1) := dk_3 (dk_at dksX1_hint_4 4 rfl rfl)
theorem dX1_hint_100 : decode cX1_hint 100 = .ok (.istore 6, 2) := dk_54 6 (dk_at dksX1_hint_4 5 rfl rfl)
theorem dX1_hint_102 : decode cX1_hint 102 = .ok (.iload 6, 2) := dk_21 6 (dk_at dksX1_hint_4 7 rfl rfl)
theorem dX1_hint_104 : decode cX1_hint 104 = .ok (.ifCond .eq 28, 3) := dk_153 0 28 (dk_at dksX1_hint_4 9 rfl rfl)
theorem dX1_hint_107 : decode cX1_hint 107 = .ok (.aload_n 0, 1) := dk_42 (dk_at dksX1_hint_4 12 rfl rfl)
theorem dX1_hint_108 : decode cX1_hint 108 = .ok (.iload_n 1, 1) := dk_27 (dk_at dksX1_hint_4 13 rfl rfl)
theorem dX1_hint_109 : decode cX1_hint 109 = .ok (.iload_n 2, 1) := dk_28 (dk_at dksX1_hint_4 14 rfl rfl)
theorem dX1_hint_110 : decode cX1_hint 110 = .ok (.iload 4, 2) := dk_21 4 (dk_at dksX1_hint_4 15 rfl rfl)
theorem dX1_hint_112 : decode cX1_hint 112 = .ok (.iload 5, 2) := dk_21 5 (dk_at dksX1_hint_4 17 rfl rfl)
theorem dX1_hint_114 : decode cX1_hint 114 = .ok (.invokevirtual 294, 3) := dk_182 1 38 (dk_at dksX1_hint_4 19 rfl rfl)
theorem dX1_hint_117 : decode cX1_hint 117 = .ok (.ifCond .eq 15, 3) := dk_153 0 15 (dk_at dksX1_hint_5 0 rfl rfl)
theorem dX1_hint_120 : decode cX1_hint 120 = .ok (.iload_n 3, 1) := dk_29 (dk_at dksX1_hint_5 3 rfl rfl)
theorem dX1_hint_121 : decode cX1_hint 121 = .ok (.ifCond .ne 8, 3) := dk_154 0 8 (dk_at dksX1_hint_5 4 rfl rfl)
theorem dX1_hint_124 : decode cX1_hint 124 = .ok (.iload 4, 2) := dk_21 4 (dk_at dksX1_hint_5 7 rfl rfl)
theorem dX1_hint_126 : decode cX1_hint 126 = .ok (.goto 5, 3) := dk_167 0 5 (dk_at dksX1_hint_5 9 rfl rfl)
theorem dX1_hint_129 : decode cX1_hint 129 = .ok (.iload 5, 2) := dk_21 5 (dk_at dksX1_hint_5 12 rfl rfl)
theorem dX1_hint_131 : decode cX1_hint 131 = .ok (.ireturn, 1) := dk_172 (dk_at dksX1_hint_5 14 rfl rfl)
theorem dX1_hint_132 : decode cX1_hint 132 = .ok (.iinc 5 1, 3) := dk_132 5 1 (dk_at dksX1_hint_5 15 rfl rfl)
theorem dX1_hint_135 : decode cX1_hint 135 = .ok (.goto (-79), 3) := dk_167 255 177 (dk_at dksX1_hint_5 18 rfl rfl)
theorem dX1_hint_138 : decode cX1_hint 138 = .ok (.iinc 4 1, 3) := dk_132 4 1 (dk_at dksX1_hint_5 21 rfl rfl)
theorem dX1_hint_141 : decode cX1_hint 141 = .ok (.goto (-97), 3) := dk_167 255 159 (dk_at dksX1_hint_6 0 rfl rfl)
theorem dX1_hint_144 : decode cX1_hint 144 = .ok (.bipush (-2), 2) := dk_16 254 (dk_at dksX1_hint_6 3 rfl rfl)
theorem dX1_hint_146 : decode cX1_hint 146 = .ok (.ireturn, 1) := dk_172 (dk_at dksX1_hint_6 5 rfl rfl)
def dkwX1_isAskable_1 : List UInt8 := [4, 172, 132, 3, 1, 167, 255, 229, 3, 172]
abbrev dktX1_isAskable_1 : List UInt8 := dkwX1_isAskable_1 ++ []
def dkwX1_isAskable_0 : List UInt8 := [3, 62, 29, 42, 182, 0, 188, 162, 0, 25, 42, 180, 0, 95, 27, 29, 28, 4, 182, 0, 245, 153, 0, 5]
abbrev dktX1_isAskable_0 : List UInt8 := dkwX1_isAskable_0 ++ dktX1_isAskable_1
theorem dksX1_isAskable_0 : cX1_isAskable.data.toList.drop 0 = dktX1_isAskable_0 := by decide +kernel
theorem dksX1_isAskable_1 : cX1_isAskable.data.toList.drop 24 = dktX1_isAskable_1 := dk_seg dksX1_isAskable_0 24 rfl rfl
theorem dX1_isAskable_0 : decode cX1_isAskable 0 = .ok (.iconst 0, 1) := dk_3 (dk_at dksX1_isAskable_0 0 rfl rfl)
theorem dX1_isAskable_1 : decode cX1_isAskable 1 = .ok (.istore_n 3, 1) := dk_62 (dk_at dksX1_isAskable_0 1 rfl rfl)
theorem dX1_isAskable_2 : decode cX1_isAskable 2 = .ok (.iload_n 3, 1) := dk_29 (dk_at dksX1_isAskable_0 2 rfl rfl)
theorem dX1_isAskable_3 : decode cX1_isAskable 3 = .ok (.aload_n 0, 1) := dk_42 (dk_at dksX1_isAskable_0 3 rfl rfl)
theorem dX1_isAskable_4 : decode cX1_isAskable 4 = .ok (.invokevirtual 188, 3) := dk_182 0 188 (dk_at dksX1_isAskable_0 4 rfl rfl)
theorem dX1_isAskable_7 : decode cX1_isAskable 7 = .ok (.if_icmp .ge 25, 3) := dk_162 0 25 (dk_at dksX1_isAskable_0 7 rfl rfl)
theorem dX1_isAskable_10 : decode cX1_isAskable 10 = .ok (.aload_n 0, 1) := dk_42 (dk_at dksX1_isAskable_0 10 rfl rfl)
theorem dX1_isAskable_11 : decode cX1_isAskable 11 = .ok (.getfield 95, 3) := dk_180 0 95 (dk_at dksX1_isAskable_0 11 rfl rfl)
theorem dX1_isAskable_14 : decode cX1_isAskable 14 = .ok (.iload_n 1, 1) := dk_27 (dk_at dksX1_isAskable_0 14 rfl rfl)
theorem dX1_isAskable_15 : decode cX1_isAskable 15 = .ok (.iload_n 3, 1) := dk_29 (dk_at dksX1_isAskable_0 15 rfl rfl)
theorem dX1_isAskable_16 : decode cX1_isAskable 16 = .ok (.iload_n 2, 1) := dk_28 (dk_at dksX1_isAskable_0 16 rfl rfl)
theorem dX1_isAskable_17 : decode cX1_isAskable 17 = .ok (.iconst 1, 1) := dk_4 (dk_at dksX1_isAskable_0 17 rfl rfl)
theorem dX1_isAskable_18 : decode cX1_isAskable 18 = .ok (.invokevirtual 245, 3) := dk_182 0 245 (dk_at dksX1_isAskable_0 18 rfl rfl)
theorem dX1_isAskable_21 : decode cX1_isAskable 21 = .ok (.ifCond .eq 5, 3) := dk_153 0 5 (dk_at dksX1_isAskable_0 21 rfl rfl)
theorem dX1_isAskable_24 : decode cX1_isAskable 24 = .ok (.iconst 1, 1) := dk_4 (dk_at dksX1_isAskable_1 0 rfl rfl)
theorem dX1_isAskable_25 : decode cX1_isAskable 25 = .ok (.ireturn, 1) := dk_172 (dk_at dksX1_isAskable_1 1 rfl rfl)
theorem dX1_isAskable_26 : decode cX1_isAskable 26 = .ok (.iinc 3 1, 3) := dk_132 3 1 (dk_at dksX1_isAskable_1 2 rfl rfl)
theorem dX1_isAskable_29 : decode cX1_isAskable 29 = .ok (.goto (-27), 3) := dk_167 255 229 (dk_at dksX1_isAskable_1 5 rfl rfl)
theorem dX1_isAskable_32 : decode cX1_isAskable 32 = .ok (.iconst 0, 1) := dk_3 (dk_at dksX1_isAskable_1 8 rfl rfl)
theorem dX1_isAskable_33 : decode cX1_isAskable 33 = .ok (.ireturn, 1) := dk_172 (dk_at dksX1_isAskable_1 9 rfl rfl)
def dkwX1_unasked_2 : List UInt8 := [172]
abbrev dktX1_unasked_2 : List UInt8 := dkwX1_unasked_2 ++ []
def dkwX1_unasked_1 : List UInt8 := [27, 29, 182, 1, 42, 153, 0, 7, 3, 167, 0, 6, 4, 29, 120, 128, 61, 132, 3, 1, 167, 255, 226, 28]
abbrev dktX1_unasked_1 : List UInt8 := dkwX1_unasked_1 ++ dktX1_unasked_2
def dkwX1_unasked_0 : List UInt8 := [42, 27, 182, 0, 192, 154, 0, 5, 2, 172, 3, 61, 3, 62, 29, 42, 182, 0, 190, 162, 0, 28, 28, 42]
abbrev dktX1_unasked_0 : List UInt8 := dkwX1_unasked_0 ++ dktX1_unasked_1
theorem dksX1_unasked_0 : cX1_unasked.data.toList.drop 0 = dktX1_unasked_0 := by decide +kernel
theorem dksX1_unasked_1 : cX1_unasked.data.toList.drop 24 = dktX1_unasked_1 := dk_seg dksX1_unasked_0 24 rfl rfl
theorem dksX1_unasked_2 : cX1_unasked.data.toList.drop 48 = dktX1_unasked_2 := dk_seg dksX1_unasked_1 24 rfl rfl
theorem dX1_unasked_0 : decode cX1_unasked 0 = .ok (.aload_n 0, 1) := dk_42 (dk_at dksX1_unasked_0 0 rfl rfl)
theorem dX1_unasked_1 : decode cX1_unasked 1 = .ok (.iload_n 1, 1) := dk_27 (dk_at dksX1_unasked_0 1 rfl rfl)
theorem dX1_unasked_2 : decode cX1_unasked 2 = .ok (.invokevirtual 192, 3) := dk_182 0 192 (dk_at dksX1_unasked_0 2 rfl rfl)
theorem dX1_unasked_5 : decode cX1_unasked 5 = .ok (.ifCond .ne 5, 3) := dk_154 0 5 (dk_at dksX1_unasked_0 5 rfl rfl)
theorem dX1_unasked_8 : decode cX1_unasked 8 = .ok (.iconst (-1), 1) := dk_2 (dk_at dksX1_unasked_0 8 rfl rfl)
theorem dX1_unasked_9 : decode cX1_unasked 9 = .ok (.ireturn, 1) := dk_172 (dk_at dksX1_unasked_0 9 rfl rfl)
theorem dX1_unasked_10 : decode cX1_unasked 10 = .ok (.iconst 0, 1) := dk_3 (dk_at dksX1_unasked_0 10 rfl rfl)
theorem dX1_unasked_11 : decode cX1_unasked 11 = .ok (.istore_n 2, 1) := dk_61 (dk_at dksX1_unasked_0 11 rfl rfl)
theorem dX1_unasked_12 : decode cX1_unasked 12 = .ok (.iconst 0, 1) := dk_3 (dk_at dksX1_unasked_0 12 rfl rfl)
theorem dX1_unasked_13 : decode cX1_unasked 13 = .ok (.istore_n 3, 1) := dk_62 (dk_at dksX1_unasked_0 13 rfl rfl)
theorem dX1_unasked_14 : decode cX1_unasked 14 = .ok (.iload_n 3, 1) := dk_29 (dk_at dksX1_unasked_0 14 rfl rfl)
theorem dX1_unasked_15 : decode cX1_unasked 15 = .ok (.aload_n 0, 1) := dk_42 (dk_at dksX1_unasked_0 15 rfl rfl)
theorem dX1_unasked_16 : decode cX1_unasked 16 = .ok (.invokevirtual 190, 3) := dk_182 0 190 (dk_at dksX1_unasked_0 16 rfl rfl)
theorem dX1_unasked_19 : decode cX1_unasked 19 = .ok (.if_icmp .ge 28, 3) := dk_162 0 28 (dk_at dksX1_unasked_0 19 rfl rfl)
theorem dX1_unasked_22 : decode cX1_unasked 22 = .ok (.iload_n 2, 1) := dk_28 (dk_at dksX1_unasked_0 22 rfl rfl)
theorem dX1_unasked_23 : decode cX1_unasked 23 = .ok (.aload_n 0, 1) := dk_42 (dk_at dksX1_unasked_0 23 rfl rfl)
theorem dX1_unasked_24 : decode cX1_unasked 24 = .ok (.iload_n 1, 1) := dk_27 (dk_at dksX1_unasked_1 0 rfl rfl)
theorem dX1_unasked_25 : decode cX1_unasked 25 = .ok (.iload_n 3, 1) := dk_29 (dk_at dksX1_unasked_1 1 rfl rfl)
theorem dX1_unasked_26 : decode cX1_unasked 26 = .ok (.invokevirtual 298, 3) := dk_182 1 42 (dk_at dksX1_unasked_1 2 rfl rfl)
theorem dX1_unasked_29 : decode cX1_unasked 29 = .ok (.ifCond .eq 7, 3) := dk_153 0 7 (dk_at dksX1_unasked_1 5 rfl rfl)
theorem dX1_unasked_32 : decode cX1_unasked 32 = .ok (.iconst 0, 1) := dk_3 (dk_at dksX1_unasked_1 8 rfl rfl)
theorem dX1_unasked_33 : decode cX1_unasked 33 = .ok (.goto 6, 3) := dk_167 0 6 (dk_at dksX1_unasked_1 9 rfl rfl)
theorem dX1_unasked_36 : decode cX1_unasked 36 = .ok (.iconst 1, 1) := dk_4 (dk_at dksX1_unasked_1 12 rfl rfl)
theorem dX1_unasked_37 : decode cX1_unasked 37 = .ok (.iload_n 3, 1) := dk_29 (dk_at dksX1_unasked_1 13 rfl rfl)
theorem dX1_unasked_38 : decode cX1_unasked 38 = .ok (.ishl, 1) := dk_120 (dk_at dksX1_unasked_1 14 rfl rfl)
theorem dX1_unasked_39 : decode cX1_unasked 39 = .ok (.ior, 1) := dk_128 (dk_at dksX1_unasked_1 15 rfl rfl)
theorem dX1_unasked_40 : decode cX1_unasked 40 = .ok (.istore_n 2, 1) := dk_61 (dk_at dksX1_unasked_1 16 rfl rfl)
theorem dX1_unasked_41 : decode cX1_unasked 41 = .ok (.iinc 3 1, 3) := dk_132 3 1 (dk_at dksX1_unasked_1 17 rfl rfl)
theorem dX1_unasked_44 : decode cX1_unasked 44 = .ok (.goto (-30), 3) := dk_167 255 226 (dk_at dksX1_unasked_1 20 rfl rfl)
theorem dX1_unasked_47 : decode cX1_unasked 47 = .ok (.iload_n 2, 1) := dk_28 (dk_at dksX1_unasked_1 23 rfl rfl)
theorem dX1_unasked_48 : decode cX1_unasked 48 = .ok (.ireturn, 1) := dk_172 (dk_at dksX1_unasked_2 0 rfl rfl)
def dkwX1_sumIn_1 : List UInt8 := [180, 0, 99, 182, 1, 22, 42, 180, 0, 99, 182, 1, 45, 172]
abbrev dktX1_sumIn_1 : List UInt8 := dkwX1_sumIn_1 ++ []
def dkwX1_sumIn_0 : List UInt8 := [42, 180, 0, 99, 42, 180, 0, 95, 182, 1, 1, 42, 180, 0, 99, 180, 0, 211, 27, 28, 79, 42]
abbrev dktX1_sumIn_0 : List UInt8 := dkwX1_sumIn_0 ++ dktX1_sumIn_1
theorem dksX1_sumIn_0 : cX1_sumIn.data.toList.drop 0 = dktX1_sumIn_0 := by decide +kernel
theorem dksX1_sumIn_1 : cX1_sumIn.data.toList.drop 22 = dktX1_sumIn_1 := dk_seg dksX1_sumIn_0 22 rfl rfl
theorem dX1_sumIn_0 : decode cX1_sumIn 0 = .ok (.aload_n 0, 1) := dk_42 (dk_at dksX1_sumIn_0 0 rfl rfl)
theorem dX1_sumIn_1 : decode cX1_sumIn 1 = .ok (.getfield 99, 3) := dk_180 0 99 (dk_at dksX1_sumIn_0 1 rfl rfl)
theorem dX1_sumIn_4 : decode cX1_sumIn 4 = .ok (.aload_n 0, 1) := dk_42 (dk_at dksX1_sumIn_0 4 rfl rfl)
theorem dX1_sumIn_5 : decode cX1_sumIn 5 = .ok (.getfield 95, 3) := dk_180 0 95 (dk_at dksX1_sumIn_0 5 rfl rfl)
theorem dX1_sumIn_8 : decode cX1_sumIn 8 = .ok (.invokevirtual 257, 3) := dk_182 1 1 (dk_at dksX1_sumIn_0 8 rfl rfl)
theorem dX1_sumIn_11 : decode cX1_sumIn 11 = .ok (.aload_n 0, 1) := dk_42 (dk_at dksX1_sumIn_0 11 rfl rfl)
theorem dX1_sumIn_12 : decode cX1_sumIn 12 = .ok (.getfield 99, 3) := dk_180 0 99 (dk_at dksX1_sumIn_0 12 rfl rfl)
theorem dX1_sumIn_15 : decode cX1_sumIn 15 = .ok (.getfield 211, 3) := dk_180 0 211 (dk_at dksX1_sumIn_0 15 rfl rfl)
theorem dX1_sumIn_18 : decode cX1_sumIn 18 = .ok (.iload_n 1, 1) := dk_27 (dk_at dksX1_sumIn_0 18 rfl rfl)
theorem dX1_sumIn_19 : decode cX1_sumIn 19 = .ok (.iload_n 2, 1) := dk_28 (dk_at dksX1_sumIn_0 19 rfl rfl)
theorem dX1_sumIn_20 : decode cX1_sumIn 20 = .ok (.iastore, 1) := dk_79 (dk_at dksX1_sumIn_0 20 rfl rfl)
theorem dX1_sumIn_21 : decode cX1_sumIn 21 = .ok (.aload_n 0, 1) := dk_42 (dk_at dksX1_sumIn_0 21 rfl rfl)
theorem dX1_sumIn_22 : decode cX1_sumIn 22 = .ok (.getfield 99, 3) := dk_180 0 99 (dk_at dksX1_sumIn_1 0 rfl rfl)
theorem dX1_sumIn_25 : decode cX1_sumIn 25 = .ok (.invokevirtual 278, 3) := dk_182 1 22 (dk_at dksX1_sumIn_1 3 rfl rfl)
theorem dX1_sumIn_28 : decode cX1_sumIn 28 = .ok (.aload_n 0, 1) := dk_42 (dk_at dksX1_sumIn_1 6 rfl rfl)
theorem dX1_sumIn_29 : decode cX1_sumIn 29 = .ok (.getfield 99, 3) := dk_180 0 99 (dk_at dksX1_sumIn_1 7 rfl rfl)
theorem dX1_sumIn_32 : decode cX1_sumIn 32 = .ok (.invokevirtual 301, 3) := dk_182 1 45 (dk_at dksX1_sumIn_1 10 rfl rfl)
theorem dX1_sumIn_35 : decode cX1_sumIn 35 = .ok (.ireturn, 1) := dk_172 (dk_at dksX1_sumIn_1 13 rfl rfl)
def dkwX1_inRoom_1 : List UInt8 := [182, 1, 48, 167, 0, 4, 2, 172]
abbrev dktX1_inRoom_1 : List UInt8 := dkwX1_inRoom_1 ++ []
def dkwX1_inRoom_0 : List UInt8 := [42, 27, 182, 0, 192, 153, 0, 24, 28, 133, 9, 20, 1, 14, 184, 0, 147, 153, 0, 12, 42, 27, 28]
abbrev dktX1_inRoom_0 : List UInt8 := dkwX1_inRoom_0 ++ dktX1_inRoom_1
theorem dksX1_inRoom_0 : cX1_inRoom.data.toList.drop 0 = dktX1_inRoom_0 := by decide +kernel
theorem dksX1_inRoom_1 : cX1_inRoom.data.toList.drop 23 = dktX1_inRoom_1 := dk_seg dksX1_inRoom_0 23 rfl rfl
theorem dX1_inRoom_0 : decode cX1_inRoom 0 = .ok (.aload_n 0, 1) := dk_42 (dk_at dksX1_inRoom_0 0 rfl rfl)
theorem dX1_inRoom_1 : decode cX1_inRoom 1 = .ok (.iload_n 1, 1) := dk_27 (dk_at dksX1_inRoom_0 1 rfl rfl)
theorem dX1_inRoom_2 : decode cX1_inRoom 2 = .ok (.invokevirtual 192, 3) := dk_182 0 192 (dk_at dksX1_inRoom_0 2 rfl rfl)
theorem dX1_inRoom_5 : decode cX1_inRoom 5 = .ok (.ifCond .eq 24, 3) := dk_153 0 24 (dk_at dksX1_inRoom_0 5 rfl rfl)
theorem dX1_inRoom_8 : decode cX1_inRoom 8 = .ok (.iload_n 2, 1) := dk_28 (dk_at dksX1_inRoom_0 8 rfl rfl)
theorem dX1_inRoom_9 : decode cX1_inRoom 9 = .ok (.i2l, 1) := dk_133 (dk_at dksX1_inRoom_0 9 rfl rfl)
theorem dX1_inRoom_10 : decode cX1_inRoom 10 = .ok (.lconst 0, 1) := dk_9 (dk_at dksX1_inRoom_0 10 rfl rfl)
theorem dX1_inRoom_11 : decode cX1_inRoom 11 = .ok (.ldc2_w 270, 3) := dk_20 1 14 (dk_at dksX1_inRoom_0 11 rfl rfl)
theorem dX1_inRoom_14 : decode cX1_inRoom 14 = .ok (.invokestatic 147, 3) := dk_184 0 147 (dk_at dksX1_inRoom_0 14 rfl rfl)
theorem dX1_inRoom_17 : decode cX1_inRoom 17 = .ok (.ifCond .eq 12, 3) := dk_153 0 12 (dk_at dksX1_inRoom_0 17 rfl rfl)
theorem dX1_inRoom_20 : decode cX1_inRoom 20 = .ok (.aload_n 0, 1) := dk_42 (dk_at dksX1_inRoom_0 20 rfl rfl)
theorem dX1_inRoom_21 : decode cX1_inRoom 21 = .ok (.iload_n 1, 1) := dk_27 (dk_at dksX1_inRoom_0 21 rfl rfl)
theorem dX1_inRoom_22 : decode cX1_inRoom 22 = .ok (.iload_n 2, 1) := dk_28 (dk_at dksX1_inRoom_0 22 rfl rfl)
theorem dX1_inRoom_23 : decode cX1_inRoom 23 = .ok (.invokevirtual 304, 3) := dk_182 1 48 (dk_at dksX1_inRoom_1 0 rfl rfl)
theorem dX1_inRoom_26 : decode cX1_inRoom 26 = .ok (.goto 4, 3) := dk_167 0 4 (dk_at dksX1_inRoom_1 3 rfl rfl)
theorem dX1_inRoom_29 : decode cX1_inRoom 29 = .ok (.iconst (-1), 1) := dk_2 (dk_at dksX1_inRoom_1 6 rfl rfl)
theorem dX1_inRoom_30 : decode cX1_inRoom 30 = .ok (.ireturn, 1) := dk_172 (dk_at dksX1_inRoom_1 7 rfl rfl)
def dkwX1_bestRoom_1 : List UInt8 := [182, 1, 48, 42, 27, 28, 182, 1, 48, 164, 0, 5, 29, 61, 132, 3, 1, 167, 255, 231, 28, 172]
abbrev dktX1_bestRoom_1 : List UInt8 := dkwX1_bestRoom_1 ++ []
def dkwX1_bestRoom_0 : List UInt8 := [42, 27, 182, 0, 192, 154, 0, 5, 2, 172, 3, 61, 4, 62, 29, 7, 162, 0, 26, 42, 27, 29]
abbrev dktX1_bestRoom_0 : List UInt8 := dkwX1_bestRoom_0 ++ dktX1_bestRoom_1
theorem dksX1_bestRoom_0 : cX1_bestRoom.data.toList.drop 0 = dktX1_bestRoom_0 := by decide +kernel
theorem dksX1_bestRoom_1 : cX1_bestRoom.data.toList.drop 22 = dktX1_bestRoom_1 := dk_seg dksX1_bestRoom_0 22 rfl rfl
theorem dX1_bestRoom_0 : decode cX1_bestRoom 0 = .ok (.aload_n 0, 1) := dk_42 (dk_at dksX1_bestRoom_0 0 rfl rfl)
theorem dX1_bestRoom_1 : decode cX1_bestRoom 1 = .ok (.iload_n 1, 1) := dk_27 (dk_at dksX1_bestRoom_0 1 rfl rfl)
theorem dX1_bestRoom_2 : decode cX1_bestRoom 2 = .ok (.invokevirtual 192, 3) := dk_182 0 192 (dk_at dksX1_bestRoom_0 2 rfl rfl)
theorem dX1_bestRoom_5 : decode cX1_bestRoom 5 = .ok (.ifCond .ne 5, 3) := dk_154 0 5 (dk_at dksX1_bestRoom_0 5 rfl rfl)
theorem dX1_bestRoom_8 : decode cX1_bestRoom 8 = .ok (.iconst (-1), 1) := dk_2 (dk_at dksX1_bestRoom_0 8 rfl rfl)
theorem dX1_bestRoom_9 : decode cX1_bestRoom 9 = .ok (.ireturn, 1) := dk_172 (dk_at dksX1_bestRoom_0 9 rfl rfl)
theorem dX1_bestRoom_10 : decode cX1_bestRoom 10 = .ok (.iconst 0, 1) := dk_3 (dk_at dksX1_bestRoom_0 10 rfl rfl)
theorem dX1_bestRoom_11 : decode cX1_bestRoom 11 = .ok (.istore_n 2, 1) := dk_61 (dk_at dksX1_bestRoom_0 11 rfl rfl)
theorem dX1_bestRoom_12 : decode cX1_bestRoom 12 = .ok (.iconst 1, 1) := dk_4 (dk_at dksX1_bestRoom_0 12 rfl rfl)
theorem dX1_bestRoom_13 : decode cX1_bestRoom 13 = .ok (.istore_n 3, 1) := dk_62 (dk_at dksX1_bestRoom_0 13 rfl rfl)
theorem dX1_bestRoom_14 : decode cX1_bestRoom 14 = .ok (.iload_n 3, 1) := dk_29 (dk_at dksX1_bestRoom_0 14 rfl rfl)
theorem dX1_bestRoom_15 : decode cX1_bestRoom 15 = .ok (.iconst 4, 1) := dk_7 (dk_at dksX1_bestRoom_0 15 rfl rfl)
theorem dX1_bestRoom_16 : decode cX1_bestRoom 16 = .ok (.if_icmp .ge 26, 3) := dk_162 0 26 (dk_at dksX1_bestRoom_0 16 rfl rfl)
theorem dX1_bestRoom_19 : decode cX1_bestRoom 19 = .ok (.aload_n 0, 1) := dk_42 (dk_at dksX1_bestRoom_0 19 rfl rfl)
theorem dX1_bestRoom_20 : decode cX1_bestRoom 20 = .ok (.iload_n 1, 1) := dk_27 (dk_at dksX1_bestRoom_0 20 rfl rfl)
theorem dX1_bestRoom_21 : decode cX1_bestRoom 21 = .ok (.iload_n 3, 1) := dk_29 (dk_at dksX1_bestRoom_0 21 rfl rfl)
theorem dX1_bestRoom_22 : decode cX1_bestRoom 22 = .ok (.invokevirtual 304, 3) := dk_182 1 48 (dk_at dksX1_bestRoom_1 0 rfl rfl)
theorem dX1_bestRoom_25 : decode cX1_bestRoom 25 = .ok (.aload_n 0, 1) := dk_42 (dk_at dksX1_bestRoom_1 3 rfl rfl)
theorem dX1_bestRoom_26 : decode cX1_bestRoom 26 = .ok (.iload_n 1, 1) := dk_27 (dk_at dksX1_bestRoom_1 4 rfl rfl)
theorem dX1_bestRoom_27 : decode cX1_bestRoom 27 = .ok (.iload_n 2, 1) := dk_28 (dk_at dksX1_bestRoom_1 5 rfl rfl)
theorem dX1_bestRoom_28 : decode cX1_bestRoom 28 = .ok (.invokevirtual 304, 3) := dk_182 1 48 (dk_at dksX1_bestRoom_1 6 rfl rfl)
theorem dX1_bestRoom_31 : decode cX1_bestRoom 31 = .ok (.if_icmp .le 5, 3) := dk_164 0 5 (dk_at dksX1_bestRoom_1 9 rfl rfl)
theorem dX1_bestRoom_34 : decode cX1_bestRoom 34 = .ok (.iload_n 3, 1) := dk_29 (dk_at dksX1_bestRoom_1 12 rfl rfl)
theorem dX1_bestRoom_35 : decode cX1_bestRoom 35 = .ok (.istore_n 2, 1) := dk_61 (dk_at dksX1_bestRoom_1 13 rfl rfl)
theorem dX1_bestRoom_36 : decode cX1_bestRoom 36 = .ok (.iinc 3 1, 3) := dk_132 3 1 (dk_at dksX1_bestRoom_1 14 rfl rfl)
theorem dX1_bestRoom_39 : decode cX1_bestRoom 39 = .ok (.goto (-25), 3) := dk_167 255 231 (dk_at dksX1_bestRoom_1 17 rfl rfl)
theorem dX1_bestRoom_42 : decode cX1_bestRoom 42 = .ok (.iload_n 2, 1) := dk_28 (dk_at dksX1_bestRoom_1 20 rfl rfl)
theorem dX1_bestRoom_43 : decode cX1_bestRoom 43 = .ok (.ireturn, 1) := dk_172 (dk_at dksX1_bestRoom_1 21 rfl rfl)
def dkwX1_isAsked_2 : List UInt8 := [184, 0, 147, 153, 0, 7, 4, 167, 0, 4, 3, 172]
abbrev dktX1_isAsked_2 : List UInt8 := dkwX1_isAsked_2 ++ []
def dkwX1_isAsked_1 : List UInt8 := [182, 0, 188, 122, 154, 0, 28, 29, 27, 122, 4, 126, 154, 0, 20, 21, 4, 133, 10, 20, 1, 60]
abbrev dktX1_isAsked_1 : List UInt8 := dkwX1_isAsked_1 ++ dktX1_isAsked_2
def dkwX1_isAsked_0 : List UInt8 := [42, 27, 182, 0, 192, 153, 0, 49, 42, 28, 182, 1, 11, 153, 0, 41, 29, 155, 0, 37, 29, 42]
abbrev dktX1_isAsked_0 : List UInt8 := dkwX1_isAsked_0 ++ dktX1_isAsked_1
theorem dksX1_isAsked_0 : cX1_isAsked.data.toList.drop 0 = dktX1_isAsked_0 := by decide +kernel
theorem dksX1_isAsked_1 : cX1_isAsked.data.toList.drop 22 = dktX1_isAsked_1 := dk_seg dksX1_isAsked_0 22 rfl rfl
theorem dksX1_isAsked_2 : cX1_isAsked.data.toList.drop 44 = dktX1_isAsked_2 := dk_seg dksX1_isAsked_1 22 rfl rfl
theorem dX1_isAsked_0 : decode cX1_isAsked 0 = .ok (.aload_n 0, 1) := dk_42 (dk_at dksX1_isAsked_0 0 rfl rfl)
theorem dX1_isAsked_1 : decode cX1_isAsked 1 = .ok (.iload_n 1, 1) := dk_27 (dk_at dksX1_isAsked_0 1 rfl rfl)
theorem dX1_isAsked_2 : decode cX1_isAsked 2 = .ok (.invokevirtual 192, 3) := dk_182 0 192 (dk_at dksX1_isAsked_0 2 rfl rfl)
theorem dX1_isAsked_5 : decode cX1_isAsked 5 = .ok (.ifCond .eq 49, 3) := dk_153 0 49 (dk_at dksX1_isAsked_0 5 rfl rfl)
theorem dX1_isAsked_8 : decode cX1_isAsked 8 = .ok (.aload_n 0, 1) := dk_42 (dk_at dksX1_isAsked_0 8 rfl rfl)
theorem dX1_isAsked_9 : decode cX1_isAsked 9 = .ok (.iload_n 2, 1) := dk_28 (dk_at dksX1_isAsked_0 9 rfl rfl)
theorem dX1_isAsked_10 : decode cX1_isAsked 10 = .ok (.invokevirtual 267, 3) := dk_182 1 11 (dk_at dksX1_isAsked_0 10 rfl rfl)
theorem dX1_isAsked_13 : decode cX1_isAsked 13 = .ok (.ifCond .eq 41, 3) := dk_153 0 41 (dk_at dksX1_isAsked_0 13 rfl rfl)
theorem dX1_isAsked_16 : decode cX1_isAsked 16 = .ok (.iload_n 3, 1) := dk_29 (dk_at dksX1_isAsked_0 16 rfl rfl)
theorem dX1_isAsked_17 : decode cX1_isAsked 17 = .ok (.ifCond .lt 37, 3) := dk_155 0 37 (dk_at dksX1_isAsked_0 17 rfl rfl)
theorem dX1_isAsked_20 : decode cX1_isAsked 20 = .ok (.iload_n 3, 1) := dk_29 (dk_at dksX1_isAsked_0 20 rfl rfl)
theorem dX1_isAsked_21 : decode cX1_isAsked 21 = .ok (.aload_n 0, 1) := dk_42 (dk_at dksX1_isAsked_0 21 rfl rfl)
theorem dX1_isAsked_22 : decode cX1_isAsked 22 = .ok (.invokevirtual 188, 3) := dk_182 0 188 (dk_at dksX1_isAsked_1 0 rfl rfl)
theorem dX1_isAsked_25 : decode cX1_isAsked 25 = .ok (.ishr, 1) := dk_122 (dk_at dksX1_isAsked_1 3 rfl rfl)
theorem dX1_isAsked_26 : decode cX1_isAsked 26 = .ok (.ifCond .ne 28, 3) := dk_154 0 28 (dk_at dksX1_isAsked_1 4 rfl rfl)
theorem dX1_isAsked_29 : decode cX1_isAsked 29 = .ok (.iload_n 3, 1) := dk_29 (dk_at dksX1_isAsked_1 7 rfl rfl)
theorem dX1_isAsked_30 : decode cX1_isAsked 30 = .ok (.iload_n 1, 1) := dk_27 (dk_at dksX1_isAsked_1 8 rfl rfl)
theorem dX1_isAsked_31 : decode cX1_isAsked 31 = .ok (.ishr, 1) := dk_122 (dk_at dksX1_isAsked_1 9 rfl rfl)
theorem dX1_isAsked_32 : decode cX1_isAsked 32 = .ok (.iconst 1, 1) := dk_4 (dk_at dksX1_isAsked_1 10 rfl rfl)
theorem dX1_isAsked_33 : decode cX1_isAsked 33 = .ok (.iand, 1) := dk_126 (dk_at dksX1_isAsked_1 11 rfl rfl)
theorem dX1_isAsked_34 : decode cX1_isAsked 34 = .ok (.ifCond .ne 20, 3) := dk_154 0 20 (dk_at dksX1_isAsked_1 12 rfl rfl)
theorem dX1_isAsked_37 : decode cX1_isAsked 37 = .ok (.iload 4, 2) := dk_21 4 (dk_at dksX1_isAsked_1 15 rfl rfl)
theorem dX1_isAsked_39 : decode cX1_isAsked 39 = .ok (.i2l, 1) := dk_133 (dk_at dksX1_isAsked_1 17 rfl rfl)
theorem dX1_isAsked_40 : decode cX1_isAsked 40 = .ok (.lconst 1, 1) := dk_10 (dk_at dksX1_isAsked_1 18 rfl rfl)
theorem dX1_isAsked_41 : decode cX1_isAsked 41 = .ok (.ldc2_w 316, 3) := dk_20 1 60 (dk_at dksX1_isAsked_1 19 rfl rfl)
theorem dX1_isAsked_44 : decode cX1_isAsked 44 = .ok (.invokestatic 147, 3) := dk_184 0 147 (dk_at dksX1_isAsked_2 0 rfl rfl)
theorem dX1_isAsked_47 : decode cX1_isAsked 47 = .ok (.ifCond .eq 7, 3) := dk_153 0 7 (dk_at dksX1_isAsked_2 3 rfl rfl)
theorem dX1_isAsked_50 : decode cX1_isAsked 50 = .ok (.iconst 1, 1) := dk_4 (dk_at dksX1_isAsked_2 6 rfl rfl)
theorem dX1_isAsked_51 : decode cX1_isAsked 51 = .ok (.goto 4, 3) := dk_167 0 4 (dk_at dksX1_isAsked_2 7 rfl rfl)
theorem dX1_isAsked_54 : decode cX1_isAsked 54 = .ok (.iconst 0, 1) := dk_3 (dk_at dksX1_isAsked_2 10 rfl rfl)
theorem dX1_isAsked_55 : decode cX1_isAsked 55 = .ok (.ireturn, 1) := dk_172 (dk_at dksX1_isAsked_2 11 rfl rfl)
def dkwX1_isWay_3 : List UInt8 := [126, 4, 160, 0, 7, 4, 167, 0, 4, 3, 172]
abbrev dktX1_isWay_3 : List UInt8 := dkwX1_isWay_3 ++ []
def dkwX1_isWay_2 : List UInt8 := [29, 122, 4, 126, 154, 0, 5, 3, 172, 132, 5, 1, 167, 255, 199, 43, 180, 0, 214, 28, 46, 29, 122, 4]
abbrev dktX1_isWay_2 : List UInt8 := dkwX1_isWay_2 ++ dktX1_isWay_3
def dkwX1_isWay_1 : List UInt8 := [180, 0, 214, 21, 5, 46, 29, 122, 4, 126, 4, 160, 0, 22, 42, 180, 0, 95, 180, 0, 214, 21, 5, 46]
abbrev dktX1_isWay_1 : List UInt8 := dkwX1_isWay_1 ++ dktX1_isWay_2
def dkwX1_isWay_0 : List UInt8 := [3, 54, 5, 21, 5, 42, 182, 0, 188, 162, 0, 54, 21, 4, 21, 5, 122, 4, 126, 4, 160, 0, 37, 43]
abbrev dktX1_isWay_0 : List UInt8 := dkwX1_isWay_0 ++ dktX1_isWay_1
theorem dksX1_isWay_0 : cX1_isWay.data.toList.drop 0 = dktX1_isWay_0 := by decide +kernel
theorem dksX1_isWay_1 : cX1_isWay.data.toList.drop 24 = dktX1_isWay_1 := dk_seg dksX1_isWay_0 24 rfl rfl
theorem dksX1_isWay_2 : cX1_isWay.data.toList.drop 48 = dktX1_isWay_2 := dk_seg dksX1_isWay_1 24 rfl rfl
theorem dksX1_isWay_3 : cX1_isWay.data.toList.drop 72 = dktX1_isWay_3 := dk_seg dksX1_isWay_2 24 rfl rfl
theorem dX1_isWay_0 : decode cX1_isWay 0 = .ok (.iconst 0, 1) := dk_3 (dk_at dksX1_isWay_0 0 rfl rfl)
theorem dX1_isWay_1 : decode cX1_isWay 1 = .ok (.istore 5, 2) := dk_54 5 (dk_at dksX1_isWay_0 1 rfl rfl)
theorem dX1_isWay_3 : decode cX1_isWay 3 = .ok (.iload 5, 2) := dk_21 5 (dk_at dksX1_isWay_0 3 rfl rfl)
theorem dX1_isWay_5 : decode cX1_isWay 5 = .ok (.aload_n 0, 1) := dk_42 (dk_at dksX1_isWay_0 5 rfl rfl)
theorem dX1_isWay_6 : decode cX1_isWay 6 = .ok (.invokevirtual 188, 3) := dk_182 0 188 (dk_at dksX1_isWay_0 6 rfl rfl)
theorem dX1_isWay_9 : decode cX1_isWay 9 = .ok (.if_icmp .ge 54, 3) := dk_162 0 54 (dk_at dksX1_isWay_0 9 rfl rfl)
theorem dX1_isWay_12 : decode cX1_isWay 12 = .ok (.iload 4, 2) := dk_21 4 (dk_at dksX1_isWay_0 12 rfl rfl)
theorem dX1_isWay_14 : decode cX1_isWay 14 = .ok (.iload 5, 2) := dk_21 5 (dk_at dksX1_isWay_0 14 rfl rfl)
theorem dX1_isWay_16 : decode cX1_isWay 16 = .ok (.ishr, 1) := dk_122 (dk_at dksX1_isWay_0 16 rfl rfl)
theorem dX1_isWay_17 : decode cX1_isWay 17 = .ok (.iconst 1, 1) := dk_4 (dk_at dksX1_isWay_0 17 rfl rfl)
theorem dX1_isWay_18 : decode cX1_isWay 18 = .ok (.iand, 1) := dk_126 (dk_at dksX1_isWay_0 18 rfl rfl)
theorem dX1_isWay_19 : decode cX1_isWay 19 = .ok (.iconst 1, 1) := dk_4 (dk_at dksX1_isWay_0 19 rfl rfl)
theorem dX1_isWay_20 : decode cX1_isWay 20 = .ok (.if_icmp .ne 37, 3) := dk_160 0 37 (dk_at dksX1_isWay_0 20 rfl rfl)
theorem dX1_isWay_23 : decode cX1_isWay 23 = .ok (.aload_n 1, 1) := dk_43 (dk_at dksX1_isWay_0 23 rfl rfl)
theorem dX1_isWay_24 : decode cX1_isWay 24 = .ok (.getfield 214, 3) := dk_180 0 214 (dk_at dksX1_isWay_1 0 rfl rfl)
theorem dX1_isWay_27 : decode cX1_isWay 27 = .ok (.iload 5, 2) := dk_21 5 (dk_at dksX1_isWay_1 3 rfl rfl)
theorem dX1_isWay_29 : decode cX1_isWay 29 = .ok (.iaload, 1) := dk_46 (dk_at dksX1_isWay_1 5 rfl rfl)
theorem dX1_isWay_30 : decode cX1_isWay 30 = .ok (.iload_n 3, 1) := dk_29 (dk_at dksX1_isWay_1 6 rfl rfl)
theorem dX1_isWay_31 : decode cX1_isWay 31 = .ok (.ishr, 1) := dk_122 (dk_at dksX1_isWay_1 7 rfl rfl)
theorem dX1_isWay_32 : decode cX1_isWay 32 = .ok (.iconst 1, 1) := dk_4 (dk_at dksX1_isWay_1 8 rfl rfl)
theorem dX1_isWay_33 : decode cX1_isWay 33 = .ok (.iand, 1) := dk_126 (dk_at dksX1_isWay_1 9 rfl rfl)
theorem dX1_isWay_34 : decode cX1_isWay 34 = .ok (.iconst 1, 1) := dk_4 (dk_at dksX1_isWay_1 10 rfl rfl)
theorem dX1_isWay_35 : decode cX1_isWay 35 = .ok (.if_icmp .ne 22, 3) := dk_160 0 22 (dk_at dksX1_isWay_1 11 rfl rfl)
theorem dX1_isWay_38 : decode cX1_isWay 38 = .ok (.aload_n 0, 1) := dk_42 (dk_at dksX1_isWay_1 14 rfl rfl)
theorem dX1_isWay_39 : decode cX1_isWay 39 = .ok (.getfield 95, 3) := dk_180 0 95 (dk_at dksX1_isWay_1 15 rfl rfl)
theorem dX1_isWay_42 : decode cX1_isWay 42 = .ok (.getfield 214, 3) := dk_180 0 214 (dk_at dksX1_isWay_1 18 rfl rfl)
theorem dX1_isWay_45 : decode cX1_isWay 45 = .ok (.iload 5, 2) := dk_21 5 (dk_at dksX1_isWay_1 21 rfl rfl)
theorem dX1_isWay_47 : decode cX1_isWay 47 = .ok (.iaload, 1) := dk_46 (dk_at dksX1_isWay_1 23 rfl rfl)
theorem dX1_isWay_48 : decode cX1_isWay 48 = .ok (.iload_n 3, 1) := dk_29 (dk_at dksX1_isWay_2 0 rfl rfl)
theorem dX1_isWay_49 : decode cX1_isWay 49 = .ok (.ishr, 1) := dk_122 (dk_at dksX1_isWay_2 1 rfl rfl)
theorem dX1_isWay_50 : decode cX1_isWay 50 = .ok (.iconst 1, 1) := dk_4 (dk_at dksX1_isWay_2 2 rfl rfl)
theorem dX1_isWay_51 : decode cX1_isWay 51 = .ok (.iand, 1) := dk_126 (dk_at dksX1_isWay_2 3 rfl rfl)
theorem dX1_isWay_52 : decode cX1_isWay 52 = .ok (.ifCond .ne 5, 3) := dk_154 0 5 (dk_at dksX1_isWay_2 4 rfl rfl)
theorem dX1_isWay_55 : decode cX1_isWay 55 = .ok (.iconst 0, 1) := dk_3 (dk_at dksX1_isWay_2 7 rfl rfl)
theorem dX1_isWay_56 : decode cX1_isWay 56 = .ok (.ireturn, 1) := dk_172 (dk_at dksX1_isWay_2 8 rfl rfl)
theorem dX1_isWay_57 : decode cX1_isWay 57 = .ok (.iinc 5 1, 3) := dk_132 5 1 (dk_at dksX1_isWay_2 9 rfl rfl)
theorem dX1_isWay_60 : decode cX1_isWay 60 = .ok (.goto (-57), 3) := dk_167 255 199 (dk_at dksX1_isWay_2 12 rfl rfl)
theorem dX1_isWay_63 : decode cX1_isWay 63 = .ok (.aload_n 1, 1) := dk_43 (dk_at dksX1_isWay_2 15 rfl rfl)
theorem dX1_isWay_64 : decode cX1_isWay 64 = .ok (.getfield 214, 3) := dk_180 0 214 (dk_at dksX1_isWay_2 16 rfl rfl)
theorem dX1_isWay_67 : decode cX1_isWay 67 = .ok (.iload_n 2, 1) := dk_28 (dk_at dksX1_isWay_2 19 rfl rfl)
theorem dX1_isWay_68 : decode cX1_isWay 68 = .ok (.iaload, 1) := dk_46 (dk_at dksX1_isWay_2 20 rfl rfl)
theorem dX1_isWay_69 : decode cX1_isWay 69 = .ok (.iload_n 3, 1) := dk_29 (dk_at dksX1_isWay_2 21 rfl rfl)
theorem dX1_isWay_70 : decode cX1_isWay 70 = .ok (.ishr, 1) := dk_122 (dk_at dksX1_isWay_2 22 rfl rfl)
theorem dX1_isWay_71 : decode cX1_isWay 71 = .ok (.iconst 1, 1) := dk_4 (dk_at dksX1_isWay_2 23 rfl rfl)
theorem dX1_isWay_72 : decode cX1_isWay 72 = .ok (.iand, 1) := dk_126 (dk_at dksX1_isWay_3 0 rfl rfl)
theorem dX1_isWay_73 : decode cX1_isWay 73 = .ok (.iconst 1, 1) := dk_4 (dk_at dksX1_isWay_3 1 rfl rfl)
theorem dX1_isWay_74 : decode cX1_isWay 74 = .ok (.if_icmp .ne 7, 3) := dk_160 0 7 (dk_at dksX1_isWay_3 2 rfl rfl)
theorem dX1_isWay_77 : decode cX1_isWay 77 = .ok (.iconst 1, 1) := dk_4 (dk_at dksX1_isWay_3 5 rfl rfl)
theorem dX1_isWay_78 : decode cX1_isWay 78 = .ok (.goto 4, 3) := dk_167 0 4 (dk_at dksX1_isWay_3 6 rfl rfl)
theorem dX1_isWay_81 : decode cX1_isWay 81 = .ok (.iconst 0, 1) := dk_3 (dk_at dksX1_isWay_3 9 rfl rfl)
theorem dX1_isWay_82 : decode cX1_isWay 82 = .ok (.ireturn, 1) := dk_172 (dk_at dksX1_isWay_3 10 rfl rfl)
def dkwX1_ways_6 : List UInt8 := [167, 255, 167, 132, 9, 1, 167, 255, 149, 132, 8, 1, 167, 255, 131, 3, 172]
abbrev dktX1_ways_6 : List UInt8 := dkwX1_ways_6 ++ []
def dkwX1_ways_5 : List UInt8 := [42, 25, 7, 28, 4, 96, 29, 21, 4, 21, 5, 21, 6, 182, 1, 56, 153, 0, 5, 4, 172, 132, 10, 1]
abbrev dktX1_ways_5 : List UInt8 := dkwX1_ways_5 ++ dktX1_ways_6
def dkwX1_ways_4 : List UInt8 := [182, 1, 8, 87, 42, 180, 0, 112, 28, 16, 100, 21, 8, 104, 16, 10, 21, 9, 104, 96, 21, 10, 96, 79]
abbrev dktX1_ways_4 : List UInt8 := dkwX1_ways_4 ++ dktX1_ways_5
def dkwX1_ways_3 : List UInt8 := [182, 0, 245, 154, 0, 6, 167, 0, 63, 25, 7, 43, 182, 1, 1, 25, 7, 21, 8, 21, 9, 21, 10, 3]
abbrev dktX1_ways_3 : List UInt8 := dkwX1_ways_3 ++ dktX1_ways_4
def dkwX1_ways_2 : List UInt8 := [162, 0, 104, 3, 54, 10, 21, 10, 42, 182, 0, 190, 162, 0, 86, 43, 21, 8, 21, 9, 21, 10, 4]
abbrev dktX1_ways_2 : List UInt8 := dkwX1_ways_2 ++ dktX1_ways_3
def dkwX1_ways_1 : List UInt8 := [58, 7, 3, 54, 8, 21, 8, 42, 182, 0, 188, 162, 0, 122, 3, 54, 9, 21, 9, 42, 182, 0, 188]
abbrev dktX1_ways_1 : List UInt8 := dkwX1_ways_1 ++ dktX1_ways_2
def dkwX1_ways_0 : List UInt8 := [28, 29, 160, 0, 15, 42, 43, 21, 4, 21, 5, 21, 6, 182, 1, 52, 172, 42, 180, 0, 109, 28, 50]
abbrev dktX1_ways_0 : List UInt8 := dkwX1_ways_0 ++ dktX1_ways_1
theorem dksX1_ways_0 : cX1_ways.data.toList.drop 0 = dktX1_ways_0 := by decide +kernel
theorem dksX1_ways_1 : cX1_ways.data.toList.drop 23 = dktX1_ways_1 := dk_seg dksX1_ways_0 23 rfl rfl
theorem dksX1_ways_2 : cX1_ways.data.toList.drop 46 = dktX1_ways_2 := dk_seg dksX1_ways_1 23 rfl rfl
theorem dksX1_ways_3 : cX1_ways.data.toList.drop 69 = dktX1_ways_3 := dk_seg dksX1_ways_2 23 rfl rfl
theorem dksX1_ways_4 : cX1_ways.data.toList.drop 93 = dktX1_ways_4 := dk_seg dksX1_ways_3 24 rfl rfl
theorem dksX1_ways_5 : cX1_ways.data.toList.drop 117 = dktX1_ways_5 := dk_seg dksX1_ways_4 24 rfl rfl
theorem dksX1_ways_6 : cX1_ways.data.toList.drop 141 = dktX1_ways_6 := dk_seg dksX1_ways_5 24 rfl rfl
theorem dX1_ways_0 : decode cX1_ways 0 = .ok (.iload_n 2, 1) := dk_28 (dk_at dksX1_ways_0 0 rfl rfl)
theorem dX1_ways_1 : decode cX1_ways 1 = .ok (.iload_n 3, 1) := dk_29 (dk_at dksX1_ways_0 1 rfl rfl)
theorem dX1_ways_2 : decode cX1_ways 2 = .ok (.if_icmp .ne 15, 3) := dk_160 0 15 (dk_at dksX1_ways_0 2 rfl rfl)
theorem dX1_ways_5 : decode cX1_ways 5 = .ok (.aload_n 0, 1) := dk_42 (dk_at dksX1_ways_0 5 rfl rfl)
theorem dX1_ways_6 : decode cX1_ways 6 = .ok (.aload_n 1, 1) := dk_43 (dk_at dksX1_ways_0 6 rfl rfl)
theorem dX1_ways_7 : decode cX1_ways 7 = .ok (.iload 4, 2) := dk_21 4 (dk_at dksX1_ways_0 7 rfl rfl)
theorem dX1_ways_9 : decode cX1_ways 9 = .ok (.iload 5, 2) := dk_21 5 (dk_at dksX1_ways_0 9 rfl rfl)
theorem dX1_ways_11 : decode cX1_ways 11 = .ok (.iload 6, 2) := dk_21 6 (dk_at dksX1_ways_0 11 rfl rfl)
theorem dX1_ways_13 : decode cX1_ways 13 = .ok (.invokevirtual 308, 3) := dk_182 1 52 (dk_at dksX1_ways_0 13 rfl rfl)
theorem dX1_ways_16 : decode cX1_ways 16 = .ok (.ireturn, 1) := dk_172 (dk_at dksX1_ways_0 16 rfl rfl)
theorem dX1_ways_17 : decode cX1_ways 17 = .ok (.aload_n 0, 1) := dk_42 (dk_at dksX1_ways_0 17 rfl rfl)
theorem dX1_ways_18 : decode cX1_ways 18 = .ok (.getfield 109, 3) := dk_180 0 109 (dk_at dksX1_ways_0 18 rfl rfl)
theorem dX1_ways_21 : decode cX1_ways 21 = .ok (.iload_n 2, 1) := dk_28 (dk_at dksX1_ways_0 21 rfl rfl)
theorem dX1_ways_22 : decode cX1_ways 22 = .ok (.aaload, 1) := dk_50 (dk_at dksX1_ways_0 22 rfl rfl)
theorem dX1_ways_23 : decode cX1_ways 23 = .ok (.astore 7, 2) := dk_58 7 (dk_at dksX1_ways_1 0 rfl rfl)
theorem dX1_ways_25 : decode cX1_ways 25 = .ok (.iconst 0, 1) := dk_3 (dk_at dksX1_ways_1 2 rfl rfl)
theorem dX1_ways_26 : decode cX1_ways 26 = .ok (.istore 8, 2) := dk_54 8 (dk_at dksX1_ways_1 3 rfl rfl)
theorem dX1_ways_28 : decode cX1_ways 28 = .ok (.iload 8, 2) := dk_21 8 (dk_at dksX1_ways_1 5 rfl rfl)
theorem dX1_ways_30 : decode cX1_ways 30 = .ok (.aload_n 0, 1) := dk_42 (dk_at dksX1_ways_1 7 rfl rfl)
theorem dX1_ways_31 : decode cX1_ways 31 = .ok (.invokevirtual 188, 3) := dk_182 0 188 (dk_at dksX1_ways_1 8 rfl rfl)
theorem dX1_ways_34 : decode cX1_ways 34 = .ok (.if_icmp .ge 122, 3) := dk_162 0 122 (dk_at dksX1_ways_1 11 rfl rfl)
theorem dX1_ways_37 : decode cX1_ways 37 = .ok (.iconst 0, 1) := dk_3 (dk_at dksX1_ways_1 14 rfl rfl)
theorem dX1_ways_38 : decode cX1_ways 38 = .ok (.istore 9, 2) := dk_54 9 (dk_at dksX1_ways_1 15 rfl rfl)
theorem dX1_ways_40 : decode cX1_ways 40 = .ok (.iload 9, 2) := dk_21 9 (dk_at dksX1_ways_1 17 rfl rfl)
theorem dX1_ways_42 : decode cX1_ways 42 = .ok (.aload_n 0, 1) := dk_42 (dk_at dksX1_ways_1 19 rfl rfl)
theorem dX1_ways_43 : decode cX1_ways 43 = .ok (.invokevirtual 188, 3) := dk_182 0 188 (dk_at dksX1_ways_1 20 rfl rfl)
theorem dX1_ways_46 : decode cX1_ways 46 = .ok (.if_icmp .ge 104, 3) := dk_162 0 104 (dk_at dksX1_ways_2 0 rfl rfl)
theorem dX1_ways_49 : decode cX1_ways 49 = .ok (.iconst 0, 1) := dk_3 (dk_at dksX1_ways_2 3 rfl rfl)
theorem dX1_ways_50 : decode cX1_ways 50 = .ok (.istore 10, 2) := dk_54 10 (dk_at dksX1_ways_2 4 rfl rfl)
theorem dX1_ways_52 : decode cX1_ways 52 = .ok (.iload 10, 2) := dk_21 10 (dk_at dksX1_ways_2 6 rfl rfl)
theorem dX1_ways_54 : decode cX1_ways 54 = .ok (.aload_n 0, 1) := dk_42 (dk_at dksX1_ways_2 8 rfl rfl)
theorem dX1_ways_55 : decode cX1_ways 55 = .ok (.invokevirtual 190, 3) := dk_182 0 190 (dk_at dksX1_ways_2 9 rfl rfl)
theorem dX1_ways_58 : decode cX1_ways 58 = .ok (.if_icmp .ge 86, 3) := dk_162 0 86 (dk_at dksX1_ways_2 12 rfl rfl)
theorem dX1_ways_61 : decode cX1_ways 61 = .ok (.aload_n 1, 1) := dk_43 (dk_at dksX1_ways_2 15 rfl rfl)
theorem dX1_ways_62 : decode cX1_ways 62 = .ok (.iload 8, 2) := dk_21 8 (dk_at dksX1_ways_2 16 rfl rfl)
theorem dX1_ways_64 : decode cX1_ways 64 = .ok (.iload 9, 2) := dk_21 9 (dk_at dksX1_ways_2 18 rfl rfl)
theorem dX1_ways_66 : decode cX1_ways 66 = .ok (.iload 10, 2) := dk_21 10 (dk_at dksX1_ways_2 20 rfl rfl)
theorem dX1_ways_68 : decode cX1_ways 68 = .ok (.iconst 1, 1) := dk_4 (dk_at dksX1_ways_2 22 rfl rfl)
theorem dX1_ways_69 : decode cX1_ways 69 = .ok (.invokevirtual 245, 3) := dk_182 0 245 (dk_at dksX1_ways_3 0 rfl rfl)
theorem dX1_ways_72 : decode cX1_ways 72 = .ok (.ifCond .ne 6, 3) := dk_154 0 6 (dk_at dksX1_ways_3 3 rfl rfl)
theorem dX1_ways_75 : decode cX1_ways 75 = .ok (.goto 63, 3) := dk_167 0 63 (dk_at dksX1_ways_3 6 rfl rfl)
theorem dX1_ways_78 : decode cX1_ways 78 = .ok (.aload 7, 2) := dk_25 7 (dk_at dksX1_ways_3 9 rfl rfl)
theorem dX1_ways_80 : decode cX1_ways 80 = .ok (.aload_n 1, 1) := dk_43 (dk_at dksX1_ways_3 11 rfl rfl)
theorem dX1_ways_81 : decode cX1_ways 81 = .ok (.invokevirtual 257, 3) := dk_182 1 1 (dk_at dksX1_ways_3 12 rfl rfl)
theorem dX1_ways_84 : decode cX1_ways 84 = .ok (.aload 7, 2) := dk_25 7 (dk_at dksX1_ways_3 15 rfl rfl)
theorem dX1_ways_86 : decode cX1_ways 86 = .ok (.iload 8, 2) := dk_21 8 (dk_at dksX1_ways_3 17 rfl rfl)
theorem dX1_ways_88 : decode cX1_ways 88 = .ok (.iload 9, 2) := dk_21 9 (dk_at dksX1_ways_3 19 rfl rfl)
theorem dX1_ways_90 : decode cX1_ways 90 = .ok (.iload 10, 2) := dk_21 10 (dk_at dksX1_ways_3 21 rfl rfl)
theorem dX1_ways_92 : decode cX1_ways 92 = .ok (.iconst 0, 1) := dk_3 (dk_at dksX1_ways_3 23 rfl rfl)
theorem dX1_ways_93 : decode cX1_ways 93 = .ok (.invokevirtual 264, 3) := dk_182 1 8 (dk_at dksX1_ways_4 0 rfl rfl)
theorem dX1_ways_96 : decode cX1_ways 96 = .ok (.pop, 1) := dk_87 (dk_at dksX1_ways_4 3 rfl rfl)
theorem dX1_ways_97 : decode cX1_ways 97 = .ok (.aload_n 0, 1) := dk_42 (dk_at dksX1_ways_4 4 rfl rfl)
theorem dX1_ways_98 : decode cX1_ways 98 = .ok (.getfield 112, 3) := dk_180 0 112 (dk_at dksX1_ways_4 5 rfl rfl)
theorem dX1_ways_101 : decode cX1_ways 101 = .ok (.iload_n 2, 1) := dk_28 (dk_at dksX1_ways_4 8 rfl rfl)
theorem dX1_ways_102 : decode cX1_ways 102 = .ok (.bipush 100, 2) := dk_16 100 (dk_at dksX1_ways_4 9 rfl rfl)
theorem dX1_ways_104 : decode cX1_ways 104 = .ok (.iload 8, 2) := dk_21 8 (dk_at dksX1_ways_4 11 rfl rfl)
theorem dX1_ways_106 : decode cX1_ways 106 = .ok (.imul, 1) := dk_104 (dk_at dksX1_ways_4 13 rfl rfl)
theorem dX1_ways_107 : decode cX1_ways 107 = .ok (.bipush 10, 2) := dk_16 10 (dk_at dksX1_ways_4 14 rfl rfl)
theorem dX1_ways_109 : decode cX1_ways 109 = .ok (.iload 9, 2) := dk_21 9 (dk_at dksX1_ways_4 16 rfl rfl)
theorem dX1_ways_111 : decode cX1_ways 111 = .ok (.imul, 1) := dk_104 (dk_at dksX1_ways_4 18 rfl rfl)
theorem dX1_ways_112 : decode cX1_ways 112 = .ok (.iadd, 1) := dk_96 (dk_at dksX1_ways_4 19 rfl rfl)
theorem dX1_ways_113 : decode cX1_ways 113 = .ok (.iload 10, 2) := dk_21 10 (dk_at dksX1_ways_4 20 rfl rfl)
theorem dX1_ways_115 : decode cX1_ways 115 = .ok (.iadd, 1) := dk_96 (dk_at dksX1_ways_4 22 rfl rfl)
theorem dX1_ways_116 : decode cX1_ways 116 = .ok (.iastore, 1) := dk_79 (dk_at dksX1_ways_4 23 rfl rfl)
theorem dX1_ways_117 : decode cX1_ways 117 = .ok (.aload_n 0, 1) := dk_42 (dk_at dksX1_ways_5 0 rfl rfl)
theorem dX1_ways_118 : decode cX1_ways 118 = .ok (.aload 7, 2) := dk_25 7 (dk_at dksX1_ways_5 1 rfl rfl)
theorem dX1_ways_120 : decode cX1_ways 120 = .ok (.iload_n 2, 1) := dk_28 (dk_at dksX1_ways_5 3 rfl rfl)
theorem dX1_ways_121 : decode cX1_ways 121 = .ok (.iconst 1, 1) := dk_4 (dk_at dksX1_ways_5 4 rfl rfl)
theorem dX1_ways_122 : decode cX1_ways 122 = .ok (.iadd, 1) := dk_96 (dk_at dksX1_ways_5 5 rfl rfl)
theorem dX1_ways_123 : decode cX1_ways 123 = .ok (.iload_n 3, 1) := dk_29 (dk_at dksX1_ways_5 6 rfl rfl)
theorem dX1_ways_124 : decode cX1_ways 124 = .ok (.iload 4, 2) := dk_21 4 (dk_at dksX1_ways_5 7 rfl rfl)
theorem dX1_ways_126 : decode cX1_ways 126 = .ok (.iload 5, 2) := dk_21 5 (dk_at dksX1_ways_5 9 rfl rfl)
theorem dX1_ways_128 : decode cX1_ways 128 = .ok (.iload 6, 2) := dk_21 6 (dk_at dksX1_ways_5 11 rfl rfl)
theorem dX1_ways_130 : decode cX1_ways 130 = .ok (.invokevirtual 312, 3) := dk_182 1 56 (dk_at dksX1_ways_5 13 rfl rfl)
theorem dX1_ways_133 : decode cX1_ways 133 = .ok (.ifCond .eq 5, 3) := dk_153 0 5 (dk_at dksX1_ways_5 16 rfl rfl)
theorem dX1_ways_136 : decode cX1_ways 136 = .ok (.iconst 1, 1) := dk_4 (dk_at dksX1_ways_5 19 rfl rfl)
theorem dX1_ways_137 : decode cX1_ways 137 = .ok (.ireturn, 1) := dk_172 (dk_at dksX1_ways_5 20 rfl rfl)
theorem dX1_ways_138 : decode cX1_ways 138 = .ok (.iinc 10 1, 3) := dk_132 10 1 (dk_at dksX1_ways_5 21 rfl rfl)
theorem dX1_ways_141 : decode cX1_ways 141 = .ok (.goto (-89), 3) := dk_167 255 167 (dk_at dksX1_ways_6 0 rfl rfl)
theorem dX1_ways_144 : decode cX1_ways 144 = .ok (.iinc 9 1, 3) := dk_132 9 1 (dk_at dksX1_ways_6 3 rfl rfl)
theorem dX1_ways_147 : decode cX1_ways 147 = .ok (.goto (-107), 3) := dk_167 255 149 (dk_at dksX1_ways_6 6 rfl rfl)
theorem dX1_ways_150 : decode cX1_ways 150 = .ok (.iinc 8 1, 3) := dk_132 8 1 (dk_at dksX1_ways_6 9 rfl rfl)
theorem dX1_ways_153 : decode cX1_ways 153 = .ok (.goto (-125), 3) := dk_167 255 131 (dk_at dksX1_ways_6 12 rfl rfl)
theorem dX1_ways_156 : decode cX1_ways 156 = .ok (.iconst 0, 1) := dk_3 (dk_at dksX1_ways_6 15 rfl rfl)
theorem dX1_ways_157 : decode cX1_ways 157 = .ok (.ireturn, 1) := dk_172 (dk_at dksX1_ways_6 16 rfl rfl)
def dkwX1_layWay_3 : List UInt8 := [42, 180, 0, 112, 21, 5, 46, 79, 132, 5, 1, 167, 255, 230, 177]
abbrev dktX1_layWay_3 : List UInt8 := dkwX1_layWay_3 ++ []
def dkwX1_layWay_2 : List UInt8 := [132, 5, 1, 167, 255, 215, 3, 54, 5, 21, 5, 42, 180, 1, 62, 162, 0, 23, 42, 180, 0, 116, 21, 5]
abbrev dktX1_layWay_2 : List UInt8 := dkwX1_layWay_2 ++ dktX1_layWay_3
def dkwX1_layWay_1 : List UInt8 := [42, 180, 0, 95, 3, 21, 5, 27, 28, 29, 182, 1, 56, 153, 0, 9, 42, 21, 5, 181, 1, 62]
abbrev dktX1_layWay_1 : List UInt8 := dkwX1_layWay_1 ++ dktX1_layWay_2
def dkwX1_layWay_0 : List UInt8 := [42, 2, 181, 1, 62, 3, 54, 5, 21, 5, 21, 4, 163, 0, 40, 42, 180, 1, 62, 2, 160, 0, 32, 42]
abbrev dktX1_layWay_0 : List UInt8 := dkwX1_layWay_0 ++ dktX1_layWay_1
theorem dksX1_layWay_0 : cX1_layWay.data.toList.drop 0 = dktX1_layWay_0 := by decide +kernel
theorem dksX1_layWay_1 : cX1_layWay.data.toList.drop 24 = dktX1_layWay_1 := dk_seg dksX1_layWay_0 24 rfl rfl
theorem dksX1_layWay_2 : cX1_layWay.data.toList.drop 46 = dktX1_layWay_2 := dk_seg dksX1_layWay_1 22 rfl rfl
theorem dksX1_layWay_3 : cX1_layWay.data.toList.drop 70 = dktX1_layWay_3 := dk_seg dksX1_layWay_2 24 rfl rfl
theorem dX1_layWay_0 : decode cX1_layWay 0 = .ok (.aload_n 0, 1) := dk_42 (dk_at dksX1_layWay_0 0 rfl rfl)
theorem dX1_layWay_1 : decode cX1_layWay 1 = .ok (.iconst (-1), 1) := dk_2 (dk_at dksX1_layWay_0 1 rfl rfl)
theorem dX1_layWay_2 : decode cX1_layWay 2 = .ok (.putfield 318, 3) := dk_181 1 62 (dk_at dksX1_layWay_0 2 rfl rfl)
theorem dX1_layWay_5 : decode cX1_layWay 5 = .ok (.iconst 0, 1) := dk_3 (dk_at dksX1_layWay_0 5 rfl rfl)
theorem dX1_layWay_6 : decode cX1_layWay 6 = .ok (.istore 5, 2) := dk_54 5 (dk_at dksX1_layWay_0 6 rfl rfl)
theorem dX1_layWay_8 : decode cX1_layWay 8 = .ok (.iload 5, 2) := dk_21 5 (dk_at dksX1_layWay_0 8 rfl rfl)
theorem dX1_layWay_10 : decode cX1_layWay 10 = .ok (.iload 4, 2) := dk_21 4 (dk_at dksX1_layWay_0 10 rfl rfl)
theorem dX1_layWay_12 : decode cX1_layWay 12 = .ok (.if_icmp .gt 40, 3) := dk_163 0 40 (dk_at dksX1_layWay_0 12 rfl rfl)
theorem dX1_layWay_15 : decode cX1_layWay 15 = .ok (.aload_n 0, 1) := dk_42 (dk_at dksX1_layWay_0 15 rfl rfl)
theorem dX1_layWay_16 : decode cX1_layWay 16 = .ok (.getfield 318, 3) := dk_180 1 62 (dk_at dksX1_layWay_0 16 rfl rfl)
theorem dX1_layWay_19 : decode cX1_layWay 19 = .ok (.iconst (-1), 1) := dk_2 (dk_at dksX1_layWay_0 19 rfl rfl)
theorem dX1_layWay_20 : decode cX1_layWay 20 = .ok (.if_icmp .ne 32, 3) := dk_160 0 32 (dk_at dksX1_layWay_0 20 rfl rfl)
theorem dX1_layWay_23 : decode cX1_layWay 23 = .ok (.aload_n 0, 1) := dk_42 (dk_at dksX1_layWay_0 23 rfl rfl)
theorem dX1_layWay_24 : decode cX1_layWay 24 = .ok (.aload_n 0, 1) := dk_42 (dk_at dksX1_layWay_1 0 rfl rfl)
theorem dX1_layWay_25 : decode cX1_layWay 25 = .ok (.getfield 95, 3) := dk_180 0 95 (dk_at dksX1_layWay_1 1 rfl rfl)
theorem dX1_layWay_28 : decode cX1_layWay 28 = .ok (.iconst 0, 1) := dk_3 (dk_at dksX1_layWay_1 4 rfl rfl)
theorem dX1_layWay_29 : decode cX1_layWay 29 = .ok (.iload 5, 2) := dk_21 5 (dk_at dksX1_layWay_1 5 rfl rfl)
theorem dX1_layWay_31 : decode cX1_layWay 31 = .ok (.iload_n 1, 1) := dk_27 (dk_at dksX1_layWay_1 7 rfl rfl)
theorem dX1_layWay_32 : decode cX1_layWay 32 = .ok (.iload_n 2, 1) := dk_28 (dk_at dksX1_layWay_1 8 rfl rfl)
theorem dX1_layWay_33 : decode cX1_layWay 33 = .ok (.iload_n 3, 1) := dk_29 (dk_at dksX1_layWay_1 9 rfl rfl)
theorem dX1_layWay_34 : decode cX1_layWay 34 = .ok (.invokevirtual 312, 3) := dk_182 1 56 (dk_at dksX1_layWay_1 10 rfl rfl)
theorem dX1_layWay_37 : decode cX1_layWay 37 = .ok (.ifCond .eq 9, 3) := dk_153 0 9 (dk_at dksX1_layWay_1 13 rfl rfl)
theorem dX1_layWay_40 : decode cX1_layWay 40 = .ok (.aload_n 0, 1) := dk_42 (dk_at dksX1_layWay_1 16 rfl rfl)
theorem dX1_layWay_41 : decode cX1_layWay 41 = .ok (.iload 5, 2) := dk_21 5 (dk_at dksX1_layWay_1 17 rfl rfl)
theorem dX1_layWay_43 : decode cX1_layWay 43 = .ok (.putfield 318, 3) := dk_181 1 62 (dk_at dksX1_layWay_1 19 rfl rfl)
theorem dX1_layWay_46 : decode cX1_layWay 46 = .ok (.iinc 5 1, 3) := dk_132 5 1 (dk_at dksX1_layWay_2 0 rfl rfl)
theorem dX1_layWay_49 : decode cX1_layWay 49 = .ok (.goto (-41), 3) := dk_167 255 215 (dk_at dksX1_layWay_2 3 rfl rfl)
theorem dX1_layWay_52 : decode cX1_layWay 52 = .ok (.iconst 0, 1) := dk_3 (dk_at dksX1_layWay_2 6 rfl rfl)
theorem dX1_layWay_53 : decode cX1_layWay 53 = .ok (.istore 5, 2) := dk_54 5 (dk_at dksX1_layWay_2 7 rfl rfl)
theorem dX1_layWay_55 : decode cX1_layWay 55 = .ok (.iload 5, 2) := dk_21 5 (dk_at dksX1_layWay_2 9 rfl rfl)
theorem dX1_layWay_57 : decode cX1_layWay 57 = .ok (.aload_n 0, 1) := dk_42 (dk_at dksX1_layWay_2 11 rfl rfl)
theorem dX1_layWay_58 : decode cX1_layWay 58 = .ok (.getfield 318, 3) := dk_180 1 62 (dk_at dksX1_layWay_2 12 rfl rfl)
theorem dX1_layWay_61 : decode cX1_layWay 61 = .ok (.if_icmp .ge 23, 3) := dk_162 0 23 (dk_at dksX1_layWay_2 15 rfl rfl)
theorem dX1_layWay_64 : decode cX1_layWay 64 = .ok (.aload_n 0, 1) := dk_42 (dk_at dksX1_layWay_2 18 rfl rfl)
theorem dX1_layWay_65 : decode cX1_layWay 65 = .ok (.getfield 116, 3) := dk_180 0 116 (dk_at dksX1_layWay_2 19 rfl rfl)
theorem dX1_layWay_68 : decode cX1_layWay 68 = .ok (.iload 5, 2) := dk_21 5 (dk_at dksX1_layWay_2 22 rfl rfl)
theorem dX1_layWay_70 : decode cX1_layWay 70 = .ok (.aload_n 0, 1) := dk_42 (dk_at dksX1_layWay_3 0 rfl rfl)
theorem dX1_layWay_71 : decode cX1_layWay 71 = .ok (.getfield 112, 3) := dk_180 0 112 (dk_at dksX1_layWay_3 1 rfl rfl)
theorem dX1_layWay_74 : decode cX1_layWay 74 = .ok (.iload 5, 2) := dk_21 5 (dk_at dksX1_layWay_3 4 rfl rfl)
theorem dX1_layWay_76 : decode cX1_layWay 76 = .ok (.iaload, 1) := dk_46 (dk_at dksX1_layWay_3 6 rfl rfl)
theorem dX1_layWay_77 : decode cX1_layWay 77 = .ok (.iastore, 1) := dk_79 (dk_at dksX1_layWay_3 7 rfl rfl)
theorem dX1_layWay_78 : decode cX1_layWay 78 = .ok (.iinc 5 1, 3) := dk_132 5 1 (dk_at dksX1_layWay_3 8 rfl rfl)
theorem dX1_layWay_81 : decode cX1_layWay 81 = .ok (.goto (-26), 3) := dk_167 255 230 (dk_at dksX1_layWay_3 11 rfl rfl)
theorem dX1_layWay_84 : decode cX1_layWay 84 = .ok (.return_, 1) := dk_177 (dk_at dksX1_layWay_3 14 rfl rfl)
def dkwX1_way_1 : List UInt8 := [180, 1, 62, 2, 160, 0, 8, 16, 254, 167, 0, 7, 42, 180, 1, 62, 172]
abbrev dktX1_way_1 : List UInt8 := dkwX1_way_1 ++ []
def dkwX1_way_0 : List UInt8 := [42, 27, 28, 29, 21, 4, 182, 1, 65, 154, 0, 5, 2, 172, 42, 27, 28, 29, 21, 4, 182, 1, 68, 42]
abbrev dktX1_way_0 : List UInt8 := dkwX1_way_0 ++ dktX1_way_1
theorem dksX1_way_0 : cX1_way.data.toList.drop 0 = dktX1_way_0 := by decide +kernel
theorem dksX1_way_1 : cX1_way.data.toList.drop 24 = dktX1_way_1 := dk_seg dksX1_way_0 24 rfl rfl
theorem dX1_way_0 : decode cX1_way 0 = .ok (.aload_n 0, 1) := dk_42 (dk_at dksX1_way_0 0 rfl rfl)
theorem dX1_way_1 : decode cX1_way 1 = .ok (.iload_n 1, 1) := dk_27 (dk_at dksX1_way_0 1 rfl rfl)
theorem dX1_way_2 : decode cX1_way 2 = .ok (.iload_n 2, 1) := dk_28 (dk_at dksX1_way_0 2 rfl rfl)
theorem dX1_way_3 : decode cX1_way 3 = .ok (.iload_n 3, 1) := dk_29 (dk_at dksX1_way_0 3 rfl rfl)
theorem dX1_way_4 : decode cX1_way 4 = .ok (.iload 4, 2) := dk_21 4 (dk_at dksX1_way_0 4 rfl rfl)
theorem dX1_way_6 : decode cX1_way 6 = .ok (.invokevirtual 321, 3) := dk_182 1 65 (dk_at dksX1_way_0 6 rfl rfl)
theorem dX1_way_9 : decode cX1_way 9 = .ok (.ifCond .ne 5, 3) := dk_154 0 5 (dk_at dksX1_way_0 9 rfl rfl)
theorem dX1_way_12 : decode cX1_way 12 = .ok (.iconst (-1), 1) := dk_2 (dk_at dksX1_way_0 12 rfl rfl)
theorem dX1_way_13 : decode cX1_way 13 = .ok (.ireturn, 1) := dk_172 (dk_at dksX1_way_0 13 rfl rfl)
theorem dX1_way_14 : decode cX1_way 14 = .ok (.aload_n 0, 1) := dk_42 (dk_at dksX1_way_0 14 rfl rfl)
theorem dX1_way_15 : decode cX1_way 15 = .ok (.iload_n 1, 1) := dk_27 (dk_at dksX1_way_0 15 rfl rfl)
theorem dX1_way_16 : decode cX1_way 16 = .ok (.iload_n 2, 1) := dk_28 (dk_at dksX1_way_0 16 rfl rfl)
theorem dX1_way_17 : decode cX1_way 17 = .ok (.iload_n 3, 1) := dk_29 (dk_at dksX1_way_0 17 rfl rfl)
theorem dX1_way_18 : decode cX1_way 18 = .ok (.iload 4, 2) := dk_21 4 (dk_at dksX1_way_0 18 rfl rfl)
theorem dX1_way_20 : decode cX1_way 20 = .ok (.invokevirtual 324, 3) := dk_182 1 68 (dk_at dksX1_way_0 20 rfl rfl)
theorem dX1_way_23 : decode cX1_way 23 = .ok (.aload_n 0, 1) := dk_42 (dk_at dksX1_way_0 23 rfl rfl)
theorem dX1_way_24 : decode cX1_way 24 = .ok (.getfield 318, 3) := dk_180 1 62 (dk_at dksX1_way_1 0 rfl rfl)
theorem dX1_way_27 : decode cX1_way 27 = .ok (.iconst (-1), 1) := dk_2 (dk_at dksX1_way_1 3 rfl rfl)
theorem dX1_way_28 : decode cX1_way 28 = .ok (.if_icmp .ne 8, 3) := dk_160 0 8 (dk_at dksX1_way_1 4 rfl rfl)
theorem dX1_way_31 : decode cX1_way 31 = .ok (.bipush (-2), 2) := dk_16 254 (dk_at dksX1_way_1 7 rfl rfl)
theorem dX1_way_33 : decode cX1_way 33 = .ok (.goto 7, 3) := dk_167 0 7 (dk_at dksX1_way_1 9 rfl rfl)
theorem dX1_way_36 : decode cX1_way 36 = .ok (.aload_n 0, 1) := dk_42 (dk_at dksX1_way_1 12 rfl rfl)
theorem dX1_way_37 : decode cX1_way 37 = .ok (.getfield 318, 3) := dk_180 1 62 (dk_at dksX1_way_1 13 rfl rfl)
theorem dX1_way_40 : decode cX1_way 40 = .ok (.ireturn, 1) := dk_172 (dk_at dksX1_way_1 16 rfl rfl)
def dkwX1_step_2 : List UInt8 := [16, 254, 172]
abbrev dktX1_step_2 : List UInt8 := dkwX1_step_2 ++ []
def dkwX1_step_1 : List UInt8 := [21, 4, 182, 1, 68, 21, 5, 42, 180, 1, 62, 162, 0, 13, 42, 180, 0, 116, 21, 5, 46, 167, 0, 5]
abbrev dktX1_step_1 : List UInt8 := dkwX1_step_1 ++ dktX1_step_2
def dkwX1_step_0 : List UInt8 := [42, 27, 28, 29, 21, 4, 182, 1, 65, 153, 0, 8, 21, 5, 156, 0, 5, 2, 172, 42, 27, 28, 29]
abbrev dktX1_step_0 : List UInt8 := dkwX1_step_0 ++ dktX1_step_1
theorem dksX1_step_0 : cX1_step.data.toList.drop 0 = dktX1_step_0 := by decide +kernel
theorem dksX1_step_1 : cX1_step.data.toList.drop 23 = dktX1_step_1 := dk_seg dksX1_step_0 23 rfl rfl
theorem dksX1_step_2 : cX1_step.data.toList.drop 47 = dktX1_step_2 := dk_seg dksX1_step_1 24 rfl rfl
theorem dX1_step_0 : decode cX1_step 0 = .ok (.aload_n 0, 1) := dk_42 (dk_at dksX1_step_0 0 rfl rfl)
theorem dX1_step_1 : decode cX1_step 1 = .ok (.iload_n 1, 1) := dk_27 (dk_at dksX1_step_0 1 rfl rfl)
theorem dX1_step_2 : decode cX1_step 2 = .ok (.iload_n 2, 1) := dk_28 (dk_at dksX1_step_0 2 rfl rfl)
theorem dX1_step_3 : decode cX1_step 3 = .ok (.iload_n 3, 1) := dk_29 (dk_at dksX1_step_0 3 rfl rfl)
theorem dX1_step_4 : decode cX1_step 4 = .ok (.iload 4, 2) := dk_21 4 (dk_at dksX1_step_0 4 rfl rfl)
theorem dX1_step_6 : decode cX1_step 6 = .ok (.invokevirtual 321, 3) := dk_182 1 65 (dk_at dksX1_step_0 6 rfl rfl)
theorem dX1_step_9 : decode cX1_step 9 = .ok (.ifCond .eq 8, 3) := dk_153 0 8 (dk_at dksX1_step_0 9 rfl rfl)
theorem dX1_step_12 : decode cX1_step 12 = .ok (.iload 5, 2) := dk_21 5 (dk_at dksX1_step_0 12 rfl rfl)
theorem dX1_step_14 : decode cX1_step 14 = .ok (.ifCond .ge 5, 3) := dk_156 0 5 (dk_at dksX1_step_0 14 rfl rfl)
theorem dX1_step_17 : decode cX1_step 17 = .ok (.iconst (-1), 1) := dk_2 (dk_at dksX1_step_0 17 rfl rfl)
theorem dX1_step_18 : decode cX1_step 18 = .ok (.ireturn, 1) := dk_172 (dk_at dksX1_step_0 18 rfl rfl)
theorem dX1_step_19 : decode cX1_step 19 = .ok (.aload_n 0, 1) := dk_42 (dk_at dksX1_step_0 19 rfl rfl)
theorem dX1_step_20 : decode cX1_step 20 = .ok (.iload_n 1, 1) := dk_27 (dk_at dksX1_step_0 20 rfl rfl)
theorem dX1_step_21 : decode cX1_step 21 = .ok (.iload_n 2, 1) := dk_28 (dk_at dksX1_step_0 21 rfl rfl)
theorem dX1_step_22 : decode cX1_step 22 = .ok (.iload_n 3, 1) := dk_29 (dk_at dksX1_step_0 22 rfl rfl)
theorem dX1_step_23 : decode cX1_step 23 = .ok (.iload 4, 2) := dk_21 4 (dk_at dksX1_step_1 0 rfl rfl)
theorem dX1_step_25 : decode cX1_step 25 = .ok (.invokevirtual 324, 3) := dk_182 1 68 (dk_at dksX1_step_1 2 rfl rfl)
theorem dX1_step_28 : decode cX1_step 28 = .ok (.iload 5, 2) := dk_21 5 (dk_at dksX1_step_1 5 rfl rfl)
theorem dX1_step_30 : decode cX1_step 30 = .ok (.aload_n 0, 1) := dk_42 (dk_at dksX1_step_1 7 rfl rfl)
theorem dX1_step_31 : decode cX1_step 31 = .ok (.getfield 318, 3) := dk_180 1 62 (dk_at dksX1_step_1 8 rfl rfl)
theorem dX1_step_34 : decode cX1_step 34 = .ok (.if_icmp .ge 13, 3) := dk_162 0 13 (dk_at dksX1_step_1 11 rfl rfl)
theorem dX1_step_37 : decode cX1_step 37 = .ok (.aload_n 0, 1) := dk_42 (dk_at dksX1_step_1 14 rfl rfl)
theorem dX1_step_38 : decode cX1_step 38 = .ok (.getfield 116, 3) := dk_180 0 116 (dk_at dksX1_step_1 15 rfl rfl)
theorem dX1_step_41 : decode cX1_step 41 = .ok (.iload 5, 2) := dk_21 5 (dk_at dksX1_step_1 18 rfl rfl)
theorem dX1_step_43 : decode cX1_step 43 = .ok (.iaload, 1) := dk_46 (dk_at dksX1_step_1 20 rfl rfl)
theorem dX1_step_44 : decode cX1_step 44 = .ok (.goto 5, 3) := dk_167 0 5 (dk_at dksX1_step_1 21 rfl rfl)
theorem dX1_step_47 : decode cX1_step 47 = .ok (.bipush (-2), 2) := dk_16 254 (dk_at dksX1_step_2 0 rfl rfl)
theorem dX1_step_49 : decode cX1_step 49 = .ok (.ireturn, 1) := dk_172 (dk_at dksX1_step_2 2 rfl rfl)
def dkwX1_isTrap_5 : List UInt8 := [180, 0, 214, 21, 5, 46, 21, 4, 122, 4, 126, 154, 0, 5, 4, 172, 132, 5, 1, 167, 255, 205, 3, 172]
abbrev dktX1_isTrap_5 : List UInt8 := dkwX1_isTrap_5 ++ []
def dkwX1_isTrap_4 : List UInt8 := [21, 5, 28, 159, 0, 36, 42, 180, 0, 95, 21, 5, 28, 182, 1, 75, 153, 0, 23, 42, 180, 0, 95]
abbrev dktX1_isTrap_4 : List UInt8 := dkwX1_isTrap_4 ++ dktX1_isTrap_5
def dkwX1_isTrap_3 : List UInt8 := [29, 182, 0, 199, 192, 0, 229, 182, 1, 72, 54, 4, 3, 54, 5, 21, 5, 42, 182, 0, 188, 162, 0, 48]
abbrev dktX1_isTrap_3 : List UInt8 := dkwX1_isTrap_3 ++ dktX1_isTrap_4
def dkwX1_isTrap_2 : List UInt8 := [180, 0, 13, 180, 0, 29, 29, 182, 0, 199, 192, 0, 229, 180, 0, 231, 50, 42, 180, 0, 13, 180, 0, 29]
abbrev dktX1_isTrap_2 : List UInt8 := dkwX1_isTrap_2 ++ dktX1_isTrap_3
def dkwX1_isTrap_1 : List UInt8 := [182, 1, 1, 42, 180, 0, 99, 27, 28, 29, 3, 182, 1, 8, 154, 0, 5, 3, 172, 42, 180, 0, 88, 42]
abbrev dktX1_isTrap_1 : List UInt8 := dkwX1_isTrap_1 ++ dktX1_isTrap_2
def dkwX1_isTrap_0 : List UInt8 := [42, 180, 0, 95, 27, 28, 29, 4, 182, 0, 245, 154, 0, 5, 3, 172, 42, 180, 0, 99, 42, 180, 0, 95]
abbrev dktX1_isTrap_0 : List UInt8 := dkwX1_isTrap_0 ++ dktX1_isTrap_1
theorem dksX1_isTrap_0 : cX1_isTrap.data.toList.drop 0 = dktX1_isTrap_0 := by decide +kernel
theorem dksX1_isTrap_1 : cX1_isTrap.data.toList.drop 24 = dktX1_isTrap_1 := dk_seg dksX1_isTrap_0 24 rfl rfl
theorem dksX1_isTrap_2 : cX1_isTrap.data.toList.drop 48 = dktX1_isTrap_2 := dk_seg dksX1_isTrap_1 24 rfl rfl
theorem dksX1_isTrap_3 : cX1_isTrap.data.toList.drop 72 = dktX1_isTrap_3 := dk_seg dksX1_isTrap_2 24 rfl rfl
theorem dksX1_isTrap_4 : cX1_isTrap.data.toList.drop 96 = dktX1_isTrap_4 := dk_seg dksX1_isTrap_3 24 rfl rfl
theorem dksX1_isTrap_5 : cX1_isTrap.data.toList.drop 119 = dktX1_isTrap_5 := dk_seg dksX1_isTrap_4 23 rfl rfl
theorem dX1_isTrap_0 : decode cX1_isTrap 0 = .ok (.aload_n 0, 1) := dk_42 (dk_at dksX1_isTrap_0 0 rfl rfl)
theorem dX1_isTrap_1 : decode cX1_isTrap 1 = .ok (.getfield 95, 3) := dk_180 0 95 (dk_at dksX1_isTrap_0 1 rfl rfl)
theorem dX1_isTrap_4 : decode cX1_isTrap 4 = .ok (.iload_n 1, 1) := dk_27 (dk_at dksX1_isTrap_0 4 rfl rfl)
theorem dX1_isTrap_5 : decode cX1_isTrap 5 = .ok (.iload_n 2, 1) := dk_28 (dk_at dksX1_isTrap_0 5 rfl rfl)
theorem dX1_isTrap_6 : decode cX1_isTrap 6 = .ok (.iload_n 3, 1) := dk_29 (dk_at dksX1_isTrap_0 6 rfl rfl)
theorem dX1_isTrap_7 : decode cX1_isTrap 7 = .ok (.iconst 1, 1) := dk_4 (dk_at dksX1_isTrap_0 7 rfl rfl)
theorem dX1_isTrap_8 : decode cX1_isTrap 8 = .ok (.invokevirtual 245, 3) := dk_182 0 245 (dk_at dksX1_isTrap_0 8 rfl rfl)
theorem dX1_isTrap_11 : decode cX1_isTrap 11 = .ok (.ifCond .ne 5, 3) := dk_154 0 5 (dk_at dksX1_isTrap_0 11 rfl rfl)
theorem dX1_isTrap_14 : decode cX1_isTrap 14 = .ok (.iconst 0, 1) := dk_3 (dk_at dksX1_isTrap_0 14 rfl rfl)
theorem dX1_isTrap_15 : decode cX1_isTrap 15 = .ok (.ireturn, 1) := dk_172 (dk_at dksX1_isTrap_0 15 rfl rfl)
theorem dX1_isTrap_16 : decode cX1_isTrap 16 = .ok (.aload_n 0, 1) := dk_42 (dk_at dksX1_isTrap_0 16 rfl rfl)
theorem dX1_isTrap_17 : decode cX1_isTrap 17 = .ok (.getfield 99, 3) := dk_180 0 99 (dk_at dksX1_isTrap_0 17 rfl rfl)
theorem dX1_isTrap_20 : decode cX1_isTrap 20 = .ok (.aload_n 0, 1) := dk_42 (dk_at dksX1_isTrap_0 20 rfl rfl)
theorem dX1_isTrap_21 : decode cX1_isTrap 21 = .ok (.getfield 95, 3) := dk_180 0 95 (dk_at dksX1_isTrap_0 21 rfl rfl)
theorem dX1_isTrap_24 : decode cX1_isTrap 24 = .ok (.invokevirtual 257, 3) := dk_182 1 1 (dk_at dksX1_isTrap_1 0 rfl rfl)
theorem dX1_isTrap_27 : decode cX1_isTrap 27 = .ok (.aload_n 0, 1) := dk_42 (dk_at dksX1_isTrap_1 3 rfl rfl)
theorem dX1_isTrap_28 : decode cX1_isTrap 28 = .ok (.getfield 99, 3) := dk_180 0 99 (dk_at dksX1_isTrap_1 4 rfl rfl)
theorem dX1_isTrap_31 : decode cX1_isTrap 31 = .ok (.iload_n 1, 1) := dk_27 (dk_at dksX1_isTrap_1 7 rfl rfl)
theorem dX1_isTrap_32 : decode cX1_isTrap 32 = .ok (.iload_n 2, 1) := dk_28 (dk_at dksX1_isTrap_1 8 rfl rfl)
theorem dX1_isTrap_33 : decode cX1_isTrap 33 = .ok (.iload_n 3, 1) := dk_29 (dk_at dksX1_isTrap_1 9 rfl rfl)
theorem dX1_isTrap_34 : decode cX1_isTrap 34 = .ok (.iconst 0, 1) := dk_3 (dk_at dksX1_isTrap_1 10 rfl rfl)
theorem dX1_isTrap_35 : decode cX1_isTrap 35 = .ok (.invokevirtual 264, 3) := dk_182 1 8 (dk_at dksX1_isTrap_1 11 rfl rfl)
theorem dX1_isTrap_38 : decode cX1_isTrap 38 = .ok (.ifCond .ne 5, 3) := dk_154 0 5 (dk_at dksX1_isTrap_1 14 rfl rfl)
theorem dX1_isTrap_41 : decode cX1_isTrap 41 = .ok (.iconst 0, 1) := dk_3 (dk_at dksX1_isTrap_1 17 rfl rfl)
theorem dX1_isTrap_42 : decode cX1_isTrap 42 = .ok (.ireturn, 1) := dk_172 (dk_at dksX1_isTrap_1 18 rfl rfl)
theorem dX1_isTrap_43 : decode cX1_isTrap 43 = .ok (.aload_n 0, 1) := dk_42 (dk_at dksX1_isTrap_1 19 rfl rfl)
theorem dX1_isTrap_44 : decode cX1_isTrap 44 = .ok (.getfield 88, 3) := dk_180 0 88 (dk_at dksX1_isTrap_1 20 rfl rfl)
theorem dX1_isTrap_47 : decode cX1_isTrap 47 = .ok (.aload_n 0, 1) := dk_42 (dk_at dksX1_isTrap_1 23 rfl rfl)
theorem dX1_isTrap_48 : decode cX1_isTrap 48 = .ok (.getfield 13, 3) := dk_180 0 13 (dk_at dksX1_isTrap_2 0 rfl rfl)
theorem dX1_isTrap_51 : decode cX1_isTrap 51 = .ok (.getfield 29, 3) := dk_180 0 29 (dk_at dksX1_isTrap_2 3 rfl rfl)
theorem dX1_isTrap_54 : decode cX1_isTrap 54 = .ok (.iload_n 3, 1) := dk_29 (dk_at dksX1_isTrap_2 6 rfl rfl)
theorem dX1_isTrap_55 : decode cX1_isTrap 55 = .ok (.invokevirtual 199, 3) := dk_182 0 199 (dk_at dksX1_isTrap_2 7 rfl rfl)
theorem dX1_isTrap_58 : decode cX1_isTrap 58 = .ok (.checkcast 229, 3) := dk_192 0 229 (dk_at dksX1_isTrap_2 10 rfl rfl)
theorem dX1_isTrap_61 : decode cX1_isTrap 61 = .ok (.getfield 231, 3) := dk_180 0 231 (dk_at dksX1_isTrap_2 13 rfl rfl)
theorem dX1_isTrap_64 : decode cX1_isTrap 64 = .ok (.aaload, 1) := dk_50 (dk_at dksX1_isTrap_2 16 rfl rfl)
theorem dX1_isTrap_65 : decode cX1_isTrap 65 = .ok (.aload_n 0, 1) := dk_42 (dk_at dksX1_isTrap_2 17 rfl rfl)
theorem dX1_isTrap_66 : decode cX1_isTrap 66 = .ok (.getfield 13, 3) := dk_180 0 13 (dk_at dksX1_isTrap_2 18 rfl rfl)
theorem dX1_isTrap_69 : decode cX1_isTrap 69 = .ok (.getfield 29, 3) := dk_180 0 29 (dk_at dksX1_isTrap_2 21 rfl rfl)
theorem dX1_isTrap_72 : decode cX1_isTrap 72 = .ok (.iload_n 3, 1) := dk_29 (dk_at dksX1_isTrap_3 0 rfl rfl)
theorem dX1_isTrap_73 : decode cX1_isTrap 73 = .ok (.invokevirtual 199, 3) := dk_182 0 199 (dk_at dksX1_isTrap_3 1 rfl rfl)
theorem dX1_isTrap_76 : decode cX1_isTrap 76 = .ok (.checkcast 229, 3) := dk_192 0 229 (dk_at dksX1_isTrap_3 4 rfl rfl)
theorem dX1_isTrap_79 : decode cX1_isTrap 79 = .ok (.invokevirtual 328, 3) := dk_182 1 72 (dk_at dksX1_isTrap_3 7 rfl rfl)
theorem dX1_isTrap_82 : decode cX1_isTrap 82 = .ok (.istore 4, 2) := dk_54 4 (dk_at dksX1_isTrap_3 10 rfl rfl)
theorem dX1_isTrap_84 : decode cX1_isTrap 84 = .ok (.iconst 0, 1) := dk_3 (dk_at dksX1_isTrap_3 12 rfl rfl)
theorem dX1_isTrap_85 : decode cX1_isTrap 85 = .ok (.istore 5, 2) := dk_54 5 (dk_at dksX1_isTrap_3 13 rfl rfl)
theorem dX1_isTrap_87 : decode cX1_isTrap 87 = .ok (.iload 5, 2) := dk_21 5 (dk_at dksX1_isTrap_3 15 rfl rfl)
theorem dX1_isTrap_89 : decode cX1_isTrap 89 = .ok (.aload_n 0, 1) := dk_42 (dk_at dksX1_isTrap_3 17 rfl rfl)
theorem dX1_isTrap_90 : decode cX1_isTrap 90 = .ok (.invokevirtual 188, 3) := dk_182 0 188 (dk_at dksX1_isTrap_3 18 rfl rfl)
theorem dX1_isTrap_93 : decode cX1_isTrap 93 = .ok (.if_icmp .ge 48, 3) := dk_162 0 48 (dk_at dksX1_isTrap_3 21 rfl rfl)
theorem dX1_isTrap_96 : decode cX1_isTrap 96 = .ok (.iload 5, 2) := dk_21 5 (dk_at dksX1_isTrap_4 0 rfl rfl)
theorem dX1_isTrap_98 : decode cX1_isTrap 98 = .ok (.iload_n 2, 1) := dk_28 (dk_at dksX1_isTrap_4 2 rfl rfl)
theorem dX1_isTrap_99 : decode cX1_isTrap 99 = .ok (.if_icmp .eq 36, 3) := dk_159 0 36 (dk_at dksX1_isTrap_4 3 rfl rfl)
theorem dX1_isTrap_102 : decode cX1_isTrap 102 = .ok (.aload_n 0, 1) := dk_42 (dk_at dksX1_isTrap_4 6 rfl rfl)
theorem dX1_isTrap_103 : decode cX1_isTrap 103 = .ok (.getfield 95, 3) := dk_180 0 95 (dk_at dksX1_isTrap_4 7 rfl rfl)
theorem dX1_isTrap_106 : decode cX1_isTrap 106 = .ok (.iload 5, 2) := dk_21 5 (dk_at dksX1_isTrap_4 10 rfl rfl)
theorem dX1_isTrap_108 : decode cX1_isTrap 108 = .ok (.iload_n 2, 1) := dk_28 (dk_at dksX1_isTrap_4 12 rfl rfl)
theorem dX1_isTrap_109 : decode cX1_isTrap 109 = .ok (.invokevirtual 331, 3) := dk_182 1 75 (dk_at dksX1_isTrap_4 13 rfl rfl)
theorem dX1_isTrap_112 : decode cX1_isTrap 112 = .ok (.ifCond .eq 23, 3) := dk_153 0 23 (dk_at dksX1_isTrap_4 16 rfl rfl)
theorem dX1_isTrap_115 : decode cX1_isTrap 115 = .ok (.aload_n 0, 1) := dk_42 (dk_at dksX1_isTrap_4 19 rfl rfl)
theorem dX1_isTrap_116 : decode cX1_isTrap 116 = .ok (.getfield 95, 3) := dk_180 0 95 (dk_at dksX1_isTrap_4 20 rfl rfl)
theorem dX1_isTrap_119 : decode cX1_isTrap 119 = .ok (.getfield 214, 3) := dk_180 0 214 (dk_at dksX1_isTrap_5 0 rfl rfl)
theorem dX1_isTrap_122 : decode cX1_isTrap 122 = .ok (.iload 5, 2) := dk_21 5 (dk_at dksX1_isTrap_5 3 rfl rfl)
theorem dX1_isTrap_124 : decode cX1_isTrap 124 = .ok (.iaload, 1) := dk_46 (dk_at dksX1_isTrap_5 5 rfl rfl)
theorem dX1_isTrap_125 : decode cX1_isTrap 125 = .ok (.iload 4, 2) := dk_21 4 (dk_at dksX1_isTrap_5 6 rfl rfl)
theorem dX1_isTrap_127 : decode cX1_isTrap 127 = .ok (.ishr, 1) := dk_122 (dk_at dksX1_isTrap_5 8 rfl rfl)
theorem dX1_isTrap_128 : decode cX1_isTrap 128 = .ok (.iconst 1, 1) := dk_4 (dk_at dksX1_isTrap_5 9 rfl rfl)
theorem dX1_isTrap_129 : decode cX1_isTrap 129 = .ok (.iand, 1) := dk_126 (dk_at dksX1_isTrap_5 10 rfl rfl)
theorem dX1_isTrap_130 : decode cX1_isTrap 130 = .ok (.ifCond .ne 5, 3) := dk_154 0 5 (dk_at dksX1_isTrap_5 11 rfl rfl)
theorem dX1_isTrap_133 : decode cX1_isTrap 133 = .ok (.iconst 1, 1) := dk_4 (dk_at dksX1_isTrap_5 14 rfl rfl)
theorem dX1_isTrap_134 : decode cX1_isTrap 134 = .ok (.ireturn, 1) := dk_172 (dk_at dksX1_isTrap_5 15 rfl rfl)
theorem dX1_isTrap_135 : decode cX1_isTrap 135 = .ok (.iinc 5 1, 3) := dk_132 5 1 (dk_at dksX1_isTrap_5 16 rfl rfl)
theorem dX1_isTrap_138 : decode cX1_isTrap 138 = .ok (.goto (-51), 3) := dk_167 255 205 (dk_at dksX1_isTrap_5 19 rfl rfl)
theorem dX1_isTrap_141 : decode cX1_isTrap 141 = .ok (.iconst 0, 1) := dk_3 (dk_at dksX1_isTrap_5 22 rfl rfl)
theorem dX1_isTrap_142 : decode cX1_isTrap 142 = .ok (.ireturn, 1) := dk_172 (dk_at dksX1_isTrap_5 23 rfl rfl)
def dkwX1_care_2 : List UInt8 := [29, 120, 167, 0, 4, 3, 128, 61, 132, 4, 1, 167, 255, 223, 132, 3, 1, 167, 255, 206, 28, 172]
abbrev dktX1_care_2 : List UInt8 := dkwX1_care_2 ++ []
def dkwX1_care_1 : List UInt8 := [54, 4, 21, 4, 42, 182, 0, 188, 162, 0, 30, 28, 42, 21, 4, 27, 29, 182, 1, 78, 153, 0, 9, 4]
abbrev dktX1_care_1 : List UInt8 := dkwX1_care_1 ++ dktX1_care_2
def dkwX1_care_0 : List UInt8 := [42, 27, 182, 0, 192, 154, 0, 5, 2, 172, 3, 61, 3, 62, 29, 42, 182, 0, 190, 162, 0, 48, 3]
abbrev dktX1_care_0 : List UInt8 := dkwX1_care_0 ++ dktX1_care_1
theorem dksX1_care_0 : cX1_care.data.toList.drop 0 = dktX1_care_0 := by decide +kernel
theorem dksX1_care_1 : cX1_care.data.toList.drop 23 = dktX1_care_1 := dk_seg dksX1_care_0 23 rfl rfl
theorem dksX1_care_2 : cX1_care.data.toList.drop 47 = dktX1_care_2 := dk_seg dksX1_care_1 24 rfl rfl
theorem dX1_care_0 : decode cX1_care 0 = .ok (.aload_n 0, 1) := dk_42 (dk_at dksX1_care_0 0 rfl rfl)
theorem dX1_care_1 : decode cX1_care 1 = .ok (.iload_n 1, 1) := dk_27 (dk_at dksX1_care_0 1 rfl rfl)
theorem dX1_care_2 : decode cX1_care 2 = .ok (.invokevirtual 192, 3) := dk_182 0 192 (dk_at dksX1_care_0 2 rfl rfl)
theorem dX1_care_5 : decode cX1_care 5 = .ok (.ifCond .ne 5, 3) := dk_154 0 5 (dk_at dksX1_care_0 5 rfl rfl)
theorem dX1_care_8 : decode cX1_care 8 = .ok (.iconst (-1), 1) := dk_2 (dk_at dksX1_care_0 8 rfl rfl)
theorem dX1_care_9 : decode cX1_care 9 = .ok (.ireturn, 1) := dk_172 (dk_at dksX1_care_0 9 rfl rfl)
theorem dX1_care_10 : decode cX1_care 10 = .ok (.iconst 0, 1) := dk_3 (dk_at dksX1_care_0 10 rfl rfl)
theorem dX1_care_11 : decode cX1_care 11 = .ok (.istore_n 2, 1) := dk_61 (dk_at dksX1_care_0 11 rfl rfl)
theorem dX1_care_12 : decode cX1_care 12 = .ok (.iconst 0, 1) := dk_3 (dk_at dksX1_care_0 12 rfl rfl)
theorem dX1_care_13 : decode cX1_care 13 = .ok (.istore_n 3, 1) := dk_62 (dk_at dksX1_care_0 13 rfl rfl)
theorem dX1_care_14 : decode cX1_care 14 = .ok (.iload_n 3, 1) := dk_29 (dk_at dksX1_care_0 14 rfl rfl)
theorem dX1_care_15 : decode cX1_care 15 = .ok (.aload_n 0, 1) := dk_42 (dk_at dksX1_care_0 15 rfl rfl)
theorem dX1_care_16 : decode cX1_care 16 = .ok (.invokevirtual 190, 3) := dk_182 0 190 (dk_at dksX1_care_0 16 rfl rfl)
theorem dX1_care_19 : decode cX1_care 19 = .ok (.if_icmp .ge 48, 3) := dk_162 0 48 (dk_at dksX1_care_0 19 rfl rfl)
theorem dX1_care_22 : decode cX1_care 22 = .ok (.iconst 0, 1) := dk_3 (dk_at dksX1_care_0 22 rfl rfl)
theorem dX1_care_23 : decode cX1_care 23 = .ok (.istore 4, 2) := dk_54 4 (dk_at dksX1_care_1 0 rfl rfl)
theorem dX1_care_25 : decode cX1_care 25 = .ok (.iload 4, 2) := dk_21 4 (dk_at dksX1_care_1 2 rfl rfl)
theorem dX1_care_27 : decode cX1_care 27 = .ok (.aload_n 0, 1) := dk_42 (dk_at dksX1_care_1 4 rfl rfl)
theorem dX1_care_28 : decode cX1_care 28 = .ok (.invokevirtual 188, 3) := dk_182 0 188 (dk_at dksX1_care_1 5 rfl rfl)
theorem dX1_care_31 : decode cX1_care 31 = .ok (.if_icmp .ge 30, 3) := dk_162 0 30 (dk_at dksX1_care_1 8 rfl rfl)
theorem dX1_care_34 : decode cX1_care 34 = .ok (.iload_n 2, 1) := dk_28 (dk_at dksX1_care_1 11 rfl rfl)
theorem dX1_care_35 : decode cX1_care 35 = .ok (.aload_n 0, 1) := dk_42 (dk_at dksX1_care_1 12 rfl rfl)
theorem dX1_care_36 : decode cX1_care 36 = .ok (.iload 4, 2) := dk_21 4 (dk_at dksX1_care_1 13 rfl rfl)
theorem dX1_care_38 : decode cX1_care 38 = .ok (.iload_n 1, 1) := dk_27 (dk_at dksX1_care_1 15 rfl rfl)
theorem dX1_care_39 : decode cX1_care 39 = .ok (.iload_n 3, 1) := dk_29 (dk_at dksX1_care_1 16 rfl rfl)
theorem dX1_care_40 : decode cX1_care 40 = .ok (.invokevirtual 334, 3) := dk_182 1 78 (dk_at dksX1_care_1 17 rfl rfl)
theorem dX1_care_43 : decode cX1_care 43 = .ok (.ifCond .eq 9, 3) := dk_153 0 9 (dk_at dksX1_care_1 20 rfl rfl)
theorem dX1_care_46 : decode cX1_care 46 = .ok (.iconst 1, 1) := dk_4 (dk_at dksX1_care_1 23 rfl rfl)
theorem dX1_care_47 : decode cX1_care 47 = .ok (.iload_n 3, 1) := dk_29 (dk_at dksX1_care_2 0 rfl rfl)
theorem dX1_care_48 : decode cX1_care 48 = .ok (.ishl, 1) := dk_120 (dk_at dksX1_care_2 1 rfl rfl)
theorem dX1_care_49 : decode cX1_care 49 = .ok (.goto 4, 3) := dk_167 0 4 (dk_at dksX1_care_2 2 rfl rfl)
theorem dX1_care_52 : decode cX1_care 52 = .ok (.iconst 0, 1) := dk_3 (dk_at dksX1_care_2 5 rfl rfl)
theorem dX1_care_53 : decode cX1_care 53 = .ok (.ior, 1) := dk_128 (dk_at dksX1_care_2 6 rfl rfl)
theorem dX1_care_54 : decode cX1_care 54 = .ok (.istore_n 2, 1) := dk_61 (dk_at dksX1_care_2 7 rfl rfl)
theorem dX1_care_55 : decode cX1_care 55 = .ok (.iinc 4 1, 3) := dk_132 4 1 (dk_at dksX1_care_2 8 rfl rfl)
theorem dX1_care_58 : decode cX1_care 58 = .ok (.goto (-33), 3) := dk_167 255 223 (dk_at dksX1_care_2 11 rfl rfl)
theorem dX1_care_61 : decode cX1_care 61 = .ok (.iinc 3 1, 3) := dk_132 3 1 (dk_at dksX1_care_2 14 rfl rfl)
theorem dX1_care_64 : decode cX1_care 64 = .ok (.goto (-50), 3) := dk_167 255 206 (dk_at dksX1_care_2 17 rfl rfl)
theorem dX1_care_67 : decode cX1_care 67 = .ok (.iload_n 2, 1) := dk_28 (dk_at dksX1_care_2 20 rfl rfl)
theorem dX1_care_68 : decode cX1_care 68 = .ok (.ireturn, 1) := dk_172 (dk_at dksX1_care_2 21 rfl rfl)
def dkwX1_asks_6 : List UInt8 := [28, 4, 96, 29, 21, 4, 182, 1, 84, 132, 7, 1, 167, 255, 182, 132, 6, 1, 167, 255, 164, 177]
abbrev dktX1_asks_6 : List UInt8 := dkwX1_asks_6 ++ []
def dkwX1_asks_5 : List UInt8 := [21, 7, 3, 182, 1, 8, 87, 42, 180, 0, 112, 28, 16, 10, 21, 6, 104, 21, 7, 96, 79, 42, 25, 5]
abbrev dktX1_asks_5 : List UInt8 := dkwX1_asks_5 ++ dktX1_asks_6
def dkwX1_asks_4 : List UInt8 := [21, 7, 4, 182, 0, 245, 154, 0, 6, 167, 0, 48, 25, 5, 43, 182, 1, 1, 25, 5, 21, 4, 21, 6]
abbrev dktX1_asks_4 : List UInt8 := dkwX1_asks_4 ++ dktX1_asks_5
def dkwX1_asks_3 : List UInt8 := [182, 0, 188, 162, 0, 89, 3, 54, 7, 21, 7, 42, 182, 0, 190, 162, 0, 71, 43, 21, 4, 21, 6]
abbrev dktX1_asks_3 : List UInt8 := dkwX1_asks_3 ++ dktX1_asks_4
def dkwX1_asks_2 : List UInt8 := [46, 79, 132, 5, 1, 167, 255, 233, 177, 42, 180, 0, 109, 28, 50, 58, 5, 3, 54, 6, 21, 6, 42]
abbrev dktX1_asks_2 : List UInt8 := dkwX1_asks_2 ++ dktX1_asks_3
def dkwX1_asks_1 : List UInt8 := [181, 1, 81, 3, 54, 5, 21, 5, 29, 162, 0, 23, 42, 180, 0, 116, 21, 5, 42, 180, 0, 112, 21, 5]
abbrev dktX1_asks_1 : List UInt8 := dkwX1_asks_1 ++ dktX1_asks_2
def dkwX1_asks_0 : List UInt8 := [28, 29, 160, 0, 53, 43, 182, 1, 45, 42, 180, 1, 81, 163, 0, 4, 177, 42, 43, 182, 1, 45]
abbrev dktX1_asks_0 : List UInt8 := dkwX1_asks_0 ++ dktX1_asks_1
theorem dksX1_asks_0 : cX1_asks.data.toList.drop 0 = dktX1_asks_0 := by decide +kernel
theorem dksX1_asks_1 : cX1_asks.data.toList.drop 22 = dktX1_asks_1 := dk_seg dksX1_asks_0 22 rfl rfl
theorem dksX1_asks_2 : cX1_asks.data.toList.drop 46 = dktX1_asks_2 := dk_seg dksX1_asks_1 24 rfl rfl
theorem dksX1_asks_3 : cX1_asks.data.toList.drop 69 = dktX1_asks_3 := dk_seg dksX1_asks_2 23 rfl rfl
theorem dksX1_asks_4 : cX1_asks.data.toList.drop 92 = dktX1_asks_4 := dk_seg dksX1_asks_3 23 rfl rfl
theorem dksX1_asks_5 : cX1_asks.data.toList.drop 116 = dktX1_asks_5 := dk_seg dksX1_asks_4 24 rfl rfl
theorem dksX1_asks_6 : cX1_asks.data.toList.drop 140 = dktX1_asks_6 := dk_seg dksX1_asks_5 24 rfl rfl
theorem dX1_asks_0 : decode cX1_asks 0 = .ok (.iload_n 2, 1) := dk_28 (dk_at dksX1_asks_0 0 rfl rfl)
theorem dX1_asks_1 : decode cX1_asks 1 = .ok (.iload_n 3, 1) := dk_29 (dk_at dksX1_asks_0 1 rfl rfl)
theorem dX1_asks_2 : decode cX1_asks 2 = .ok (.if_icmp .ne 53, 3) := dk_160 0 53 (dk_at dksX1_asks_0 2 rfl rfl)
theorem dX1_asks_5 : decode cX1_asks 5 = .ok (.aload_n 1, 1) := dk_43 (dk_at dksX1_asks_0 5 rfl rfl)
theorem dX1_asks_6 : decode cX1_asks 6 = .ok (.invokevirtual 301, 3) := dk_182 1 45 (dk_at dksX1_asks_0 6 rfl rfl)
theorem dX1_asks_9 : decode cX1_asks 9 = .ok (.aload_n 0, 1) := dk_42 (dk_at dksX1_asks_0 9 rfl rfl)
theorem dX1_asks_10 : decode cX1_asks 10 = .ok (.getfield 337, 3) := dk_180 1 81 (dk_at dksX1_asks_0 10 rfl rfl)
theorem dX1_asks_13 : decode cX1_asks 13 = .ok (.if_icmp .gt 4, 3) := dk_163 0 4 (dk_at dksX1_asks_0 13 rfl rfl)
theorem dX1_asks_16 : decode cX1_asks 16 = .ok (.return_, 1) := dk_177 (dk_at dksX1_asks_0 16 rfl rfl)
theorem dX1_asks_17 : decode cX1_asks 17 = .ok (.aload_n 0, 1) := dk_42 (dk_at dksX1_asks_0 17 rfl rfl)
theorem dX1_asks_18 : decode cX1_asks 18 = .ok (.aload_n 1, 1) := dk_43 (dk_at dksX1_asks_0 18 rfl rfl)
theorem dX1_asks_19 : decode cX1_asks 19 = .ok (.invokevirtual 301, 3) := dk_182 1 45 (dk_at dksX1_asks_0 19 rfl rfl)
theorem dX1_asks_22 : decode cX1_asks 22 = .ok (.putfield 337, 3) := dk_181 1 81 (dk_at dksX1_asks_1 0 rfl rfl)
theorem dX1_asks_25 : decode cX1_asks 25 = .ok (.iconst 0, 1) := dk_3 (dk_at dksX1_asks_1 3 rfl rfl)
theorem dX1_asks_26 : decode cX1_asks 26 = .ok (.istore 5, 2) := dk_54 5 (dk_at dksX1_asks_1 4 rfl rfl)
theorem dX1_asks_28 : decode cX1_asks 28 = .ok (.iload 5, 2) := dk_21 5 (dk_at dksX1_asks_1 6 rfl rfl)
theorem dX1_asks_30 : decode cX1_asks 30 = .ok (.iload_n 3, 1) := dk_29 (dk_at dksX1_asks_1 8 rfl rfl)
theorem dX1_asks_31 : decode cX1_asks 31 = .ok (.if_icmp .ge 23, 3) := dk_162 0 23 (dk_at dksX1_asks_1 9 rfl rfl)
theorem dX1_asks_34 : decode cX1_asks 34 = .ok (.aload_n 0, 1) := dk_42 (dk_at dksX1_asks_1 12 rfl rfl)
theorem dX1_asks_35 : decode cX1_asks 35 = .ok (.getfield 116, 3) := dk_180 0 116 (dk_at dksX1_asks_1 13 rfl rfl)
theorem dX1_asks_38 : decode cX1_asks 38 = .ok (.iload 5, 2) := dk_21 5 (dk_at dksX1_asks_1 16 rfl rfl)
theorem dX1_asks_40 : decode cX1_asks 40 = .ok (.aload_n 0, 1) := dk_42 (dk_at dksX1_asks_1 18 rfl rfl)
theorem dX1_asks_41 : decode cX1_asks 41 = .ok (.getfield 112, 3) := dk_180 0 112 (dk_at dksX1_asks_1 19 rfl rfl)
theorem dX1_asks_44 : decode cX1_asks 44 = .ok (.iload 5, 2) := dk_21 5 (dk_at dksX1_asks_1 22 rfl rfl)
theorem dX1_asks_46 : decode cX1_asks 46 = .ok (.iaload, 1) := dk_46 (dk_at dksX1_asks_2 0 rfl rfl)
theorem dX1_asks_47 : decode cX1_asks 47 = .ok (.iastore, 1) := dk_79 (dk_at dksX1_asks_2 1 rfl rfl)
theorem dX1_asks_48 : decode cX1_asks 48 = .ok (.iinc 5 1, 3) := dk_132 5 1 (dk_at dksX1_asks_2 2 rfl rfl)
theorem dX1_asks_51 : decode cX1_asks 51 = .ok (.goto (-23), 3) := dk_167 255 233 (dk_at dksX1_asks_2 5 rfl rfl)
theorem dX1_asks_54 : decode cX1_asks 54 = .ok (.return_, 1) := dk_177 (dk_at dksX1_asks_2 8 rfl rfl)
theorem dX1_asks_55 : decode cX1_asks 55 = .ok (.aload_n 0, 1) := dk_42 (dk_at dksX1_asks_2 9 rfl rfl)
theorem dX1_asks_56 : decode cX1_asks 56 = .ok (.getfield 109, 3) := dk_180 0 109 (dk_at dksX1_asks_2 10 rfl rfl)
theorem dX1_asks_59 : decode cX1_asks 59 = .ok (.iload_n 2, 1) := dk_28 (dk_at dksX1_asks_2 13 rfl rfl)
theorem dX1_asks_60 : decode cX1_asks 60 = .ok (.aaload, 1) := dk_50 (dk_at dksX1_asks_2 14 rfl rfl)
theorem dX1_asks_61 : decode cX1_asks 61 = .ok (.astore 5, 2) := dk_58 5 (dk_at dksX1_asks_2 15 rfl rfl)
theorem dX1_asks_63 : decode cX1_asks 63 = .ok (.iconst 0, 1) := dk_3 (dk_at dksX1_asks_2 17 rfl rfl)
theorem dX1_asks_64 : decode cX1_asks 64 = .ok (.istore 6, 2) := dk_54 6 (dk_at dksX1_asks_2 18 rfl rfl)
theorem dX1_asks_66 : decode cX1_asks 66 = .ok (.iload 6, 2) := dk_21 6 (dk_at dksX1_asks_2 20 rfl rfl)
theorem dX1_asks_68 : decode cX1_asks 68 = .ok (.aload_n 0, 1) := dk_42 (dk_at dksX1_asks_2 22 rfl rfl)
theorem dX1_asks_69 : decode cX1_asks 69 = .ok (.invokevirtual 188, 3) := dk_182 0 188 (dk_at dksX1_asks_3 0 rfl rfl)
theorem dX1_asks_72 : decode cX1_asks 72 = .ok (.if_icmp .ge 89, 3) := dk_162 0 89 (dk_at dksX1_asks_3 3 rfl rfl)
theorem dX1_asks_75 : decode cX1_asks 75 = .ok (.iconst 0, 1) := dk_3 (dk_at dksX1_asks_3 6 rfl rfl)
theorem dX1_asks_76 : decode cX1_asks 76 = .ok (.istore 7, 2) := dk_54 7 (dk_at dksX1_asks_3 7 rfl rfl)
theorem dX1_asks_78 : decode cX1_asks 78 = .ok (.iload 7, 2) := dk_21 7 (dk_at dksX1_asks_3 9 rfl rfl)
theorem dX1_asks_80 : decode cX1_asks 80 = .ok (.aload_n 0, 1) := dk_42 (dk_at dksX1_asks_3 11 rfl rfl)
theorem dX1_asks_81 : decode cX1_asks 81 = .ok (.invokevirtual 190, 3) := dk_182 0 190 (dk_at dksX1_asks_3 12 rfl rfl)
theorem dX1_asks_84 : decode cX1_asks 84 = .ok (.if_icmp .ge 71, 3) := dk_162 0 71 (dk_at dksX1_asks_3 15 rfl rfl)
theorem dX1_asks_87 : decode cX1_asks 87 = .ok (.aload_n 1, 1) := dk_43 (dk_at dksX1_asks_3 18 rfl rfl)
theorem dX1_asks_88 : decode cX1_asks 88 = .ok (.iload 4, 2) := dk_21 4 (dk_at dksX1_asks_3 19 rfl rfl)
theorem dX1_asks_90 : decode cX1_asks 90 = .ok (.iload 6, 2) := dk_21 6 (dk_at dksX1_asks_3 21 rfl rfl)
theorem dX1_asks_92 : decode cX1_asks 92 = .ok (.iload 7, 2) := dk_21 7 (dk_at dksX1_asks_4 0 rfl rfl)
theorem dX1_asks_94 : decode cX1_asks 94 = .ok (.iconst 1, 1) := dk_4 (dk_at dksX1_asks_4 2 rfl rfl)
theorem dX1_asks_95 : decode cX1_asks 95 = .ok (.invokevirtual 245, 3) := dk_182 0 245 (dk_at dksX1_asks_4 3 rfl rfl)
theorem dX1_asks_98 : decode cX1_asks 98 = .ok (.ifCond .ne 6, 3) := dk_154 0 6 (dk_at dksX1_asks_4 6 rfl rfl)
theorem dX1_asks_101 : decode cX1_asks 101 = .ok (.goto 48, 3) := dk_167 0 48 (dk_at dksX1_asks_4 9 rfl rfl)
theorem dX1_asks_104 : decode cX1_asks 104 = .ok (.aload 5, 2) := dk_25 5 (dk_at dksX1_asks_4 12 rfl rfl)
theorem dX1_asks_106 : decode cX1_asks 106 = .ok (.aload_n 1, 1) := dk_43 (dk_at dksX1_asks_4 14 rfl rfl)
theorem dX1_asks_107 : decode cX1_asks 107 = .ok (.invokevirtual 257, 3) := dk_182 1 1 (dk_at dksX1_asks_4 15 rfl rfl)
theorem dX1_asks_110 : decode cX1_asks 110 = .ok (.aload 5, 2) := dk_25 5 (dk_at dksX1_asks_4 18 rfl rfl)
theorem dX1_asks_112 : decode cX1_asks 112 = .ok (.iload 4, 2) := dk_21 4 (dk_at dksX1_asks_4 20 rfl rfl)
theorem dX1_asks_114 : decode cX1_asks 114 = .ok (.iload 6, 2) := dk_21 6 (dk_at dksX1_asks_4 22 rfl rfl)
theorem dX1_asks_116 : decode cX1_asks 116 = .ok (.iload 7, 2) := dk_21 7 (dk_at dksX1_asks_5 0 rfl rfl)
theorem dX1_asks_118 : decode cX1_asks 118 = .ok (.iconst 0, 1) := dk_3 (dk_at dksX1_asks_5 2 rfl rfl)
theorem dX1_asks_119 : decode cX1_asks 119 = .ok (.invokevirtual 264, 3) := dk_182 1 8 (dk_at dksX1_asks_5 3 rfl rfl)
theorem dX1_asks_122 : decode cX1_asks 122 = .ok (.pop, 1) := dk_87 (dk_at dksX1_asks_5 6 rfl rfl)
theorem dX1_asks_123 : decode cX1_asks 123 = .ok (.aload_n 0, 1) := dk_42 (dk_at dksX1_asks_5 7 rfl rfl)
theorem dX1_asks_124 : decode cX1_asks 124 = .ok (.getfield 112, 3) := dk_180 0 112 (dk_at dksX1_asks_5 8 rfl rfl)
theorem dX1_asks_127 : decode cX1_asks 127 = .ok (.iload_n 2, 1) := dk_28 (dk_at dksX1_asks_5 11 rfl rfl)
theorem dX1_asks_128 : decode cX1_asks 128 = .ok (.bipush 10, 2) := dk_16 10 (dk_at dksX1_asks_5 12 rfl rfl)
theorem dX1_asks_130 : decode cX1_asks 130 = .ok (.iload 6, 2) := dk_21 6 (dk_at dksX1_asks_5 14 rfl rfl)
theorem dX1_asks_132 : decode cX1_asks 132 = .ok (.imul, 1) := dk_104 (dk_at dksX1_asks_5 16 rfl rfl)
theorem dX1_asks_133 : decode cX1_asks 133 = .ok (.iload 7, 2) := dk_21 7 (dk_at dksX1_asks_5 17 rfl rfl)
theorem dX1_asks_135 : decode cX1_asks 135 = .ok (.iadd, 1) := dk_96 (dk_at dksX1_asks_5 19 rfl rfl)
theorem dX1_asks_136 : decode cX1_asks 136 = .ok (.iastore, 1) := dk_79 (dk_at dksX1_asks_5 20 rfl rfl)
theorem dX1_asks_137 : decode cX1_asks 137 = .ok (.aload_n 0, 1) := dk_42 (dk_at dksX1_asks_5 21 rfl rfl)
theorem dX1_asks_138 : decode cX1_asks 138 = .ok (.aload 5, 2) := dk_25 5 (dk_at dksX1_asks_5 22 rfl rfl)
theorem dX1_asks_140 : decode cX1_asks 140 = .ok (.iload_n 2, 1) := dk_28 (dk_at dksX1_asks_6 0 rfl rfl)
theorem dX1_asks_141 : decode cX1_asks 141 = .ok (.iconst 1, 1) := dk_4 (dk_at dksX1_asks_6 1 rfl rfl)
theorem dX1_asks_142 : decode cX1_asks 142 = .ok (.iadd, 1) := dk_96 (dk_at dksX1_asks_6 2 rfl rfl)
theorem dX1_asks_143 : decode cX1_asks 143 = .ok (.iload_n 3, 1) := dk_29 (dk_at dksX1_asks_6 3 rfl rfl)
theorem dX1_asks_144 : decode cX1_asks 144 = .ok (.iload 4, 2) := dk_21 4 (dk_at dksX1_asks_6 4 rfl rfl)
theorem dX1_asks_146 : decode cX1_asks 146 = .ok (.invokevirtual 340, 3) := dk_182 1 84 (dk_at dksX1_asks_6 6 rfl rfl)
theorem dX1_asks_149 : decode cX1_asks 149 = .ok (.iinc 7 1, 3) := dk_132 7 1 (dk_at dksX1_asks_6 9 rfl rfl)
theorem dX1_asks_152 : decode cX1_asks 152 = .ok (.goto (-74), 3) := dk_167 255 182 (dk_at dksX1_asks_6 12 rfl rfl)
theorem dX1_asks_155 : decode cX1_asks 155 = .ok (.iinc 6 1, 3) := dk_132 6 1 (dk_at dksX1_asks_6 15 rfl rfl)
theorem dX1_asks_158 : decode cX1_asks 158 = .ok (.goto (-92), 3) := dk_167 255 164 (dk_at dksX1_asks_6 18 rfl rfl)
theorem dX1_asks_161 : decode cX1_asks 161 = .ok (.return_, 1) := dk_177 (dk_at dksX1_asks_6 21 rfl rfl)
def dkwX1_best_3 : List UInt8 := [167, 0, 21, 29, 28, 163, 0, 14, 42, 180, 0, 116, 29, 4, 100, 46, 167, 0, 5, 16, 254, 172]
abbrev dktX1_best_3 : List UInt8 := dkwX1_best_3 ++ []
def dkwX1_best_2 : List UInt8 := [182, 1, 84, 42, 180, 1, 81, 2, 160, 0, 6, 16, 253, 172, 29, 154, 0, 10, 42, 180, 1, 81]
abbrev dktX1_best_2 : List UInt8 := dkwX1_best_2 ++ dktX1_best_3
def dkwX1_best_1 : List UInt8 := [20, 1, 60, 184, 0, 147, 154, 0, 5, 2, 172, 42, 2, 181, 1, 81, 42, 42, 180, 0, 95, 3, 28, 27]
abbrev dktX1_best_1 : List UInt8 := dkwX1_best_1 ++ dktX1_best_2
def dkwX1_best_0 : List UInt8 := [42, 27, 182, 0, 192, 153, 0, 27, 28, 133, 10, 20, 1, 60, 184, 0, 147, 153, 0, 15, 29, 133, 9]
abbrev dktX1_best_0 : List UInt8 := dkwX1_best_0 ++ dktX1_best_1
theorem dksX1_best_0 : cX1_best.data.toList.drop 0 = dktX1_best_0 := by decide +kernel
theorem dksX1_best_1 : cX1_best.data.toList.drop 23 = dktX1_best_1 := dk_seg dksX1_best_0 23 rfl rfl
theorem dksX1_best_2 : cX1_best.data.toList.drop 47 = dktX1_best_2 := dk_seg dksX1_best_1 24 rfl rfl
theorem dksX1_best_3 : cX1_best.data.toList.drop 69 = dktX1_best_3 := dk_seg dksX1_best_2 22 rfl rfl
theorem dX1_best_0 : decode cX1_best 0 = .ok (.aload_n 0, 1) := dk_42 (dk_at dksX1_best_0 0 rfl rfl)
theorem dX1_best_1 : decode cX1_best 1 = .ok (.iload_n 1, 1) := dk_27 (dk_at dksX1_best_0 1 rfl rfl)
theorem dX1_best_2 : decode cX1_best 2 = .ok (.invokevirtual 192, 3) := dk_182 0 192 (dk_at dksX1_best_0 2 rfl rfl)
theorem dX1_best_5 : decode cX1_best 5 = .ok (.ifCond .eq 27, 3) := dk_153 0 27 (dk_at dksX1_best_0 5 rfl rfl)
theorem dX1_best_8 : decode cX1_best 8 = .ok (.iload_n 2, 1) := dk_28 (dk_at dksX1_best_0 8 rfl rfl)
theorem dX1_best_9 : decode cX1_best 9 = .ok (.i2l, 1) := dk_133 (dk_at dksX1_best_0 9 rfl rfl)
theorem dX1_best_10 : decode cX1_best 10 = .ok (.lconst 1, 1) := dk_10 (dk_at dksX1_best_0 10 rfl rfl)
theorem dX1_best_11 : decode cX1_best 11 = .ok (.ldc2_w 316, 3) := dk_20 1 60 (dk_at dksX1_best_0 11 rfl rfl)
theorem dX1_best_14 : decode cX1_best 14 = .ok (.invokestatic 147, 3) := dk_184 0 147 (dk_at dksX1_best_0 14 rfl rfl)
theorem dX1_best_17 : decode cX1_best 17 = .ok (.ifCond .eq 15, 3) := dk_153 0 15 (dk_at dksX1_best_0 17 rfl rfl)
theorem dX1_best_20 : decode cX1_best 20 = .ok (.iload_n 3, 1) := dk_29 (dk_at dksX1_best_0 20 rfl rfl)
theorem dX1_best_21 : decode cX1_best 21 = .ok (.i2l, 1) := dk_133 (dk_at dksX1_best_0 21 rfl rfl)
theorem dX1_best_22 : decode cX1_best 22 = .ok (.lconst 0, 1) := dk_9 (dk_at dksX1_best_0 22 rfl rfl)
theorem dX1_best_23 : decode cX1_best 23 = .ok (.ldc2_w 316, 3) := dk_20 1 60 (dk_at dksX1_best_1 0 rfl rfl)
theorem dX1_best_26 : decode cX1_best 26 = .ok (.invokestatic 147, 3) := dk_184 0 147 (dk_at dksX1_best_1 3 rfl rfl)
theorem dX1_best_29 : decode cX1_best 29 = .ok (.ifCond .ne 5, 3) := dk_154 0 5 (dk_at dksX1_best_1 6 rfl rfl)
theorem dX1_best_32 : decode cX1_best 32 = .ok (.iconst (-1), 1) := dk_2 (dk_at dksX1_best_1 9 rfl rfl)
theorem dX1_best_33 : decode cX1_best 33 = .ok (.ireturn, 1) := dk_172 (dk_at dksX1_best_1 10 rfl rfl)
theorem dX1_best_34 : decode cX1_best 34 = .ok (.aload_n 0, 1) := dk_42 (dk_at dksX1_best_1 11 rfl rfl)
theorem dX1_best_35 : decode cX1_best 35 = .ok (.iconst (-1), 1) := dk_2 (dk_at dksX1_best_1 12 rfl rfl)
theorem dX1_best_36 : decode cX1_best 36 = .ok (.putfield 337, 3) := dk_181 1 81 (dk_at dksX1_best_1 13 rfl rfl)
theorem dX1_best_39 : decode cX1_best 39 = .ok (.aload_n 0, 1) := dk_42 (dk_at dksX1_best_1 16 rfl rfl)
theorem dX1_best_40 : decode cX1_best 40 = .ok (.aload_n 0, 1) := dk_42 (dk_at dksX1_best_1 17 rfl rfl)
theorem dX1_best_41 : decode cX1_best 41 = .ok (.getfield 95, 3) := dk_180 0 95 (dk_at dksX1_best_1 18 rfl rfl)
theorem dX1_best_44 : decode cX1_best 44 = .ok (.iconst 0, 1) := dk_3 (dk_at dksX1_best_1 21 rfl rfl)
theorem dX1_best_45 : decode cX1_best 45 = .ok (.iload_n 2, 1) := dk_28 (dk_at dksX1_best_1 22 rfl rfl)
theorem dX1_best_46 : decode cX1_best 46 = .ok (.iload_n 1, 1) := dk_27 (dk_at dksX1_best_1 23 rfl rfl)
theorem dX1_best_47 : decode cX1_best 47 = .ok (.invokevirtual 340, 3) := dk_182 1 84 (dk_at dksX1_best_2 0 rfl rfl)
theorem dX1_best_50 : decode cX1_best 50 = .ok (.aload_n 0, 1) := dk_42 (dk_at dksX1_best_2 3 rfl rfl)
theorem dX1_best_51 : decode cX1_best 51 = .ok (.getfield 337, 3) := dk_180 1 81 (dk_at dksX1_best_2 4 rfl rfl)
theorem dX1_best_54 : decode cX1_best 54 = .ok (.iconst (-1), 1) := dk_2 (dk_at dksX1_best_2 7 rfl rfl)
theorem dX1_best_55 : decode cX1_best 55 = .ok (.if_icmp .ne 6, 3) := dk_160 0 6 (dk_at dksX1_best_2 8 rfl rfl)
theorem dX1_best_58 : decode cX1_best 58 = .ok (.bipush (-3), 2) := dk_16 253 (dk_at dksX1_best_2 11 rfl rfl)
theorem dX1_best_60 : decode cX1_best 60 = .ok (.ireturn, 1) := dk_172 (dk_at dksX1_best_2 13 rfl rfl)
theorem dX1_best_61 : decode cX1_best 61 = .ok (.iload_n 3, 1) := dk_29 (dk_at dksX1_best_2 14 rfl rfl)
theorem dX1_best_62 : decode cX1_best 62 = .ok (.ifCond .ne 10, 3) := dk_154 0 10 (dk_at dksX1_best_2 15 rfl rfl)
theorem dX1_best_65 : decode cX1_best 65 = .ok (.aload_n 0, 1) := dk_42 (dk_at dksX1_best_2 18 rfl rfl)
theorem dX1_best_66 : decode cX1_best 66 = .ok (.getfield 337, 3) := dk_180 1 81 (dk_at dksX1_best_2 19 rfl rfl)
theorem dX1_best_69 : decode cX1_best 69 = .ok (.goto 21, 3) := dk_167 0 21 (dk_at dksX1_best_3 0 rfl rfl)
theorem dX1_best_72 : decode cX1_best 72 = .ok (.iload_n 3, 1) := dk_29 (dk_at dksX1_best_3 3 rfl rfl)
theorem dX1_best_73 : decode cX1_best 73 = .ok (.iload_n 2, 1) := dk_28 (dk_at dksX1_best_3 4 rfl rfl)
theorem dX1_best_74 : decode cX1_best 74 = .ok (.if_icmp .gt 14, 3) := dk_163 0 14 (dk_at dksX1_best_3 5 rfl rfl)
theorem dX1_best_77 : decode cX1_best 77 = .ok (.aload_n 0, 1) := dk_42 (dk_at dksX1_best_3 8 rfl rfl)
theorem dX1_best_78 : decode cX1_best 78 = .ok (.getfield 116, 3) := dk_180 0 116 (dk_at dksX1_best_3 9 rfl rfl)
theorem dX1_best_81 : decode cX1_best 81 = .ok (.iload_n 3, 1) := dk_29 (dk_at dksX1_best_3 12 rfl rfl)
theorem dX1_best_82 : decode cX1_best 82 = .ok (.iconst 1, 1) := dk_4 (dk_at dksX1_best_3 13 rfl rfl)
theorem dX1_best_83 : decode cX1_best 83 = .ok (.isub, 1) := dk_100 (dk_at dksX1_best_3 14 rfl rfl)
theorem dX1_best_84 : decode cX1_best 84 = .ok (.iaload, 1) := dk_46 (dk_at dksX1_best_3 15 rfl rfl)
theorem dX1_best_85 : decode cX1_best 85 = .ok (.goto 5, 3) := dk_167 0 5 (dk_at dksX1_best_3 16 rfl rfl)
theorem dX1_best_88 : decode cX1_best 88 = .ok (.bipush (-2), 2) := dk_16 254 (dk_at dksX1_best_3 19 rfl rfl)
theorem dX1_best_90 : decode cX1_best 90 = .ok (.ireturn, 1) := dk_172 (dk_at dksX1_best_3 21 rfl rfl)
def dkwX1_isDuel_1 : List UInt8 := [180, 0, 211, 28, 46, 160, 0, 7, 4, 167, 0, 4, 3, 172]
abbrev dktX1_isDuel_1 : List UInt8 := dkwX1_isDuel_1 ++ []
def dkwX1_isDuel_0 : List UInt8 := [42, 27, 28, 182, 0, 241, 153, 0, 28, 42, 180, 0, 95, 180, 0, 211, 27, 46, 42, 180, 0, 95]
abbrev dktX1_isDuel_0 : List UInt8 := dkwX1_isDuel_0 ++ dktX1_isDuel_1
theorem dksX1_isDuel_0 : cX1_isDuel.data.toList.drop 0 = dktX1_isDuel_0 := by decide +kernel
theorem dksX1_isDuel_1 : cX1_isDuel.data.toList.drop 22 = dktX1_isDuel_1 := dk_seg dksX1_isDuel_0 22 rfl rfl
theorem dX1_isDuel_0 : decode cX1_isDuel 0 = .ok (.aload_n 0, 1) := dk_42 (dk_at dksX1_isDuel_0 0 rfl rfl)
theorem dX1_isDuel_1 : decode cX1_isDuel 1 = .ok (.iload_n 1, 1) := dk_27 (dk_at dksX1_isDuel_0 1 rfl rfl)
theorem dX1_isDuel_2 : decode cX1_isDuel 2 = .ok (.iload_n 2, 1) := dk_28 (dk_at dksX1_isDuel_0 2 rfl rfl)
theorem dX1_isDuel_3 : decode cX1_isDuel 3 = .ok (.invokevirtual 241, 3) := dk_182 0 241 (dk_at dksX1_isDuel_0 3 rfl rfl)
theorem dX1_isDuel_6 : decode cX1_isDuel 6 = .ok (.ifCond .eq 28, 3) := dk_153 0 28 (dk_at dksX1_isDuel_0 6 rfl rfl)
theorem dX1_isDuel_9 : decode cX1_isDuel 9 = .ok (.aload_n 0, 1) := dk_42 (dk_at dksX1_isDuel_0 9 rfl rfl)
theorem dX1_isDuel_10 : decode cX1_isDuel 10 = .ok (.getfield 95, 3) := dk_180 0 95 (dk_at dksX1_isDuel_0 10 rfl rfl)
theorem dX1_isDuel_13 : decode cX1_isDuel 13 = .ok (.getfield 211, 3) := dk_180 0 211 (dk_at dksX1_isDuel_0 13 rfl rfl)
theorem dX1_isDuel_16 : decode cX1_isDuel 16 = .ok (.iload_n 1, 1) := dk_27 (dk_at dksX1_isDuel_0 16 rfl rfl)
theorem dX1_isDuel_17 : decode cX1_isDuel 17 = .ok (.iaload, 1) := dk_46 (dk_at dksX1_isDuel_0 17 rfl rfl)
theorem dX1_isDuel_18 : decode cX1_isDuel 18 = .ok (.aload_n 0, 1) := dk_42 (dk_at dksX1_isDuel_0 18 rfl rfl)
theorem dX1_isDuel_19 : decode cX1_isDuel 19 = .ok (.getfield 95, 3) := dk_180 0 95 (dk_at dksX1_isDuel_0 19 rfl rfl)
theorem dX1_isDuel_22 : decode cX1_isDuel 22 = .ok (.getfield 211, 3) := dk_180 0 211 (dk_at dksX1_isDuel_1 0 rfl rfl)
theorem dX1_isDuel_25 : decode cX1_isDuel 25 = .ok (.iload_n 2, 1) := dk_28 (dk_at dksX1_isDuel_1 3 rfl rfl)
theorem dX1_isDuel_26 : decode cX1_isDuel 26 = .ok (.iaload, 1) := dk_46 (dk_at dksX1_isDuel_1 4 rfl rfl)
theorem dX1_isDuel_27 : decode cX1_isDuel 27 = .ok (.if_icmp .ne 7, 3) := dk_160 0 7 (dk_at dksX1_isDuel_1 5 rfl rfl)
theorem dX1_isDuel_30 : decode cX1_isDuel 30 = .ok (.iconst 1, 1) := dk_4 (dk_at dksX1_isDuel_1 8 rfl rfl)
theorem dX1_isDuel_31 : decode cX1_isDuel 31 = .ok (.goto 4, 3) := dk_167 0 4 (dk_at dksX1_isDuel_1 9 rfl rfl)
theorem dX1_isDuel_34 : decode cX1_isDuel 34 = .ok (.iconst 0, 1) := dk_3 (dk_at dksX1_isDuel_1 12 rfl rfl)
theorem dX1_isDuel_35 : decode cX1_isDuel 35 = .ok (.ireturn, 1) := dk_172 (dk_at dksX1_isDuel_1 13 rfl rfl)
def dkwX1_ends_1 : List UInt8 := [100, 5, 42, 180, 0, 99, 180, 0, 217, 27, 46, 42, 180, 0, 95, 180, 0, 217, 27, 46, 100, 104, 100, 172]
abbrev dktX1_ends_1 : List UInt8 := dkwX1_ends_1 ++ []
def dkwX1_ends_0 : List UInt8 := [42, 180, 0, 99, 180, 0, 214, 27, 46, 184, 1, 32, 42, 180, 0, 95, 180, 0, 214, 27, 46, 184, 1, 32]
abbrev dktX1_ends_0 : List UInt8 := dkwX1_ends_0 ++ dktX1_ends_1
theorem dksX1_ends_0 : cX1_ends.data.toList.drop 0 = dktX1_ends_0 := by decide +kernel
theorem dksX1_ends_1 : cX1_ends.data.toList.drop 24 = dktX1_ends_1 := dk_seg dksX1_ends_0 24 rfl rfl
theorem dX1_ends_0 : decode cX1_ends 0 = .ok (.aload_n 0, 1) := dk_42 (dk_at dksX1_ends_0 0 rfl rfl)
theorem dX1_ends_1 : decode cX1_ends 1 = .ok (.getfield 99, 3) := dk_180 0 99 (dk_at dksX1_ends_0 1 rfl rfl)
theorem dX1_ends_4 : decode cX1_ends 4 = .ok (.getfield 214, 3) := dk_180 0 214 (dk_at dksX1_ends_0 4 rfl rfl)
theorem dX1_ends_7 : decode cX1_ends 7 = .ok (.iload_n 1, 1) := dk_27 (dk_at dksX1_ends_0 7 rfl rfl)
theorem dX1_ends_8 : decode cX1_ends 8 = .ok (.iaload, 1) := dk_46 (dk_at dksX1_ends_0 8 rfl rfl)
theorem dX1_ends_9 : decode cX1_ends 9 = .ok (.invokestatic 288, 3) := dk_184 1 32 (dk_at dksX1_ends_0 9 rfl rfl)
theorem dX1_ends_12 : decode cX1_ends 12 = .ok (.aload_n 0, 1) := dk_42 (dk_at dksX1_ends_0 12 rfl rfl)
theorem dX1_ends_13 : decode cX1_ends 13 = .ok (.getfield 95, 3) := dk_180 0 95 (dk_at dksX1_ends_0 13 rfl rfl)
theorem dX1_ends_16 : decode cX1_ends 16 = .ok (.getfield 214, 3) := dk_180 0 214 (dk_at dksX1_ends_0 16 rfl rfl)
theorem dX1_ends_19 : decode cX1_ends 19 = .ok (.iload_n 1, 1) := dk_27 (dk_at dksX1_ends_0 19 rfl rfl)
theorem dX1_ends_20 : decode cX1_ends 20 = .ok (.iaload, 1) := dk_46 (dk_at dksX1_ends_0 20 rfl rfl)
theorem dX1_ends_21 : decode cX1_ends 21 = .ok (.invokestatic 288, 3) := dk_184 1 32 (dk_at dksX1_ends_0 21 rfl rfl)
theorem dX1_ends_24 : decode cX1_ends 24 = .ok (.isub, 1) := dk_100 (dk_at dksX1_ends_1 0 rfl rfl)
theorem dX1_ends_25 : decode cX1_ends 25 = .ok (.iconst 2, 1) := dk_5 (dk_at dksX1_ends_1 1 rfl rfl)
theorem dX1_ends_26 : decode cX1_ends 26 = .ok (.aload_n 0, 1) := dk_42 (dk_at dksX1_ends_1 2 rfl rfl)
theorem dX1_ends_27 : decode cX1_ends 27 = .ok (.getfield 99, 3) := dk_180 0 99 (dk_at dksX1_ends_1 3 rfl rfl)
theorem dX1_ends_30 : decode cX1_ends 30 = .ok (.getfield 217, 3) := dk_180 0 217 (dk_at dksX1_ends_1 6 rfl rfl)
theorem dX1_ends_33 : decode cX1_ends 33 = .ok (.iload_n 1, 1) := dk_27 (dk_at dksX1_ends_1 9 rfl rfl)
theorem dX1_ends_34 : decode cX1_ends 34 = .ok (.iaload, 1) := dk_46 (dk_at dksX1_ends_1 10 rfl rfl)
theorem dX1_ends_35 : decode cX1_ends 35 = .ok (.aload_n 0, 1) := dk_42 (dk_at dksX1_ends_1 11 rfl rfl)
theorem dX1_ends_36 : decode cX1_ends 36 = .ok (.getfield 95, 3) := dk_180 0 95 (dk_at dksX1_ends_1 12 rfl rfl)
theorem dX1_ends_39 : decode cX1_ends 39 = .ok (.getfield 217, 3) := dk_180 0 217 (dk_at dksX1_ends_1 15 rfl rfl)
theorem dX1_ends_42 : decode cX1_ends 42 = .ok (.iload_n 1, 1) := dk_27 (dk_at dksX1_ends_1 18 rfl rfl)
theorem dX1_ends_43 : decode cX1_ends 43 = .ok (.iaload, 1) := dk_46 (dk_at dksX1_ends_1 19 rfl rfl)
theorem dX1_ends_44 : decode cX1_ends 44 = .ok (.isub, 1) := dk_100 (dk_at dksX1_ends_1 20 rfl rfl)
theorem dX1_ends_45 : decode cX1_ends 45 = .ok (.imul, 1) := dk_104 (dk_at dksX1_ends_1 21 rfl rfl)
theorem dX1_ends_46 : decode cX1_ends 46 = .ok (.isub, 1) := dk_100 (dk_at dksX1_ends_1 22 rfl rfl)
theorem dX1_ends_47 : decode cX1_ends 47 = .ok (.ireturn, 1) := dk_172 (dk_at dksX1_ends_1 23 rfl rfl)
def dkwX1_layDuel_6 : List UInt8 := [167, 255, 132, 132, 4, 1, 167, 255, 117, 177]
abbrev dktX1_layDuel_6 : List UInt8 := dkwX1_layDuel_6 ++ []
def dkwX1_layDuel_5 : List UInt8 := [79, 42, 180, 0, 122, 16, 9, 21, 4, 104, 21, 5, 96, 42, 28, 182, 1, 87, 79, 132, 5, 1]
abbrev dktX1_layDuel_5 : List UInt8 := dkwX1_layDuel_5 ++ dktX1_layDuel_6
def dkwX1_layDuel_4 : List UInt8 := [21, 5, 3, 182, 1, 8, 87, 42, 180, 0, 119, 16, 9, 21, 4, 104, 21, 5, 96, 42, 27, 182, 1, 87]
abbrev dktX1_layDuel_4 : List UInt8 := dkwX1_layDuel_4 ++ dktX1_layDuel_5
def dkwX1_layDuel_3 : List UInt8 := [162, 0, 31, 42, 180, 0, 99, 28, 27, 21, 5, 4, 182, 0, 245, 153, 0, 16, 42, 180, 0, 99, 28, 27]
abbrev dktX1_layDuel_3 : List UInt8 := dkwX1_layDuel_3 ++ dktX1_layDuel_4
def dkwX1_layDuel_2 : List UInt8 := [4, 182, 0, 245, 153, 0, 16, 42, 180, 0, 99, 27, 28, 21, 4, 3, 182, 1, 8, 87, 21, 5, 29]
abbrev dktX1_layDuel_2 : List UInt8 := dkwX1_layDuel_2 ++ dktX1_layDuel_3
def dkwX1_layDuel_1 : List UInt8 := [180, 0, 99, 42, 180, 0, 95, 182, 1, 1, 21, 4, 29, 162, 0, 31, 42, 180, 0, 99, 27, 28, 21, 4]
abbrev dktX1_layDuel_1 : List UInt8 := dkwX1_layDuel_1 ++ dktX1_layDuel_2
def dkwX1_layDuel_0 : List UInt8 := [42, 182, 0, 190, 62, 3, 54, 4, 21, 4, 29, 163, 0, 139, 3, 54, 5, 21, 5, 29, 163, 0, 124, 42]
abbrev dktX1_layDuel_0 : List UInt8 := dkwX1_layDuel_0 ++ dktX1_layDuel_1
theorem dksX1_layDuel_0 : cX1_layDuel.data.toList.drop 0 = dktX1_layDuel_0 := by decide +kernel
theorem dksX1_layDuel_1 : cX1_layDuel.data.toList.drop 24 = dktX1_layDuel_1 := dk_seg dksX1_layDuel_0 24 rfl rfl
theorem dksX1_layDuel_2 : cX1_layDuel.data.toList.drop 48 = dktX1_layDuel_2 := dk_seg dksX1_layDuel_1 24 rfl rfl
theorem dksX1_layDuel_3 : cX1_layDuel.data.toList.drop 71 = dktX1_layDuel_3 := dk_seg dksX1_layDuel_2 23 rfl rfl
theorem dksX1_layDuel_4 : cX1_layDuel.data.toList.drop 95 = dktX1_layDuel_4 := dk_seg dksX1_layDuel_3 24 rfl rfl
theorem dksX1_layDuel_5 : cX1_layDuel.data.toList.drop 119 = dktX1_layDuel_5 := dk_seg dksX1_layDuel_4 24 rfl rfl
theorem dksX1_layDuel_6 : cX1_layDuel.data.toList.drop 141 = dktX1_layDuel_6 := dk_seg dksX1_layDuel_5 22 rfl rfl
theorem dX1_layDuel_0 : decode cX1_layDuel 0 = .ok (.aload_n 0, 1) := dk_42 (dk_at dksX1_layDuel_0 0 rfl rfl)
theorem dX1_layDuel_1 : decode cX1_layDuel 1 = .ok (.invokevirtual 190, 3) := dk_182 0 190 (dk_at dksX1_layDuel_0 1 rfl rfl)
theorem dX1_layDuel_4 : decode cX1_layDuel 4 = .ok (.istore_n 3, 1) := dk_62 (dk_at dksX1_layDuel_0 4 rfl rfl)
theorem dX1_layDuel_5 : decode cX1_layDuel 5 = .ok (.iconst 0, 1) := dk_3 (dk_at dksX1_layDuel_0 5 rfl rfl)
theorem dX1_layDuel_6 : decode cX1_layDuel 6 = .ok (.istore 4, 2) := dk_54 4 (dk_at dksX1_layDuel_0 6 rfl rfl)
theorem dX1_layDuel_8 : decode cX1_layDuel 8 = .ok (.iload 4, 2) := dk_21 4 (dk_at dksX1_layDuel_0 8 rfl rfl)
theorem dX1_layDuel_10 : decode cX1_layDuel 10 = .ok (.iload_n 3, 1) := dk_29 (dk_at dksX1_layDuel_0 10 rfl rfl)
theorem dX1_layDuel_11 : decode cX1_layDuel 11 = .ok (.if_icmp .gt 139, 3) := dk_163 0 139 (dk_at dksX1_layDuel_0 11 rfl rfl)
theorem dX1_layDuel_14 : decode cX1_layDuel 14 = .ok (.iconst 0, 1) := dk_3 (dk_at dksX1_layDuel_0 14 rfl rfl)
theorem dX1_layDuel_15 : decode cX1_layDuel 15 = .ok (.istore 5, 2) := dk_54 5 (dk_at dksX1_layDuel_0 15 rfl rfl)
theorem dX1_layDuel_17 : decode cX1_layDuel 17 = .ok (.iload 5, 2) := dk_21 5 (dk_at dksX1_layDuel_0 17 rfl rfl)
theorem dX1_layDuel_19 : decode cX1_layDuel 19 = .ok (.iload_n 3, 1) := dk_29 (dk_at dksX1_layDuel_0 19 rfl rfl)
theorem dX1_layDuel_20 : decode cX1_layDuel 20 = .ok (.if_icmp .gt 124, 3) := dk_163 0 124 (dk_at dksX1_layDuel_0 20 rfl rfl)
theorem dX1_layDuel_23 : decode cX1_layDuel 23 = .ok (.aload_n 0, 1) := dk_42 (dk_at dksX1_layDuel_0 23 rfl rfl)
theorem dX1_layDuel_24 : decode cX1_layDuel 24 = .ok (.getfield 99, 3) := dk_180 0 99 (dk_at dksX1_layDuel_1 0 rfl rfl)
theorem dX1_layDuel_27 : decode cX1_layDuel 27 = .ok (.aload_n 0, 1) := dk_42 (dk_at dksX1_layDuel_1 3 rfl rfl)
theorem dX1_layDuel_28 : decode cX1_layDuel 28 = .ok (.getfield 95, 3) := dk_180 0 95 (dk_at dksX1_layDuel_1 4 rfl rfl)
theorem dX1_layDuel_31 : decode cX1_layDuel 31 = .ok (.invokevirtual 257, 3) := dk_182 1 1 (dk_at dksX1_layDuel_1 7 rfl rfl)
theorem dX1_layDuel_34 : decode cX1_layDuel 34 = .ok (.iload 4, 2) := dk_21 4 (dk_at dksX1_layDuel_1 10 rfl rfl)
theorem dX1_layDuel_36 : decode cX1_layDuel 36 = .ok (.iload_n 3, 1) := dk_29 (dk_at dksX1_layDuel_1 12 rfl rfl)
theorem dX1_layDuel_37 : decode cX1_layDuel 37 = .ok (.if_icmp .ge 31, 3) := dk_162 0 31 (dk_at dksX1_layDuel_1 13 rfl rfl)
theorem dX1_layDuel_40 : decode cX1_layDuel 40 = .ok (.aload_n 0, 1) := dk_42 (dk_at dksX1_layDuel_1 16 rfl rfl)
theorem dX1_layDuel_41 : decode cX1_layDuel 41 = .ok (.getfield 99, 3) := dk_180 0 99 (dk_at dksX1_layDuel_1 17 rfl rfl)
theorem dX1_layDuel_44 : decode cX1_layDuel 44 = .ok (.iload_n 1, 1) := dk_27 (dk_at dksX1_layDuel_1 20 rfl rfl)
theorem dX1_layDuel_45 : decode cX1_layDuel 45 = .ok (.iload_n 2, 1) := dk_28 (dk_at dksX1_layDuel_1 21 rfl rfl)
theorem dX1_layDuel_46 : decode cX1_layDuel 46 = .ok (.iload 4, 2) := dk_21 4 (dk_at dksX1_layDuel_1 22 rfl rfl)
theorem dX1_layDuel_48 : decode cX1_layDuel 48 = .ok (.iconst 1, 1) := dk_4 (dk_at dksX1_layDuel_2 0 rfl rfl)
theorem dX1_layDuel_49 : decode cX1_layDuel 49 = .ok (.invokevirtual 245, 3) := dk_182 0 245 (dk_at dksX1_layDuel_2 1 rfl rfl)
theorem dX1_layDuel_52 : decode cX1_layDuel 52 = .ok (.ifCond .eq 16, 3) := dk_153 0 16 (dk_at dksX1_layDuel_2 4 rfl rfl)
theorem dX1_layDuel_55 : decode cX1_layDuel 55 = .ok (.aload_n 0, 1) := dk_42 (dk_at dksX1_layDuel_2 7 rfl rfl)
theorem dX1_layDuel_56 : decode cX1_layDuel 56 = .ok (.getfield 99, 3) := dk_180 0 99 (dk_at dksX1_layDuel_2 8 rfl rfl)
theorem dX1_layDuel_59 : decode cX1_layDuel 59 = .ok (.iload_n 1, 1) := dk_27 (dk_at dksX1_layDuel_2 11 rfl rfl)
theorem dX1_layDuel_60 : decode cX1_layDuel 60 = .ok (.iload_n 2, 1) := dk_28 (dk_at dksX1_layDuel_2 12 rfl rfl)
theorem dX1_layDuel_61 : decode cX1_layDuel 61 = .ok (.iload 4, 2) := dk_21 4 (dk_at dksX1_layDuel_2 13 rfl rfl)
theorem dX1_layDuel_63 : decode cX1_layDuel 63 = .ok (.iconst 0, 1) := dk_3 (dk_at dksX1_layDuel_2 15 rfl rfl)
theorem dX1_layDuel_64 : decode cX1_layDuel 64 = .ok (.invokevirtual 264, 3) := dk_182 1 8 (dk_at dksX1_layDuel_2 16 rfl rfl)
theorem dX1_layDuel_67 : decode cX1_layDuel 67 = .ok (.pop, 1) := dk_87 (dk_at dksX1_layDuel_2 19 rfl rfl)
theorem dX1_layDuel_68 : decode cX1_layDuel 68 = .ok (.iload 5, 2) := dk_21 5 (dk_at dksX1_layDuel_2 20 rfl rfl)
theorem dX1_layDuel_70 : decode cX1_layDuel 70 = .ok (.iload_n 3, 1) := dk_29 (dk_at dksX1_layDuel_2 22 rfl rfl)
theorem dX1_layDuel_71 : decode cX1_layDuel 71 = .ok (.if_icmp .ge 31, 3) := dk_162 0 31 (dk_at dksX1_layDuel_3 0 rfl rfl)
theorem dX1_layDuel_74 : decode cX1_layDuel 74 = .ok (.aload_n 0, 1) := dk_42 (dk_at dksX1_layDuel_3 3 rfl rfl)
theorem dX1_layDuel_75 : decode cX1_layDuel 75 = .ok (.getfield 99, 3) := dk_180 0 99 (dk_at dksX1_layDuel_3 4 rfl rfl)
theorem dX1_layDuel_78 : decode cX1_layDuel 78 = .ok (.iload_n 2, 1) := dk_28 (dk_at dksX1_layDuel_3 7 rfl rfl)
theorem dX1_layDuel_79 : decode cX1_layDuel 79 = .ok (.iload_n 1, 1) := dk_27 (dk_at dksX1_layDuel_3 8 rfl rfl)
theorem dX1_layDuel_80 : decode cX1_layDuel 80 = .ok (.iload 5, 2) := dk_21 5 (dk_at dksX1_layDuel_3 9 rfl rfl)
theorem dX1_layDuel_82 : decode cX1_layDuel 82 = .ok (.iconst 1, 1) := dk_4 (dk_at dksX1_layDuel_3 11 rfl rfl)
theorem dX1_layDuel_83 : decode cX1_layDuel 83 = .ok (.invokevirtual 245, 3) := dk_182 0 245 (dk_at dksX1_layDuel_3 12 rfl rfl)
theorem dX1_layDuel_86 : decode cX1_layDuel 86 = .ok (.ifCond .eq 16, 3) := dk_153 0 16 (dk_at dksX1_layDuel_3 15 rfl rfl)
theorem dX1_layDuel_89 : decode cX1_layDuel 89 = .ok (.aload_n 0, 1) := dk_42 (dk_at dksX1_layDuel_3 18 rfl rfl)
theorem dX1_layDuel_90 : decode cX1_layDuel 90 = .ok (.getfield 99, 3) := dk_180 0 99 (dk_at dksX1_layDuel_3 19 rfl rfl)
theorem dX1_layDuel_93 : decode cX1_layDuel 93 = .ok (.iload_n 2, 1) := dk_28 (dk_at dksX1_layDuel_3 22 rfl rfl)
theorem dX1_layDuel_94 : decode cX1_layDuel 94 = .ok (.iload_n 1, 1) := dk_27 (dk_at dksX1_layDuel_3 23 rfl rfl)
theorem dX1_layDuel_95 : decode cX1_layDuel 95 = .ok (.iload 5, 2) := dk_21 5 (dk_at dksX1_layDuel_4 0 rfl rfl)
theorem dX1_layDuel_97 : decode cX1_layDuel 97 = .ok (.iconst 0, 1) := dk_3 (dk_at dksX1_layDuel_4 2 rfl rfl)
theorem dX1_layDuel_98 : decode cX1_layDuel 98 = .ok (.invokevirtual 264, 3) := dk_182 1 8 (dk_at dksX1_layDuel_4 3 rfl rfl)
theorem dX1_layDuel_101 : decode cX1_layDuel 101 = .ok (.pop, 1) := dk_87 (dk_at dksX1_layDuel_4 6 rfl rfl)
theorem dX1_layDuel_102 : decode cX1_layDuel 102 = .ok (.aload_n 0, 1) := dk_42 (dk_at dksX1_layDuel_4 7 rfl rfl)
theorem dX1_layDuel_103 : decode cX1_layDuel 103 = .ok (.getfield 119, 3) := dk_180 0 119 (dk_at dksX1_layDuel_4 8 rfl rfl)
theorem dX1_layDuel_106 : decode cX1_layDuel 106 = .ok (.bipush 9, 2) := dk_16 9 (dk_at dksX1_layDuel_4 11 rfl rfl)
theorem dX1_layDuel_108 : decode cX1_layDuel 108 = .ok (.iload 4, 2) := dk_21 4 (dk_at dksX1_layDuel_4 13 rfl rfl)
theorem dX1_layDuel_110 : decode cX1_layDuel 110 = .ok (.imul, 1) := dk_104 (dk_at dksX1_layDuel_4 15 rfl rfl)
theorem dX1_layDuel_111 : decode cX1_layDuel 111 = .ok (.iload 5, 2) := dk_21 5 (dk_at dksX1_layDuel_4 16 rfl rfl)
theorem dX1_layDuel_113 : decode cX1_layDuel 113 = .ok (.iadd, 1) := dk_96 (dk_at dksX1_layDuel_4 18 rfl rfl)
theorem dX1_layDuel_114 : decode cX1_layDuel 114 = .ok (.aload_n 0, 1) := dk_42 (dk_at dksX1_layDuel_4 19 rfl rfl)
theorem dX1_layDuel_115 : decode cX1_layDuel 115 = .ok (.iload_n 1, 1) := dk_27 (dk_at dksX1_layDuel_4 20 rfl rfl)
theorem dX1_layDuel_116 : decode cX1_layDuel 116 = .ok (.invokevirtual 343, 3) := dk_182 1 87 (dk_at dksX1_layDuel_4 21 rfl rfl)
theorem dX1_layDuel_119 : decode cX1_layDuel 119 = .ok (.iastore, 1) := dk_79 (dk_at dksX1_layDuel_5 0 rfl rfl)
theorem dX1_layDuel_120 : decode cX1_layDuel 120 = .ok (.aload_n 0, 1) := dk_42 (dk_at dksX1_layDuel_5 1 rfl rfl)
theorem dX1_layDuel_121 : decode cX1_layDuel 121 = .ok (.getfield 122, 3) := dk_180 0 122 (dk_at dksX1_layDuel_5 2 rfl rfl)
theorem dX1_layDuel_124 : decode cX1_layDuel 124 = .ok (.bipush 9, 2) := dk_16 9 (dk_at dksX1_layDuel_5 5 rfl rfl)
theorem dX1_layDuel_126 : decode cX1_layDuel 126 = .ok (.iload 4, 2) := dk_21 4 (dk_at dksX1_layDuel_5 7 rfl rfl)
theorem dX1_layDuel_128 : decode cX1_layDuel 128 = .ok (.imul, 1) := dk_104 (dk_at dksX1_layDuel_5 9 rfl rfl)
theorem dX1_layDuel_129 : decode cX1_layDuel 129 = .ok (.iload 5, 2) := dk_21 5 (dk_at dksX1_layDuel_5 10 rfl rfl)
theorem dX1_layDuel_131 : decode cX1_layDuel 131 = .ok (.iadd, 1) := dk_96 (dk_at dksX1_layDuel_5 12 rfl rfl)
theorem dX1_layDuel_132 : decode cX1_layDuel 132 = .ok (.aload_n 0, 1) := dk_42 (dk_at dksX1_layDuel_5 13 rfl rfl)
theorem dX1_layDuel_133 : decode cX1_layDuel 133 = .ok (.iload_n 2, 1) := dk_28 (dk_at dksX1_layDuel_5 14 rfl rfl)
theorem dX1_layDuel_134 : decode cX1_layDuel 134 = .ok (.invokevirtual 343, 3) := dk_182 1 87 (dk_at dksX1_layDuel_5 15 rfl rfl)
theorem dX1_layDuel_137 : decode cX1_layDuel 137 = .ok (.iastore, 1) := dk_79 (dk_at dksX1_layDuel_5 18 rfl rfl)
theorem dX1_layDuel_138 : decode cX1_layDuel 138 = .ok (.iinc 5 1, 3) := dk_132 5 1 (dk_at dksX1_layDuel_5 19 rfl rfl)
theorem dX1_layDuel_141 : decode cX1_layDuel 141 = .ok (.goto (-124), 3) := dk_167 255 132 (dk_at dksX1_layDuel_6 0 rfl rfl)
theorem dX1_layDuel_144 : decode cX1_layDuel 144 = .ok (.iinc 4 1, 3) := dk_132 4 1 (dk_at dksX1_layDuel_6 3 rfl rfl)
theorem dX1_layDuel_147 : decode cX1_layDuel 147 = .ok (.goto (-139), 3) := dk_167 255 117 (dk_at dksX1_layDuel_6 6 rfl rfl)
theorem dX1_layDuel_150 : decode cX1_layDuel 150 = .ok (.return_, 1) := dk_177 (dk_at dksX1_layDuel_6 9 rfl rfl)
def dkwX1_isRest_3 : List UInt8 := [172]
abbrev dktX1_isRest_3 : List UInt8 := dkwX1_isRest_3 ++ []
def dkwX1_isRest_2 : List UInt8 := [96, 46, 42, 180, 0, 122, 29, 27, 104, 28, 96, 46, 164, 0, 5, 3, 172, 132, 4, 1, 167, 255, 194, 4]
abbrev dktX1_isRest_2 : List UInt8 := dkwX1_isRest_2 ++ dktX1_isRest_3
def dkwX1_isRest_1 : List UInt8 := [96, 46, 42, 180, 0, 119, 29, 27, 104, 28, 96, 46, 163, 0, 27, 42, 180, 0, 122, 29, 27, 104, 21, 4]
abbrev dktX1_isRest_1 : List UInt8 := dkwX1_isRest_1 ++ dktX1_isRest_2
def dkwX1_isRest_0 : List UInt8 := [16, 9, 62, 3, 54, 4, 21, 4, 42, 182, 0, 190, 163, 0, 59, 42, 180, 0, 119, 29, 21, 4, 104, 28]
abbrev dktX1_isRest_0 : List UInt8 := dkwX1_isRest_0 ++ dktX1_isRest_1
theorem dksX1_isRest_0 : cX1_isRest.data.toList.drop 0 = dktX1_isRest_0 := by decide +kernel
theorem dksX1_isRest_1 : cX1_isRest.data.toList.drop 24 = dktX1_isRest_1 := dk_seg dksX1_isRest_0 24 rfl rfl
theorem dksX1_isRest_2 : cX1_isRest.data.toList.drop 48 = dktX1_isRest_2 := dk_seg dksX1_isRest_1 24 rfl rfl
theorem dksX1_isRest_3 : cX1_isRest.data.toList.drop 72 = dktX1_isRest_3 := dk_seg dksX1_isRest_2 24 rfl rfl
theorem dX1_isRest_0 : decode cX1_isRest 0 = .ok (.bipush 9, 2) := dk_16 9 (dk_at dksX1_isRest_0 0 rfl rfl)
theorem dX1_isRest_2 : decode cX1_isRest 2 = .ok (.istore_n 3, 1) := dk_62 (dk_at dksX1_isRest_0 2 rfl rfl)
theorem dX1_isRest_3 : decode cX1_isRest 3 = .ok (.iconst 0, 1) := dk_3 (dk_at dksX1_isRest_0 3 rfl rfl)
theorem dX1_isRest_4 : decode cX1_isRest 4 = .ok (.istore 4, 2) := dk_54 4 (dk_at dksX1_isRest_0 4 rfl rfl)
theorem dX1_isRest_6 : decode cX1_isRest 6 = .ok (.iload 4, 2) := dk_21 4 (dk_at dksX1_isRest_0 6 rfl rfl)
theorem dX1_isRest_8 : decode cX1_isRest 8 = .ok (.aload_n 0, 1) := dk_42 (dk_at dksX1_isRest_0 8 rfl rfl)
theorem dX1_isRest_9 : decode cX1_isRest 9 = .ok (.invokevirtual 190, 3) := dk_182 0 190 (dk_at dksX1_isRest_0 9 rfl rfl)
theorem dX1_isRest_12 : decode cX1_isRest 12 = .ok (.if_icmp .gt 59, 3) := dk_163 0 59 (dk_at dksX1_isRest_0 12 rfl rfl)
theorem dX1_isRest_15 : decode cX1_isRest 15 = .ok (.aload_n 0, 1) := dk_42 (dk_at dksX1_isRest_0 15 rfl rfl)
theorem dX1_isRest_16 : decode cX1_isRest 16 = .ok (.getfield 119, 3) := dk_180 0 119 (dk_at dksX1_isRest_0 16 rfl rfl)
theorem dX1_isRest_19 : decode cX1_isRest 19 = .ok (.iload_n 3, 1) := dk_29 (dk_at dksX1_isRest_0 19 rfl rfl)
theorem dX1_isRest_20 : decode cX1_isRest 20 = .ok (.iload 4, 2) := dk_21 4 (dk_at dksX1_isRest_0 20 rfl rfl)
theorem dX1_isRest_22 : decode cX1_isRest 22 = .ok (.imul, 1) := dk_104 (dk_at dksX1_isRest_0 22 rfl rfl)
theorem dX1_isRest_23 : decode cX1_isRest 23 = .ok (.iload_n 2, 1) := dk_28 (dk_at dksX1_isRest_0 23 rfl rfl)
theorem dX1_isRest_24 : decode cX1_isRest 24 = .ok (.iadd, 1) := dk_96 (dk_at dksX1_isRest_1 0 rfl rfl)
theorem dX1_isRest_25 : decode cX1_isRest 25 = .ok (.iaload, 1) := dk_46 (dk_at dksX1_isRest_1 1 rfl rfl)
theorem dX1_isRest_26 : decode cX1_isRest 26 = .ok (.aload_n 0, 1) := dk_42 (dk_at dksX1_isRest_1 2 rfl rfl)
theorem dX1_isRest_27 : decode cX1_isRest 27 = .ok (.getfield 119, 3) := dk_180 0 119 (dk_at dksX1_isRest_1 3 rfl rfl)
theorem dX1_isRest_30 : decode cX1_isRest 30 = .ok (.iload_n 3, 1) := dk_29 (dk_at dksX1_isRest_1 6 rfl rfl)
theorem dX1_isRest_31 : decode cX1_isRest 31 = .ok (.iload_n 1, 1) := dk_27 (dk_at dksX1_isRest_1 7 rfl rfl)
theorem dX1_isRest_32 : decode cX1_isRest 32 = .ok (.imul, 1) := dk_104 (dk_at dksX1_isRest_1 8 rfl rfl)
theorem dX1_isRest_33 : decode cX1_isRest 33 = .ok (.iload_n 2, 1) := dk_28 (dk_at dksX1_isRest_1 9 rfl rfl)
theorem dX1_isRest_34 : decode cX1_isRest 34 = .ok (.iadd, 1) := dk_96 (dk_at dksX1_isRest_1 10 rfl rfl)
theorem dX1_isRest_35 : decode cX1_isRest 35 = .ok (.iaload, 1) := dk_46 (dk_at dksX1_isRest_1 11 rfl rfl)
theorem dX1_isRest_36 : decode cX1_isRest 36 = .ok (.if_icmp .gt 27, 3) := dk_163 0 27 (dk_at dksX1_isRest_1 12 rfl rfl)
theorem dX1_isRest_39 : decode cX1_isRest 39 = .ok (.aload_n 0, 1) := dk_42 (dk_at dksX1_isRest_1 15 rfl rfl)
theorem dX1_isRest_40 : decode cX1_isRest 40 = .ok (.getfield 122, 3) := dk_180 0 122 (dk_at dksX1_isRest_1 16 rfl rfl)
theorem dX1_isRest_43 : decode cX1_isRest 43 = .ok (.iload_n 3, 1) := dk_29 (dk_at dksX1_isRest_1 19 rfl rfl)
theorem dX1_isRest_44 : decode cX1_isRest 44 = .ok (.iload_n 1, 1) := dk_27 (dk_at dksX1_isRest_1 20 rfl rfl)
theorem dX1_isRest_45 : decode cX1_isRest 45 = .ok (.imul, 1) := dk_104 (dk_at dksX1_isRest_1 21 rfl rfl)
theorem dX1_isRest_46 : decode cX1_isRest 46 = .ok (.iload 4, 2) := dk_21 4 (dk_at dksX1_isRest_1 22 rfl rfl)
theorem dX1_isRest_48 : decode cX1_isRest 48 = .ok (.iadd, 1) := dk_96 (dk_at dksX1_isRest_2 0 rfl rfl)
theorem dX1_isRest_49 : decode cX1_isRest 49 = .ok (.iaload, 1) := dk_46 (dk_at dksX1_isRest_2 1 rfl rfl)
theorem dX1_isRest_50 : decode cX1_isRest 50 = .ok (.aload_n 0, 1) := dk_42 (dk_at dksX1_isRest_2 2 rfl rfl)
theorem dX1_isRest_51 : decode cX1_isRest 51 = .ok (.getfield 122, 3) := dk_180 0 122 (dk_at dksX1_isRest_2 3 rfl rfl)
theorem dX1_isRest_54 : decode cX1_isRest 54 = .ok (.iload_n 3, 1) := dk_29 (dk_at dksX1_isRest_2 6 rfl rfl)
theorem dX1_isRest_55 : decode cX1_isRest 55 = .ok (.iload_n 1, 1) := dk_27 (dk_at dksX1_isRest_2 7 rfl rfl)
theorem dX1_isRest_56 : decode cX1_isRest 56 = .ok (.imul, 1) := dk_104 (dk_at dksX1_isRest_2 8 rfl rfl)
theorem dX1_isRest_57 : decode cX1_isRest 57 = .ok (.iload_n 2, 1) := dk_28 (dk_at dksX1_isRest_2 9 rfl rfl)
theorem dX1_isRest_58 : decode cX1_isRest 58 = .ok (.iadd, 1) := dk_96 (dk_at dksX1_isRest_2 10 rfl rfl)
theorem dX1_isRest_59 : decode cX1_isRest 59 = .ok (.iaload, 1) := dk_46 (dk_at dksX1_isRest_2 11 rfl rfl)
theorem dX1_isRest_60 : decode cX1_isRest 60 = .ok (.if_icmp .le 5, 3) := dk_164 0 5 (dk_at dksX1_isRest_2 12 rfl rfl)
theorem dX1_isRest_63 : decode cX1_isRest 63 = .ok (.iconst 0, 1) := dk_3 (dk_at dksX1_isRest_2 15 rfl rfl)
theorem dX1_isRest_64 : decode cX1_isRest 64 = .ok (.ireturn, 1) := dk_172 (dk_at dksX1_isRest_2 16 rfl rfl)
theorem dX1_isRest_65 : decode cX1_isRest 65 = .ok (.iinc 4 1, 3) := dk_132 4 1 (dk_at dksX1_isRest_2 17 rfl rfl)
theorem dX1_isRest_68 : decode cX1_isRest 68 = .ok (.goto (-62), 3) := dk_167 255 194 (dk_at dksX1_isRest_2 20 rfl rfl)
theorem dX1_isRest_71 : decode cX1_isRest 71 = .ok (.iconst 1, 1) := dk_4 (dk_at dksX1_isRest_2 23 rfl rfl)
theorem dX1_isRest_72 : decode cX1_isRest 72 = .ok (.ireturn, 1) := dk_172 (dk_at dksX1_isRest_3 0 rfl rfl)
def dkwX1_restOf_3 : List UInt8 := [167, 0, 5, 16, 254, 172]
abbrev dktX1_restOf_3 : List UInt8 := dkwX1_restOf_3 ++ []
def dkwX1_restOf_2 : List UInt8 := [96, 172, 132, 2, 1, 132, 4, 1, 167, 255, 215, 132, 3, 1, 167, 255, 198, 27, 2, 160, 0, 7, 28]
abbrev dktX1_restOf_2 : List UInt8 := dkwX1_restOf_2 ++ dktX1_restOf_3
def dkwX1_restOf_1 : List UInt8 := [42, 29, 21, 4, 182, 1, 90, 154, 0, 6, 167, 0, 19, 28, 27, 160, 0, 11, 16, 100, 29, 104, 21, 4]
abbrev dktX1_restOf_1 : List UInt8 := dkwX1_restOf_1 ++ dktX1_restOf_2
def dkwX1_restOf_0 : List UInt8 := [3, 61, 3, 62, 29, 42, 182, 0, 190, 163, 0, 56, 3, 54, 4, 21, 4, 42, 182, 0, 190, 163, 0, 38]
abbrev dktX1_restOf_0 : List UInt8 := dkwX1_restOf_0 ++ dktX1_restOf_1
theorem dksX1_restOf_0 : cX1_restOf.data.toList.drop 0 = dktX1_restOf_0 := by decide +kernel
theorem dksX1_restOf_1 : cX1_restOf.data.toList.drop 24 = dktX1_restOf_1 := dk_seg dksX1_restOf_0 24 rfl rfl
theorem dksX1_restOf_2 : cX1_restOf.data.toList.drop 48 = dktX1_restOf_2 := dk_seg dksX1_restOf_1 24 rfl rfl
theorem dksX1_restOf_3 : cX1_restOf.data.toList.drop 71 = dktX1_restOf_3 := dk_seg dksX1_restOf_2 23 rfl rfl
theorem dX1_restOf_0 : decode cX1_restOf 0 = .ok (.iconst 0, 1) := dk_3 (dk_at dksX1_restOf_0 0 rfl rfl)
theorem dX1_restOf_1 : decode cX1_restOf 1 = .ok (.istore_n 2, 1) := dk_61 (dk_at dksX1_restOf_0 1 rfl rfl)
theorem dX1_restOf_2 : decode cX1_restOf 2 = .ok (.iconst 0, 1) := dk_3 (dk_at dksX1_restOf_0 2 rfl rfl)
theorem dX1_restOf_3 : decode cX1_restOf 3 = .ok (.istore_n 3, 1) := dk_62 (dk_at dksX1_restOf_0 3 rfl rfl)
theorem dX1_restOf_4 : decode cX1_restOf 4 = .ok (.iload_n 3, 1) := dk_29 (dk_at dksX1_restOf_0 4 rfl rfl)
theorem dX1_restOf_5 : decode cX1_restOf 5 = .ok (.aload_n 0, 1) := dk_42 (dk_at dksX1_restOf_0 5 rfl rfl)
theorem dX1_restOf_6 : decode cX1_restOf 6 = .ok (.invokevirtual 190, 3) := dk_182 0 190 (dk_at dksX1_restOf_0 6 rfl rfl)
theorem dX1_restOf_9 : decode cX1_restOf 9 = .ok (.if_icmp .gt 56, 3) := dk_163 0 56 (dk_at dksX1_restOf_0 9 rfl rfl)
theorem dX1_restOf_12 : decode cX1_restOf 12 = .ok (.iconst 0, 1) := dk_3 (dk_at dksX1_restOf_0 12 rfl rfl)
theorem dX1_restOf_13 : decode cX1_restOf 13 = .ok (.istore 4, 2) := dk_54 4 (dk_at dksX1_restOf_0 13 rfl rfl)
theorem dX1_restOf_15 : decode cX1_restOf 15 = .ok (.iload 4, 2) := dk_21 4 (dk_at dksX1_restOf_0 15 rfl rfl)
theorem dX1_restOf_17 : decode cX1_restOf 17 = .ok (.aload_n 0, 1) := dk_42 (dk_at dksX1_restOf_0 17 rfl rfl)
theorem dX1_restOf_18 : decode cX1_restOf 18 = .ok (.invokevirtual 190, 3) := dk_182 0 190 (dk_at dksX1_restOf_0 18 rfl rfl)
theorem dX1_restOf_21 : decode cX1_restOf 21 = .ok (.if_icmp .gt 38, 3) := dk_163 0 38 (dk_at dksX1_restOf_0 21 rfl rfl)
theorem dX1_restOf_24 : decode cX1_restOf 24 = .ok (.aload_n 0, 1) := dk_42 (dk_at dksX1_restOf_1 0 rfl rfl)
theorem dX1_restOf_25 : decode cX1_restOf 25 = .ok (.iload_n 3, 1) := dk_29 (dk_at dksX1_restOf_1 1 rfl rfl)
theorem dX1_restOf_26 : decode cX1_restOf 26 = .ok (.iload 4, 2) := dk_21 4 (dk_at dksX1_restOf_1 2 rfl rfl)
theorem dX1_restOf_28 : decode cX1_restOf 28 = .ok (.invokevirtual 346, 3) := dk_182 1 90 (dk_at dksX1_restOf_1 4 rfl rfl)
theorem dX1_restOf_31 : decode cX1_restOf 31 = .ok (.ifCond .ne 6, 3) := dk_154 0 6 (dk_at dksX1_restOf_1 7 rfl rfl)
theorem dX1_restOf_34 : decode cX1_restOf 34 = .ok (.goto 19, 3) := dk_167 0 19 (dk_at dksX1_restOf_1 10 rfl rfl)
theorem dX1_restOf_37 : decode cX1_restOf 37 = .ok (.iload_n 2, 1) := dk_28 (dk_at dksX1_restOf_1 13 rfl rfl)
theorem dX1_restOf_38 : decode cX1_restOf 38 = .ok (.iload_n 1, 1) := dk_27 (dk_at dksX1_restOf_1 14 rfl rfl)
theorem dX1_restOf_39 : decode cX1_restOf 39 = .ok (.if_icmp .ne 11, 3) := dk_160 0 11 (dk_at dksX1_restOf_1 15 rfl rfl)
theorem dX1_restOf_42 : decode cX1_restOf 42 = .ok (.bipush 100, 2) := dk_16 100 (dk_at dksX1_restOf_1 18 rfl rfl)
theorem dX1_restOf_44 : decode cX1_restOf 44 = .ok (.iload_n 3, 1) := dk_29 (dk_at dksX1_restOf_1 20 rfl rfl)
theorem dX1_restOf_45 : decode cX1_restOf 45 = .ok (.imul, 1) := dk_104 (dk_at dksX1_restOf_1 21 rfl rfl)
theorem dX1_restOf_46 : decode cX1_restOf 46 = .ok (.iload 4, 2) := dk_21 4 (dk_at dksX1_restOf_1 22 rfl rfl)
theorem dX1_restOf_48 : decode cX1_restOf 48 = .ok (.iadd, 1) := dk_96 (dk_at dksX1_restOf_2 0 rfl rfl)
theorem dX1_restOf_49 : decode cX1_restOf 49 = .ok (.ireturn, 1) := dk_172 (dk_at dksX1_restOf_2 1 rfl rfl)
theorem dX1_restOf_50 : decode cX1_restOf 50 = .ok (.iinc 2 1, 3) := dk_132 2 1 (dk_at dksX1_restOf_2 2 rfl rfl)
theorem dX1_restOf_53 : decode cX1_restOf 53 = .ok (.iinc 4 1, 3) := dk_132 4 1 (dk_at dksX1_restOf_2 5 rfl rfl)
theorem dX1_restOf_56 : decode cX1_restOf 56 = .ok (.goto (-41), 3) := dk_167 255 215 (dk_at dksX1_restOf_2 8 rfl rfl)
theorem dX1_restOf_59 : decode cX1_restOf 59 = .ok (.iinc 3 1, 3) := dk_132 3 1 (dk_at dksX1_restOf_2 11 rfl rfl)
theorem dX1_restOf_62 : decode cX1_restOf 62 = .ok (.goto (-58), 3) := dk_167 255 198 (dk_at dksX1_restOf_2 14 rfl rfl)
theorem dX1_restOf_65 : decode cX1_restOf 65 = .ok (.iload_n 1, 1) := dk_27 (dk_at dksX1_restOf_2 17 rfl rfl)
theorem dX1_restOf_66 : decode cX1_restOf 66 = .ok (.iconst (-1), 1) := dk_2 (dk_at dksX1_restOf_2 18 rfl rfl)
theorem dX1_restOf_67 : decode cX1_restOf 67 = .ok (.if_icmp .ne 7, 3) := dk_160 0 7 (dk_at dksX1_restOf_2 19 rfl rfl)
theorem dX1_restOf_70 : decode cX1_restOf 70 = .ok (.iload_n 2, 1) := dk_28 (dk_at dksX1_restOf_2 22 rfl rfl)
theorem dX1_restOf_71 : decode cX1_restOf 71 = .ok (.goto 5, 3) := dk_167 0 5 (dk_at dksX1_restOf_3 0 rfl rfl)
theorem dX1_restOf_74 : decode cX1_restOf 74 = .ok (.bipush (-2), 2) := dk_16 254 (dk_at dksX1_restOf_3 3 rfl rfl)
theorem dX1_restOf_76 : decode cX1_restOf 76 = .ok (.ireturn, 1) := dk_172 (dk_at dksX1_restOf_3 5 rfl rfl)
def dkwX1_rests_0 : List UInt8 := [42, 27, 28, 182, 1, 93, 154, 0, 5, 2, 172, 42, 27, 28, 182, 1, 96, 42, 2, 182, 1, 99, 172]
abbrev dktX1_rests_0 : List UInt8 := dkwX1_rests_0 ++ []
theorem dksX1_rests_0 : cX1_rests.data.toList.drop 0 = dktX1_rests_0 := by decide +kernel
theorem dX1_rests_0 : decode cX1_rests 0 = .ok (.aload_n 0, 1) := dk_42 (dk_at dksX1_rests_0 0 rfl rfl)
theorem dX1_rests_1 : decode cX1_rests 1 = .ok (.iload_n 1, 1) := dk_27 (dk_at dksX1_rests_0 1 rfl rfl)
theorem dX1_rests_2 : decode cX1_rests 2 = .ok (.iload_n 2, 1) := dk_28 (dk_at dksX1_rests_0 2 rfl rfl)
theorem dX1_rests_3 : decode cX1_rests 3 = .ok (.invokevirtual 349, 3) := dk_182 1 93 (dk_at dksX1_rests_0 3 rfl rfl)
theorem dX1_rests_6 : decode cX1_rests 6 = .ok (.ifCond .ne 5, 3) := dk_154 0 5 (dk_at dksX1_rests_0 6 rfl rfl)
theorem dX1_rests_9 : decode cX1_rests 9 = .ok (.iconst (-1), 1) := dk_2 (dk_at dksX1_rests_0 9 rfl rfl)
theorem dX1_rests_10 : decode cX1_rests 10 = .ok (.ireturn, 1) := dk_172 (dk_at dksX1_rests_0 10 rfl rfl)
theorem dX1_rests_11 : decode cX1_rests 11 = .ok (.aload_n 0, 1) := dk_42 (dk_at dksX1_rests_0 11 rfl rfl)
theorem dX1_rests_12 : decode cX1_rests 12 = .ok (.iload_n 1, 1) := dk_27 (dk_at dksX1_rests_0 12 rfl rfl)
theorem dX1_rests_13 : decode cX1_rests 13 = .ok (.iload_n 2, 1) := dk_28 (dk_at dksX1_rests_0 13 rfl rfl)
theorem dX1_rests_14 : decode cX1_rests 14 = .ok (.invokevirtual 352, 3) := dk_182 1 96 (dk_at dksX1_rests_0 14 rfl rfl)
theorem dX1_rests_17 : decode cX1_rests 17 = .ok (.aload_n 0, 1) := dk_42 (dk_at dksX1_rests_0 17 rfl rfl)
theorem dX1_rests_18 : decode cX1_rests 18 = .ok (.iconst (-1), 1) := dk_2 (dk_at dksX1_rests_0 18 rfl rfl)
theorem dX1_rests_19 : decode cX1_rests 19 = .ok (.invokevirtual 355, 3) := dk_182 1 99 (dk_at dksX1_rests_0 19 rfl rfl)
theorem dX1_rests_22 : decode cX1_rests 22 = .ok (.ireturn, 1) := dk_172 (dk_at dksX1_rests_0 22 rfl rfl)
def dkwX1_rest_1 : List UInt8 := [182, 1, 99, 172]
abbrev dktX1_rest_1 : List UInt8 := dkwX1_rest_1 ++ []
def dkwX1_rest_0 : List UInt8 := [42, 27, 28, 182, 1, 93, 153, 0, 7, 29, 156, 0, 5, 2, 172, 42, 27, 28, 182, 1, 96, 42, 29]
abbrev dktX1_rest_0 : List UInt8 := dkwX1_rest_0 ++ dktX1_rest_1
theorem dksX1_rest_0 : cX1_rest.data.toList.drop 0 = dktX1_rest_0 := by decide +kernel
theorem dksX1_rest_1 : cX1_rest.data.toList.drop 23 = dktX1_rest_1 := dk_seg dksX1_rest_0 23 rfl rfl
theorem dX1_rest_0 : decode cX1_rest 0 = .ok (.aload_n 0, 1) := dk_42 (dk_at dksX1_rest_0 0 rfl rfl)
theorem dX1_rest_1 : decode cX1_rest 1 = .ok (.iload_n 1, 1) := dk_27 (dk_at dksX1_rest_0 1 rfl rfl)
theorem dX1_rest_2 : decode cX1_rest 2 = .ok (.iload_n 2, 1) := dk_28 (dk_at dksX1_rest_0 2 rfl rfl)
theorem dX1_rest_3 : decode cX1_rest 3 = .ok (.invokevirtual 349, 3) := dk_182 1 93 (dk_at dksX1_rest_0 3 rfl rfl)
theorem dX1_rest_6 : decode cX1_rest 6 = .ok (.ifCond .eq 7, 3) := dk_153 0 7 (dk_at dksX1_rest_0 6 rfl rfl)
theorem dX1_rest_9 : decode cX1_rest 9 = .ok (.iload_n 3, 1) := dk_29 (dk_at dksX1_rest_0 9 rfl rfl)
theorem dX1_rest_10 : decode cX1_rest 10 = .ok (.ifCond .ge 5, 3) := dk_156 0 5 (dk_at dksX1_rest_0 10 rfl rfl)
theorem dX1_rest_13 : decode cX1_rest 13 = .ok (.iconst (-1), 1) := dk_2 (dk_at dksX1_rest_0 13 rfl rfl)
theorem dX1_rest_14 : decode cX1_rest 14 = .ok (.ireturn, 1) := dk_172 (dk_at dksX1_rest_0 14 rfl rfl)
theorem dX1_rest_15 : decode cX1_rest 15 = .ok (.aload_n 0, 1) := dk_42 (dk_at dksX1_rest_0 15 rfl rfl)
theorem dX1_rest_16 : decode cX1_rest 16 = .ok (.iload_n 1, 1) := dk_27 (dk_at dksX1_rest_0 16 rfl rfl)
theorem dX1_rest_17 : decode cX1_rest 17 = .ok (.iload_n 2, 1) := dk_28 (dk_at dksX1_rest_0 17 rfl rfl)
theorem dX1_rest_18 : decode cX1_rest 18 = .ok (.invokevirtual 352, 3) := dk_182 1 96 (dk_at dksX1_rest_0 18 rfl rfl)
theorem dX1_rest_21 : decode cX1_rest 21 = .ok (.aload_n 0, 1) := dk_42 (dk_at dksX1_rest_0 21 rfl rfl)
theorem dX1_rest_22 : decode cX1_rest 22 = .ok (.iload_n 3, 1) := dk_29 (dk_at dksX1_rest_0 22 rfl rfl)
theorem dX1_rest_23 : decode cX1_rest 23 = .ok (.invokevirtual 355, 3) := dk_182 1 99 (dk_at dksX1_rest_1 0 rfl rfl)
theorem dX1_rest_26 : decode cX1_rest 26 = .ok (.ireturn, 1) := dk_172 (dk_at dksX1_rest_1 3 rfl rfl)
def dkwX9_talk_3 : List UInt8 := [180, 0, 3, 180, 0, 32, 180, 0, 180, 27, 46, 28, 182, 0, 171, 87, 177]
abbrev dktX9_talk_3 : List UInt8 := dkwX9_talk_3 ++ []
def dkwX9_talk_2 : List UInt8 := [180, 0, 3, 180, 0, 32, 180, 0, 174, 27, 46, 42, 180, 0, 3, 180, 0, 32, 180, 0, 177, 27, 46, 42]
abbrev dktX9_talk_2 : List UInt8 := dkwX9_talk_2 ++ dktX9_talk_3
def dkwX9_talk_1 : List UInt8 := [46, 42, 180, 0, 3, 180, 0, 32, 180, 0, 180, 27, 46, 3, 182, 0, 167, 153, 0, 45, 42, 42]
abbrev dktX9_talk_1 : List UInt8 := dkwX9_talk_1 ++ dktX9_talk_2
def dkwX9_talk_0 : List UInt8 := [42, 42, 180, 0, 3, 180, 0, 32, 180, 0, 174, 27, 46, 42, 180, 0, 3, 180, 0, 32, 180, 0, 177, 27]
abbrev dktX9_talk_0 : List UInt8 := dkwX9_talk_0 ++ dktX9_talk_1
theorem dksX9_talk_0 : cX9_talk.data.toList.drop 0 = dktX9_talk_0 := by decide +kernel
theorem dksX9_talk_1 : cX9_talk.data.toList.drop 24 = dktX9_talk_1 := dk_seg dksX9_talk_0 24 rfl rfl
theorem dksX9_talk_2 : cX9_talk.data.toList.drop 46 = dktX9_talk_2 := dk_seg dksX9_talk_1 22 rfl rfl
theorem dksX9_talk_3 : cX9_talk.data.toList.drop 70 = dktX9_talk_3 := dk_seg dksX9_talk_2 24 rfl rfl
theorem dX9_talk_0 : decode cX9_talk 0 = .ok (.aload_n 0, 1) := dk_42 (dk_at dksX9_talk_0 0 rfl rfl)
theorem dX9_talk_1 : decode cX9_talk 1 = .ok (.aload_n 0, 1) := dk_42 (dk_at dksX9_talk_0 1 rfl rfl)
theorem dX9_talk_2 : decode cX9_talk 2 = .ok (.getfield 3, 3) := dk_180 0 3 (dk_at dksX9_talk_0 2 rfl rfl)
theorem dX9_talk_5 : decode cX9_talk 5 = .ok (.getfield 32, 3) := dk_180 0 32 (dk_at dksX9_talk_0 5 rfl rfl)
theorem dX9_talk_8 : decode cX9_talk 8 = .ok (.getfield 174, 3) := dk_180 0 174 (dk_at dksX9_talk_0 8 rfl rfl)
theorem dX9_talk_11 : decode cX9_talk 11 = .ok (.iload_n 1, 1) := dk_27 (dk_at dksX9_talk_0 11 rfl rfl)
theorem dX9_talk_12 : decode cX9_talk 12 = .ok (.iaload, 1) := dk_46 (dk_at dksX9_talk_0 12 rfl rfl)
theorem dX9_talk_13 : decode cX9_talk 13 = .ok (.aload_n 0, 1) := dk_42 (dk_at dksX9_talk_0 13 rfl rfl)
theorem dX9_talk_14 : decode cX9_talk 14 = .ok (.getfield 3, 3) := dk_180 0 3 (dk_at dksX9_talk_0 14 rfl rfl)
theorem dX9_talk_17 : decode cX9_talk 17 = .ok (.getfield 32, 3) := dk_180 0 32 (dk_at dksX9_talk_0 17 rfl rfl)
theorem dX9_talk_20 : decode cX9_talk 20 = .ok (.getfield 177, 3) := dk_180 0 177 (dk_at dksX9_talk_0 20 rfl rfl)
theorem dX9_talk_23 : decode cX9_talk 23 = .ok (.iload_n 1, 1) := dk_27 (dk_at dksX9_talk_0 23 rfl rfl)
theorem dX9_talk_24 : decode cX9_talk 24 = .ok (.iaload, 1) := dk_46 (dk_at dksX9_talk_1 0 rfl rfl)
theorem dX9_talk_25 : decode cX9_talk 25 = .ok (.aload_n 0, 1) := dk_42 (dk_at dksX9_talk_1 1 rfl rfl)
theorem dX9_talk_26 : decode cX9_talk 26 = .ok (.getfield 3, 3) := dk_180 0 3 (dk_at dksX9_talk_1 2 rfl rfl)
theorem dX9_talk_29 : decode cX9_talk 29 = .ok (.getfield 32, 3) := dk_180 0 32 (dk_at dksX9_talk_1 5 rfl rfl)
theorem dX9_talk_32 : decode cX9_talk 32 = .ok (.getfield 180, 3) := dk_180 0 180 (dk_at dksX9_talk_1 8 rfl rfl)
theorem dX9_talk_35 : decode cX9_talk 35 = .ok (.iload_n 1, 1) := dk_27 (dk_at dksX9_talk_1 11 rfl rfl)
theorem dX9_talk_36 : decode cX9_talk 36 = .ok (.iaload, 1) := dk_46 (dk_at dksX9_talk_1 12 rfl rfl)
theorem dX9_talk_37 : decode cX9_talk 37 = .ok (.iconst 0, 1) := dk_3 (dk_at dksX9_talk_1 13 rfl rfl)
theorem dX9_talk_38 : decode cX9_talk 38 = .ok (.invokevirtual 167, 3) := dk_182 0 167 (dk_at dksX9_talk_1 14 rfl rfl)
theorem dX9_talk_41 : decode cX9_talk 41 = .ok (.ifCond .eq 45, 3) := dk_153 0 45 (dk_at dksX9_talk_1 17 rfl rfl)
theorem dX9_talk_44 : decode cX9_talk 44 = .ok (.aload_n 0, 1) := dk_42 (dk_at dksX9_talk_1 20 rfl rfl)
theorem dX9_talk_45 : decode cX9_talk 45 = .ok (.aload_n 0, 1) := dk_42 (dk_at dksX9_talk_1 21 rfl rfl)
theorem dX9_talk_46 : decode cX9_talk 46 = .ok (.getfield 3, 3) := dk_180 0 3 (dk_at dksX9_talk_2 0 rfl rfl)
theorem dX9_talk_49 : decode cX9_talk 49 = .ok (.getfield 32, 3) := dk_180 0 32 (dk_at dksX9_talk_2 3 rfl rfl)
theorem dX9_talk_52 : decode cX9_talk 52 = .ok (.getfield 174, 3) := dk_180 0 174 (dk_at dksX9_talk_2 6 rfl rfl)
theorem dX9_talk_55 : decode cX9_talk 55 = .ok (.iload_n 1, 1) := dk_27 (dk_at dksX9_talk_2 9 rfl rfl)
theorem dX9_talk_56 : decode cX9_talk 56 = .ok (.iaload, 1) := dk_46 (dk_at dksX9_talk_2 10 rfl rfl)
theorem dX9_talk_57 : decode cX9_talk 57 = .ok (.aload_n 0, 1) := dk_42 (dk_at dksX9_talk_2 11 rfl rfl)
theorem dX9_talk_58 : decode cX9_talk 58 = .ok (.getfield 3, 3) := dk_180 0 3 (dk_at dksX9_talk_2 12 rfl rfl)
theorem dX9_talk_61 : decode cX9_talk 61 = .ok (.getfield 32, 3) := dk_180 0 32 (dk_at dksX9_talk_2 15 rfl rfl)
theorem dX9_talk_64 : decode cX9_talk 64 = .ok (.getfield 177, 3) := dk_180 0 177 (dk_at dksX9_talk_2 18 rfl rfl)
theorem dX9_talk_67 : decode cX9_talk 67 = .ok (.iload_n 1, 1) := dk_27 (dk_at dksX9_talk_2 21 rfl rfl)
theorem dX9_talk_68 : decode cX9_talk 68 = .ok (.iaload, 1) := dk_46 (dk_at dksX9_talk_2 22 rfl rfl)
theorem dX9_talk_69 : decode cX9_talk 69 = .ok (.aload_n 0, 1) := dk_42 (dk_at dksX9_talk_2 23 rfl rfl)
theorem dX9_talk_70 : decode cX9_talk 70 = .ok (.getfield 3, 3) := dk_180 0 3 (dk_at dksX9_talk_3 0 rfl rfl)
theorem dX9_talk_73 : decode cX9_talk 73 = .ok (.getfield 32, 3) := dk_180 0 32 (dk_at dksX9_talk_3 3 rfl rfl)
theorem dX9_talk_76 : decode cX9_talk 76 = .ok (.getfield 180, 3) := dk_180 0 180 (dk_at dksX9_talk_3 6 rfl rfl)
theorem dX9_talk_79 : decode cX9_talk 79 = .ok (.iload_n 1, 1) := dk_27 (dk_at dksX9_talk_3 9 rfl rfl)
theorem dX9_talk_80 : decode cX9_talk 80 = .ok (.iaload, 1) := dk_46 (dk_at dksX9_talk_3 10 rfl rfl)
theorem dX9_talk_81 : decode cX9_talk 81 = .ok (.iload_n 2, 1) := dk_28 (dk_at dksX9_talk_3 11 rfl rfl)
theorem dX9_talk_82 : decode cX9_talk 82 = .ok (.invokevirtual 171, 3) := dk_182 0 171 (dk_at dksX9_talk_3 12 rfl rfl)
theorem dX9_talk_85 : decode cX9_talk 85 = .ok (.pop, 1) := dk_87 (dk_at dksX9_talk_3 15 rfl rfl)
theorem dX9_talk_86 : decode cX9_talk 86 = .ok (.return_, 1) := dk_177 (dk_at dksX9_talk_3 16 rfl rfl)
def dkwX1_layTalk_1 : List UInt8 := [132, 2, 1, 167, 255, 239, 177]
abbrev dktX1_layTalk_1 : List UInt8 := dkwX1_layTalk_1 ++ []
def dkwX1_layTalk_0 : List UInt8 := [42, 180, 0, 99, 182, 0, 138, 3, 61, 28, 27, 162, 0, 18, 42, 180, 0, 99, 28, 3, 182, 1, 102]
abbrev dktX1_layTalk_0 : List UInt8 := dkwX1_layTalk_0 ++ dktX1_layTalk_1
theorem dksX1_layTalk_0 : cX1_layTalk.data.toList.drop 0 = dktX1_layTalk_0 := by decide +kernel
theorem dksX1_layTalk_1 : cX1_layTalk.data.toList.drop 23 = dktX1_layTalk_1 := dk_seg dksX1_layTalk_0 23 rfl rfl
theorem dX1_layTalk_0 : decode cX1_layTalk 0 = .ok (.aload_n 0, 1) := dk_42 (dk_at dksX1_layTalk_0 0 rfl rfl)
theorem dX1_layTalk_1 : decode cX1_layTalk 1 = .ok (.getfield 99, 3) := dk_180 0 99 (dk_at dksX1_layTalk_0 1 rfl rfl)
theorem dX1_layTalk_4 : decode cX1_layTalk 4 = .ok (.invokevirtual 138, 3) := dk_182 0 138 (dk_at dksX1_layTalk_0 4 rfl rfl)
theorem dX1_layTalk_7 : decode cX1_layTalk 7 = .ok (.iconst 0, 1) := dk_3 (dk_at dksX1_layTalk_0 7 rfl rfl)
theorem dX1_layTalk_8 : decode cX1_layTalk 8 = .ok (.istore_n 2, 1) := dk_61 (dk_at dksX1_layTalk_0 8 rfl rfl)
theorem dX1_layTalk_9 : decode cX1_layTalk 9 = .ok (.iload_n 2, 1) := dk_28 (dk_at dksX1_layTalk_0 9 rfl rfl)
theorem dX1_layTalk_10 : decode cX1_layTalk 10 = .ok (.iload_n 1, 1) := dk_27 (dk_at dksX1_layTalk_0 10 rfl rfl)
theorem dX1_layTalk_11 : decode cX1_layTalk 11 = .ok (.if_icmp .ge 18, 3) := dk_162 0 18 (dk_at dksX1_layTalk_0 11 rfl rfl)
theorem dX1_layTalk_14 : decode cX1_layTalk 14 = .ok (.aload_n 0, 1) := dk_42 (dk_at dksX1_layTalk_0 14 rfl rfl)
theorem dX1_layTalk_15 : decode cX1_layTalk 15 = .ok (.getfield 99, 3) := dk_180 0 99 (dk_at dksX1_layTalk_0 15 rfl rfl)
theorem dX1_layTalk_18 : decode cX1_layTalk 18 = .ok (.iload_n 2, 1) := dk_28 (dk_at dksX1_layTalk_0 18 rfl rfl)
theorem dX1_layTalk_19 : decode cX1_layTalk 19 = .ok (.iconst 0, 1) := dk_3 (dk_at dksX1_layTalk_0 19 rfl rfl)
theorem dX1_layTalk_20 : decode cX1_layTalk 20 = .ok (.invokevirtual 358, 3) := dk_182 1 102 (dk_at dksX1_layTalk_0 20 rfl rfl)
theorem dX1_layTalk_23 : decode cX1_layTalk 23 = .ok (.iinc 2 1, 3) := dk_132 2 1 (dk_at dksX1_layTalk_1 0 rfl rfl)
theorem dX1_layTalk_26 : decode cX1_layTalk 26 = .ok (.goto (-17), 3) := dk_167 255 239 (dk_at dksX1_layTalk_1 3 rfl rfl)
theorem dX1_layTalk_29 : decode cX1_layTalk 29 = .ok (.return_, 1) := dk_177 (dk_at dksX1_layTalk_1 6 rfl rfl)
def dkwX1_slipped_1 : List UInt8 := [180, 0, 99, 180, 0, 217, 27, 46, 172]
abbrev dktX1_slipped_1 : List UInt8 := dkwX1_slipped_1 ++ []
def dkwX1_slipped_0 : List UInt8 := [42, 27, 182, 0, 192, 154, 0, 5, 2, 172, 42, 42, 180, 0, 13, 180, 1, 106, 182, 1, 108, 42]
abbrev dktX1_slipped_0 : List UInt8 := dkwX1_slipped_0 ++ dktX1_slipped_1
theorem dksX1_slipped_0 : cX1_slipped.data.toList.drop 0 = dktX1_slipped_0 := by decide +kernel
theorem dksX1_slipped_1 : cX1_slipped.data.toList.drop 22 = dktX1_slipped_1 := dk_seg dksX1_slipped_0 22 rfl rfl
theorem dX1_slipped_0 : decode cX1_slipped 0 = .ok (.aload_n 0, 1) := dk_42 (dk_at dksX1_slipped_0 0 rfl rfl)
theorem dX1_slipped_1 : decode cX1_slipped 1 = .ok (.iload_n 1, 1) := dk_27 (dk_at dksX1_slipped_0 1 rfl rfl)
theorem dX1_slipped_2 : decode cX1_slipped 2 = .ok (.invokevirtual 192, 3) := dk_182 0 192 (dk_at dksX1_slipped_0 2 rfl rfl)
theorem dX1_slipped_5 : decode cX1_slipped 5 = .ok (.ifCond .ne 5, 3) := dk_154 0 5 (dk_at dksX1_slipped_0 5 rfl rfl)
theorem dX1_slipped_8 : decode cX1_slipped 8 = .ok (.iconst (-1), 1) := dk_2 (dk_at dksX1_slipped_0 8 rfl rfl)
theorem dX1_slipped_9 : decode cX1_slipped 9 = .ok (.ireturn, 1) := dk_172 (dk_at dksX1_slipped_0 9 rfl rfl)
theorem dX1_slipped_10 : decode cX1_slipped 10 = .ok (.aload_n 0, 1) := dk_42 (dk_at dksX1_slipped_0 10 rfl rfl)
theorem dX1_slipped_11 : decode cX1_slipped 11 = .ok (.aload_n 0, 1) := dk_42 (dk_at dksX1_slipped_0 11 rfl rfl)
theorem dX1_slipped_12 : decode cX1_slipped 12 = .ok (.getfield 13, 3) := dk_180 0 13 (dk_at dksX1_slipped_0 12 rfl rfl)
theorem dX1_slipped_15 : decode cX1_slipped 15 = .ok (.getfield 362, 3) := dk_180 1 106 (dk_at dksX1_slipped_0 15 rfl rfl)
theorem dX1_slipped_18 : decode cX1_slipped 18 = .ok (.invokevirtual 364, 3) := dk_182 1 108 (dk_at dksX1_slipped_0 18 rfl rfl)
theorem dX1_slipped_21 : decode cX1_slipped 21 = .ok (.aload_n 0, 1) := dk_42 (dk_at dksX1_slipped_0 21 rfl rfl)
theorem dX1_slipped_22 : decode cX1_slipped 22 = .ok (.getfield 99, 3) := dk_180 0 99 (dk_at dksX1_slipped_1 0 rfl rfl)
theorem dX1_slipped_25 : decode cX1_slipped 25 = .ok (.getfield 217, 3) := dk_180 0 217 (dk_at dksX1_slipped_1 3 rfl rfl)
theorem dX1_slipped_28 : decode cX1_slipped 28 = .ok (.iload_n 1, 1) := dk_27 (dk_at dksX1_slipped_1 6 rfl rfl)
theorem dX1_slipped_29 : decode cX1_slipped 29 = .ok (.iaload, 1) := dk_46 (dk_at dksX1_slipped_1 7 rfl rfl)
theorem dX1_slipped_30 : decode cX1_slipped 30 = .ok (.ireturn, 1) := dk_172 (dk_at dksX1_slipped_1 8 rfl rfl)
def dkwX1_behind_1 : List UInt8 := [154, 0, 5, 2, 172, 42, 27, 182, 1, 108, 42, 180, 0, 99, 180, 0, 214, 28, 46, 172]
abbrev dktX1_behind_1 : List UInt8 := dkwX1_behind_1 ++ []
def dkwX1_behind_0 : List UInt8 := [42, 28, 182, 0, 192, 153, 0, 20, 27, 133, 9, 42, 180, 0, 13, 180, 1, 106, 133, 184, 0, 147]
abbrev dktX1_behind_0 : List UInt8 := dkwX1_behind_0 ++ dktX1_behind_1
theorem dksX1_behind_0 : cX1_behind.data.toList.drop 0 = dktX1_behind_0 := by decide +kernel
theorem dksX1_behind_1 : cX1_behind.data.toList.drop 22 = dktX1_behind_1 := dk_seg dksX1_behind_0 22 rfl rfl
theorem dX1_behind_0 : decode cX1_behind 0 = .ok (.aload_n 0, 1) := dk_42 (dk_at dksX1_behind_0 0 rfl rfl)
theorem dX1_behind_1 : decode cX1_behind 1 = .ok (.iload_n 2, 1) := dk_28 (dk_at dksX1_behind_0 1 rfl rfl)
theorem dX1_behind_2 : decode cX1_behind 2 = .ok (.invokevirtual 192, 3) := dk_182 0 192 (dk_at dksX1_behind_0 2 rfl rfl)
theorem dX1_behind_5 : decode cX1_behind 5 = .ok (.ifCond .eq 20, 3) := dk_153 0 20 (dk_at dksX1_behind_0 5 rfl rfl)
theorem dX1_behind_8 : decode cX1_behind 8 = .ok (.iload_n 1, 1) := dk_27 (dk_at dksX1_behind_0 8 rfl rfl)
theorem dX1_behind_9 : decode cX1_behind 9 = .ok (.i2l, 1) := dk_133 (dk_at dksX1_behind_0 9 rfl rfl)
theorem dX1_behind_10 : decode cX1_behind 10 = .ok (.lconst 0, 1) := dk_9 (dk_at dksX1_behind_0 10 rfl rfl)
theorem dX1_behind_11 : decode cX1_behind 11 = .ok (.aload_n 0, 1) := dk_42 (dk_at dksX1_behind_0 11 rfl rfl)
theorem dX1_behind_12 : decode cX1_behind 12 = .ok (.getfield 13, 3) := dk_180 0 13 (dk_at dksX1_behind_0 12 rfl rfl)
theorem dX1_behind_15 : decode cX1_behind 15 = .ok (.getfield 362, 3) := dk_180 1 106 (dk_at dksX1_behind_0 15 rfl rfl)
theorem dX1_behind_18 : decode cX1_behind 18 = .ok (.i2l, 1) := dk_133 (dk_at dksX1_behind_0 18 rfl rfl)
theorem dX1_behind_19 : decode cX1_behind 19 = .ok (.invokestatic 147, 3) := dk_184 0 147 (dk_at dksX1_behind_0 19 rfl rfl)
theorem dX1_behind_22 : decode cX1_behind 22 = .ok (.ifCond .ne 5, 3) := dk_154 0 5 (dk_at dksX1_behind_1 0 rfl rfl)
theorem dX1_behind_25 : decode cX1_behind 25 = .ok (.iconst (-1), 1) := dk_2 (dk_at dksX1_behind_1 3 rfl rfl)
theorem dX1_behind_26 : decode cX1_behind 26 = .ok (.ireturn, 1) := dk_172 (dk_at dksX1_behind_1 4 rfl rfl)
theorem dX1_behind_27 : decode cX1_behind 27 = .ok (.aload_n 0, 1) := dk_42 (dk_at dksX1_behind_1 5 rfl rfl)
theorem dX1_behind_28 : decode cX1_behind 28 = .ok (.iload_n 1, 1) := dk_27 (dk_at dksX1_behind_1 6 rfl rfl)
theorem dX1_behind_29 : decode cX1_behind 29 = .ok (.invokevirtual 364, 3) := dk_182 1 108 (dk_at dksX1_behind_1 7 rfl rfl)
theorem dX1_behind_32 : decode cX1_behind 32 = .ok (.aload_n 0, 1) := dk_42 (dk_at dksX1_behind_1 10 rfl rfl)
theorem dX1_behind_33 : decode cX1_behind 33 = .ok (.getfield 99, 3) := dk_180 0 99 (dk_at dksX1_behind_1 11 rfl rfl)
theorem dX1_behind_36 : decode cX1_behind 36 = .ok (.getfield 214, 3) := dk_180 0 214 (dk_at dksX1_behind_1 14 rfl rfl)
theorem dX1_behind_39 : decode cX1_behind 39 = .ok (.iload_n 2, 1) := dk_28 (dk_at dksX1_behind_1 17 rfl rfl)
theorem dX1_behind_40 : decode cX1_behind 40 = .ok (.iaload, 1) := dk_46 (dk_at dksX1_behind_1 18 rfl rfl)
theorem dX1_behind_41 : decode cX1_behind 41 = .ok (.ireturn, 1) := dk_172 (dk_at dksX1_behind_1 19 rfl rfl)
theorem dX20_init_0 : decode cX20_init 0 = .ok (.aload_n 0, 1) := by decide +kernel
theorem dX20_init_1 : decode cX20_init 1 = .ok (.invokespecial 3, 3) := by decide +kernel
theorem dX20_init_4 : decode cX20_init 4 = .ok (.return_, 1) := by decide +kernel
def dkwX21_init_1 : List UInt8 := [181, 0, 19, 177]
abbrev dktX21_init_1 : List UInt8 := dkwX21_init_1 ++ []
def dkwX21_init_0 : List UInt8 := [42, 183, 0, 1, 42, 27, 181, 0, 7, 42, 28, 181, 0, 13, 42, 29, 181, 0, 16, 42, 21, 4]
abbrev dktX21_init_0 : List UInt8 := dkwX21_init_0 ++ dktX21_init_1
theorem dksX21_init_0 : cX21_init.data.toList.drop 0 = dktX21_init_0 := by decide +kernel
theorem dksX21_init_1 : cX21_init.data.toList.drop 22 = dktX21_init_1 := dk_seg dksX21_init_0 22 rfl rfl
theorem dX21_init_0 : decode cX21_init 0 = .ok (.aload_n 0, 1) := dk_42 (dk_at dksX21_init_0 0 rfl rfl)
theorem dX21_init_1 : decode cX21_init 1 = .ok (.invokespecial 1, 3) := dk_183 0 1 (dk_at dksX21_init_0 1 rfl rfl)
theorem dX21_init_4 : decode cX21_init 4 = .ok (.aload_n 0, 1) := dk_42 (dk_at dksX21_init_0 4 rfl rfl)
theorem dX21_init_5 : decode cX21_init 5 = .ok (.iload_n 1, 1) := dk_27 (dk_at dksX21_init_0 5 rfl rfl)
theorem dX21_init_6 : decode cX21_init 6 = .ok (.putfield 7, 3) := dk_181 0 7 (dk_at dksX21_init_0 6 rfl rfl)
theorem dX21_init_9 : decode cX21_init 9 = .ok (.aload_n 0, 1) := dk_42 (dk_at dksX21_init_0 9 rfl rfl)
theorem dX21_init_10 : decode cX21_init 10 = .ok (.iload_n 2, 1) := dk_28 (dk_at dksX21_init_0 10 rfl rfl)
theorem dX21_init_11 : decode cX21_init 11 = .ok (.putfield 13, 3) := dk_181 0 13 (dk_at dksX21_init_0 11 rfl rfl)
theorem dX21_init_14 : decode cX21_init 14 = .ok (.aload_n 0, 1) := dk_42 (dk_at dksX21_init_0 14 rfl rfl)
theorem dX21_init_15 : decode cX21_init 15 = .ok (.iload_n 3, 1) := dk_29 (dk_at dksX21_init_0 15 rfl rfl)
theorem dX21_init_16 : decode cX21_init 16 = .ok (.putfield 16, 3) := dk_181 0 16 (dk_at dksX21_init_0 16 rfl rfl)
theorem dX21_init_19 : decode cX21_init 19 = .ok (.aload_n 0, 1) := dk_42 (dk_at dksX21_init_0 19 rfl rfl)
theorem dX21_init_20 : decode cX21_init 20 = .ok (.iload 4, 2) := dk_21 4 (dk_at dksX21_init_0 20 rfl rfl)
theorem dX21_init_22 : decode cX21_init 22 = .ok (.putfield 19, 3) := dk_181 0 19 (dk_at dksX21_init_1 0 rfl rfl)
theorem dX21_init_25 : decode cX21_init 25 = .ok (.return_, 1) := dk_177 (dk_at dksX21_init_1 3 rfl rfl)
def dkwX1_add_0 : List UInt8 := [42, 180, 0, 128, 43, 182, 1, 111, 87, 42, 180, 0, 128, 182, 0, 23, 4, 100, 172]
abbrev dktX1_add_0 : List UInt8 := dkwX1_add_0 ++ []
theorem dksX1_add_0 : cX1_add.data.toList.drop 0 = dktX1_add_0 := by decide +kernel
theorem dX1_add_0 : decode cX1_add 0 = .ok (.aload_n 0, 1) := dk_42 (dk_at dksX1_add_0 0 rfl rfl)
theorem dX1_add_1 : decode cX1_add 1 = .ok (.getfield 128, 3) := dk_180 0 128 (dk_at dksX1_add_0 1 rfl rfl)
theorem dX1_add_4 : decode cX1_add 4 = .ok (.aload_n 1, 1) := dk_43 (dk_at dksX1_add_0 4 rfl rfl)
theorem dX1_add_5 : decode cX1_add 5 = .ok (.invokevirtual 367, 3) := dk_182 1 111 (dk_at dksX1_add_0 5 rfl rfl)
theorem dX1_add_8 : decode cX1_add 8 = .ok (.pop, 1) := dk_87 (dk_at dksX1_add_0 8 rfl rfl)
theorem dX1_add_9 : decode cX1_add 9 = .ok (.aload_n 0, 1) := dk_42 (dk_at dksX1_add_0 9 rfl rfl)
theorem dX1_add_10 : decode cX1_add 10 = .ok (.getfield 128, 3) := dk_180 0 128 (dk_at dksX1_add_0 10 rfl rfl)
theorem dX1_add_13 : decode cX1_add 13 = .ok (.invokevirtual 23, 3) := dk_182 0 23 (dk_at dksX1_add_0 13 rfl rfl)
theorem dX1_add_16 : decode cX1_add 16 = .ok (.iconst 1, 1) := dk_4 (dk_at dksX1_add_0 16 rfl rfl)
theorem dX1_add_17 : decode cX1_add 17 = .ok (.isub, 1) := dk_100 (dk_at dksX1_add_0 17 rfl rfl)
theorem dX1_add_18 : decode cX1_add 18 = .ok (.ireturn, 1) := dk_172 (dk_at dksX1_add_0 18 rfl rfl)
def dkwX1_note_2 : List UInt8 := [187, 1, 115, 89, 27, 28, 29, 21, 4, 183, 1, 117, 182, 1, 120, 167, 0, 4, 2, 172]
abbrev dktX1_note_2 : List UInt8 := dkwX1_note_2 ++ []
def dkwX1_note_1 : List UInt8 := [153, 0, 42, 42, 29, 182, 1, 11, 153, 0, 34, 42, 180, 0, 128, 182, 0, 23, 16, 24, 162, 0, 22, 42]
abbrev dktX1_note_1 : List UInt8 := dkwX1_note_1 ++ dktX1_note_2
def dkwX1_note_0 : List UInt8 := [27, 133, 9, 42, 180, 0, 13, 180, 1, 106, 133, 184, 0, 147, 153, 0, 50, 42, 28, 182, 0, 192]
abbrev dktX1_note_0 : List UInt8 := dkwX1_note_0 ++ dktX1_note_1
theorem dksX1_note_0 : cX1_note.data.toList.drop 0 = dktX1_note_0 := by decide +kernel
theorem dksX1_note_1 : cX1_note.data.toList.drop 22 = dktX1_note_1 := dk_seg dksX1_note_0 22 rfl rfl
theorem dksX1_note_2 : cX1_note.data.toList.drop 46 = dktX1_note_2 := dk_seg dksX1_note_1 24 rfl rfl
theorem dX1_note_0 : decode cX1_note 0 = .ok (.iload_n 1, 1) := dk_27 (dk_at dksX1_note_0 0 rfl rfl)
theorem dX1_note_1 : decode cX1_note 1 = .ok (.i2l, 1) := dk_133 (dk_at dksX1_note_0 1 rfl rfl)
theorem dX1_note_2 : decode cX1_note 2 = .ok (.lconst 0, 1) := dk_9 (dk_at dksX1_note_0 2 rfl rfl)
theorem dX1_note_3 : decode cX1_note 3 = .ok (.aload_n 0, 1) := dk_42 (dk_at dksX1_note_0 3 rfl rfl)
theorem dX1_note_4 : decode cX1_note 4 = .ok (.getfield 13, 3) := dk_180 0 13 (dk_at dksX1_note_0 4 rfl rfl)
theorem dX1_note_7 : decode cX1_note 7 = .ok (.getfield 362, 3) := dk_180 1 106 (dk_at dksX1_note_0 7 rfl rfl)
theorem dX1_note_10 : decode cX1_note 10 = .ok (.i2l, 1) := dk_133 (dk_at dksX1_note_0 10 rfl rfl)
theorem dX1_note_11 : decode cX1_note 11 = .ok (.invokestatic 147, 3) := dk_184 0 147 (dk_at dksX1_note_0 11 rfl rfl)
theorem dX1_note_14 : decode cX1_note 14 = .ok (.ifCond .eq 50, 3) := dk_153 0 50 (dk_at dksX1_note_0 14 rfl rfl)
theorem dX1_note_17 : decode cX1_note 17 = .ok (.aload_n 0, 1) := dk_42 (dk_at dksX1_note_0 17 rfl rfl)
theorem dX1_note_18 : decode cX1_note 18 = .ok (.iload_n 2, 1) := dk_28 (dk_at dksX1_note_0 18 rfl rfl)
theorem dX1_note_19 : decode cX1_note 19 = .ok (.invokevirtual 192, 3) := dk_182 0 192 (dk_at dksX1_note_0 19 rfl rfl)
theorem dX1_note_22 : decode cX1_note 22 = .ok (.ifCond .eq 42, 3) := dk_153 0 42 (dk_at dksX1_note_1 0 rfl rfl)
theorem dX1_note_25 : decode cX1_note 25 = .ok (.aload_n 0, 1) := dk_42 (dk_at dksX1_note_1 3 rfl rfl)
theorem dX1_note_26 : decode cX1_note 26 = .ok (.iload_n 3, 1) := dk_29 (dk_at dksX1_note_1 4 rfl rfl)
theorem dX1_note_27 : decode cX1_note 27 = .ok (.invokevirtual 267, 3) := dk_182 1 11 (dk_at dksX1_note_1 5 rfl rfl)
theorem dX1_note_30 : decode cX1_note 30 = .ok (.ifCond .eq 34, 3) := dk_153 0 34 (dk_at dksX1_note_1 8 rfl rfl)
theorem dX1_note_33 : decode cX1_note 33 = .ok (.aload_n 0, 1) := dk_42 (dk_at dksX1_note_1 11 rfl rfl)
theorem dX1_note_34 : decode cX1_note 34 = .ok (.getfield 128, 3) := dk_180 0 128 (dk_at dksX1_note_1 12 rfl rfl)
theorem dX1_note_37 : decode cX1_note 37 = .ok (.invokevirtual 23, 3) := dk_182 0 23 (dk_at dksX1_note_1 15 rfl rfl)
theorem dX1_note_40 : decode cX1_note 40 = .ok (.bipush 24, 2) := dk_16 24 (dk_at dksX1_note_1 18 rfl rfl)
theorem dX1_note_42 : decode cX1_note 42 = .ok (.if_icmp .ge 22, 3) := dk_162 0 22 (dk_at dksX1_note_1 20 rfl rfl)
theorem dX1_note_45 : decode cX1_note 45 = .ok (.aload_n 0, 1) := dk_42 (dk_at dksX1_note_1 23 rfl rfl)
theorem dX1_note_46 : decode cX1_note 46 = .ok (.new 371, 3) := dk_187 1 115 (dk_at dksX1_note_2 0 rfl rfl)
theorem dX1_note_49 : decode cX1_note 49 = .ok (.dup, 1) := dk_89 (dk_at dksX1_note_2 3 rfl rfl)
theorem dX1_note_50 : decode cX1_note 50 = .ok (.iload_n 1, 1) := dk_27 (dk_at dksX1_note_2 4 rfl rfl)
theorem dX1_note_51 : decode cX1_note 51 = .ok (.iload_n 2, 1) := dk_28 (dk_at dksX1_note_2 5 rfl rfl)
theorem dX1_note_52 : decode cX1_note 52 = .ok (.iload_n 3, 1) := dk_29 (dk_at dksX1_note_2 6 rfl rfl)
theorem dX1_note_53 : decode cX1_note 53 = .ok (.iload 4, 2) := dk_21 4 (dk_at dksX1_note_2 7 rfl rfl)
theorem dX1_note_55 : decode cX1_note 55 = .ok (.invokespecial 373, 3) := dk_183 1 117 (dk_at dksX1_note_2 9 rfl rfl)
theorem dX1_note_58 : decode cX1_note 58 = .ok (.invokevirtual 376, 3) := dk_182 1 120 (dk_at dksX1_note_2 12 rfl rfl)
theorem dX1_note_61 : decode cX1_note 61 = .ok (.goto 4, 3) := dk_167 0 4 (dk_at dksX1_note_2 15 rfl rfl)
theorem dX1_note_64 : decode cX1_note 64 = .ok (.iconst (-1), 1) := dk_2 (dk_at dksX1_note_2 18 rfl rfl)
theorem dX1_note_65 : decode cX1_note 65 = .ok (.ireturn, 1) := dk_172 (dk_at dksX1_note_2 19 rfl rfl)
def dkwX22_init_0 : List UInt8 := [42, 183, 0, 1, 42, 27, 181, 0, 7, 177]
abbrev dktX22_init_0 : List UInt8 := dkwX22_init_0 ++ []
theorem dksX22_init_0 : cX22_init.data.toList.drop 0 = dktX22_init_0 := by decide +kernel
theorem dX22_init_0 : decode cX22_init 0 = .ok (.aload_n 0, 1) := dk_42 (dk_at dksX22_init_0 0 rfl rfl)
theorem dX22_init_1 : decode cX22_init 1 = .ok (.invokespecial 1, 3) := dk_183 0 1 (dk_at dksX22_init_0 1 rfl rfl)
theorem dX22_init_4 : decode cX22_init 4 = .ok (.aload_n 0, 1) := dk_42 (dk_at dksX22_init_0 4 rfl rfl)
theorem dX22_init_5 : decode cX22_init 5 = .ok (.iload_n 1, 1) := dk_27 (dk_at dksX22_init_0 5 rfl rfl)
theorem dX22_init_6 : decode cX22_init 6 = .ok (.putfield 7, 3) := dk_181 0 7 (dk_at dksX22_init_0 6 rfl rfl)
theorem dX22_init_9 : decode cX22_init 9 = .ok (.return_, 1) := dk_177 (dk_at dksX22_init_0 9 rfl rfl)
def dkwX1_strike_2 : List UInt8 := [172]
abbrev dktX1_strike_2 : List UInt8 := dkwX1_strike_2 ++ []
def dkwX1_strike_1 : List UInt8 := [182, 0, 23, 16, 24, 162, 0, 18, 42, 187, 1, 123, 89, 27, 183, 1, 125, 182, 1, 120, 167, 0, 4, 2]
abbrev dktX1_strike_1 : List UInt8 := dkwX1_strike_1 ++ dktX1_strike_2
def dkwX1_strike_0 : List UInt8 := [27, 133, 9, 42, 180, 0, 128, 182, 0, 23, 4, 100, 133, 184, 0, 147, 153, 0, 30, 42, 180, 0, 128]
abbrev dktX1_strike_0 : List UInt8 := dkwX1_strike_0 ++ dktX1_strike_1
theorem dksX1_strike_0 : cX1_strike.data.toList.drop 0 = dktX1_strike_0 := by decide +kernel
theorem dksX1_strike_1 : cX1_strike.data.toList.drop 23 = dktX1_strike_1 := dk_seg dksX1_strike_0 23 rfl rfl
theorem dksX1_strike_2 : cX1_strike.data.toList.drop 47 = dktX1_strike_2 := dk_seg dksX1_strike_1 24 rfl rfl
theorem dX1_strike_0 : decode cX1_strike 0 = .ok (.iload_n 1, 1) := dk_27 (dk_at dksX1_strike_0 0 rfl rfl)
theorem dX1_strike_1 : decode cX1_strike 1 = .ok (.i2l, 1) := dk_133 (dk_at dksX1_strike_0 1 rfl rfl)
theorem dX1_strike_2 : decode cX1_strike 2 = .ok (.lconst 0, 1) := dk_9 (dk_at dksX1_strike_0 2 rfl rfl)
theorem dX1_strike_3 : decode cX1_strike 3 = .ok (.aload_n 0, 1) := dk_42 (dk_at dksX1_strike_0 3 rfl rfl)
theorem dX1_strike_4 : decode cX1_strike 4 = .ok (.getfield 128, 3) := dk_180 0 128 (dk_at dksX1_strike_0 4 rfl rfl)
theorem dX1_strike_7 : decode cX1_strike 7 = .ok (.invokevirtual 23, 3) := dk_182 0 23 (dk_at dksX1_strike_0 7 rfl rfl)
theorem dX1_strike_10 : decode cX1_strike 10 = .ok (.iconst 1, 1) := dk_4 (dk_at dksX1_strike_0 10 rfl rfl)
theorem dX1_strike_11 : decode cX1_strike 11 = .ok (.isub, 1) := dk_100 (dk_at dksX1_strike_0 11 rfl rfl)
theorem dX1_strike_12 : decode cX1_strike 12 = .ok (.i2l, 1) := dk_133 (dk_at dksX1_strike_0 12 rfl rfl)
theorem dX1_strike_13 : decode cX1_strike 13 = .ok (.invokestatic 147, 3) := dk_184 0 147 (dk_at dksX1_strike_0 13 rfl rfl)
theorem dX1_strike_16 : decode cX1_strike 16 = .ok (.ifCond .eq 30, 3) := dk_153 0 30 (dk_at dksX1_strike_0 16 rfl rfl)
theorem dX1_strike_19 : decode cX1_strike 19 = .ok (.aload_n 0, 1) := dk_42 (dk_at dksX1_strike_0 19 rfl rfl)
theorem dX1_strike_20 : decode cX1_strike 20 = .ok (.getfield 128, 3) := dk_180 0 128 (dk_at dksX1_strike_0 20 rfl rfl)
theorem dX1_strike_23 : decode cX1_strike 23 = .ok (.invokevirtual 23, 3) := dk_182 0 23 (dk_at dksX1_strike_1 0 rfl rfl)
theorem dX1_strike_26 : decode cX1_strike 26 = .ok (.bipush 24, 2) := dk_16 24 (dk_at dksX1_strike_1 3 rfl rfl)
theorem dX1_strike_28 : decode cX1_strike 28 = .ok (.if_icmp .ge 18, 3) := dk_162 0 18 (dk_at dksX1_strike_1 5 rfl rfl)
theorem dX1_strike_31 : decode cX1_strike 31 = .ok (.aload_n 0, 1) := dk_42 (dk_at dksX1_strike_1 8 rfl rfl)
theorem dX1_strike_32 : decode cX1_strike 32 = .ok (.new 379, 3) := dk_187 1 123 (dk_at dksX1_strike_1 9 rfl rfl)
theorem dX1_strike_35 : decode cX1_strike 35 = .ok (.dup, 1) := dk_89 (dk_at dksX1_strike_1 12 rfl rfl)
theorem dX1_strike_36 : decode cX1_strike 36 = .ok (.iload_n 1, 1) := dk_27 (dk_at dksX1_strike_1 13 rfl rfl)
theorem dX1_strike_37 : decode cX1_strike 37 = .ok (.invokespecial 381, 3) := dk_183 1 125 (dk_at dksX1_strike_1 14 rfl rfl)
theorem dX1_strike_40 : decode cX1_strike 40 = .ok (.invokevirtual 376, 3) := dk_182 1 120 (dk_at dksX1_strike_1 17 rfl rfl)
theorem dX1_strike_43 : decode cX1_strike 43 = .ok (.goto 4, 3) := dk_167 0 4 (dk_at dksX1_strike_1 20 rfl rfl)
theorem dX1_strike_46 : decode cX1_strike 46 = .ok (.iconst (-1), 1) := dk_2 (dk_at dksX1_strike_1 23 rfl rfl)
theorem dX1_strike_47 : decode cX1_strike 47 = .ok (.ireturn, 1) := dk_172 (dk_at dksX1_strike_2 0 rfl rfl)
def dkwX1_known_1 : List UInt8 := [181, 0, 135, 4, 172]
abbrev dktX1_known_1 : List UInt8 := dkwX1_known_1 ++ []
def dkwX1_known_0 : List UInt8 := [27, 133, 20, 1, 126, 42, 180, 0, 128, 182, 0, 23, 133, 184, 0, 147, 154, 0, 5, 3, 172, 42, 27]
abbrev dktX1_known_0 : List UInt8 := dkwX1_known_0 ++ dktX1_known_1
theorem dksX1_known_0 : cX1_known.data.toList.drop 0 = dktX1_known_0 := by decide +kernel
theorem dksX1_known_1 : cX1_known.data.toList.drop 23 = dktX1_known_1 := dk_seg dksX1_known_0 23 rfl rfl
theorem dX1_known_0 : decode cX1_known 0 = .ok (.iload_n 1, 1) := dk_27 (dk_at dksX1_known_0 0 rfl rfl)
theorem dX1_known_1 : decode cX1_known 1 = .ok (.i2l, 1) := dk_133 (dk_at dksX1_known_0 1 rfl rfl)
theorem dX1_known_2 : decode cX1_known 2 = .ok (.ldc2_w 382, 3) := dk_20 1 126 (dk_at dksX1_known_0 2 rfl rfl)
theorem dX1_known_5 : decode cX1_known 5 = .ok (.aload_n 0, 1) := dk_42 (dk_at dksX1_known_0 5 rfl rfl)
theorem dX1_known_6 : decode cX1_known 6 = .ok (.getfield 128, 3) := dk_180 0 128 (dk_at dksX1_known_0 6 rfl rfl)
theorem dX1_known_9 : decode cX1_known 9 = .ok (.invokevirtual 23, 3) := dk_182 0 23 (dk_at dksX1_known_0 9 rfl rfl)
theorem dX1_known_12 : decode cX1_known 12 = .ok (.i2l, 1) := dk_133 (dk_at dksX1_known_0 12 rfl rfl)
theorem dX1_known_13 : decode cX1_known 13 = .ok (.invokestatic 147, 3) := dk_184 0 147 (dk_at dksX1_known_0 13 rfl rfl)
theorem dX1_known_16 : decode cX1_known 16 = .ok (.ifCond .ne 5, 3) := dk_154 0 5 (dk_at dksX1_known_0 16 rfl rfl)
theorem dX1_known_19 : decode cX1_known 19 = .ok (.iconst 0, 1) := dk_3 (dk_at dksX1_known_0 19 rfl rfl)
theorem dX1_known_20 : decode cX1_known 20 = .ok (.ireturn, 1) := dk_172 (dk_at dksX1_known_0 20 rfl rfl)
theorem dX1_known_21 : decode cX1_known 21 = .ok (.aload_n 0, 1) := dk_42 (dk_at dksX1_known_0 21 rfl rfl)
theorem dX1_known_22 : decode cX1_known 22 = .ok (.iload_n 1, 1) := dk_27 (dk_at dksX1_known_0 22 rfl rfl)
theorem dX1_known_23 : decode cX1_known 23 = .ok (.putfield 135, 3) := dk_181 0 135 (dk_at dksX1_known_1 0 rfl rfl)
theorem dX1_known_26 : decode cX1_known 26 = .ok (.iconst 1, 1) := dk_4 (dk_at dksX1_known_1 3 rfl rfl)
theorem dX1_known_27 : decode cX1_known 27 = .ok (.ireturn, 1) := dk_172 (dk_at dksX1_known_1 4 rfl rfl)
def dkwX1_knownMany_0 : List UInt8 := [42, 180, 0, 135, 2, 160, 0, 13, 42, 180, 0, 128, 182, 0, 23, 167, 0, 7, 42, 180, 0, 135, 172]
abbrev dktX1_knownMany_0 : List UInt8 := dkwX1_knownMany_0 ++ []
theorem dksX1_knownMany_0 : cX1_knownMany.data.toList.drop 0 = dktX1_knownMany_0 := by decide +kernel
theorem dX1_knownMany_0 : decode cX1_knownMany 0 = .ok (.aload_n 0, 1) := dk_42 (dk_at dksX1_knownMany_0 0 rfl rfl)
theorem dX1_knownMany_1 : decode cX1_knownMany 1 = .ok (.getfield 135, 3) := dk_180 0 135 (dk_at dksX1_knownMany_0 1 rfl rfl)
theorem dX1_knownMany_4 : decode cX1_knownMany 4 = .ok (.iconst (-1), 1) := dk_2 (dk_at dksX1_knownMany_0 4 rfl rfl)
theorem dX1_knownMany_5 : decode cX1_knownMany 5 = .ok (.if_icmp .ne 13, 3) := dk_160 0 13 (dk_at dksX1_knownMany_0 5 rfl rfl)
theorem dX1_knownMany_8 : decode cX1_knownMany 8 = .ok (.aload_n 0, 1) := dk_42 (dk_at dksX1_knownMany_0 8 rfl rfl)
theorem dX1_knownMany_9 : decode cX1_knownMany 9 = .ok (.getfield 128, 3) := dk_180 0 128 (dk_at dksX1_knownMany_0 9 rfl rfl)
theorem dX1_knownMany_12 : decode cX1_knownMany 12 = .ok (.invokevirtual 23, 3) := dk_182 0 23 (dk_at dksX1_knownMany_0 12 rfl rfl)
theorem dX1_knownMany_15 : decode cX1_knownMany 15 = .ok (.goto 7, 3) := dk_167 0 7 (dk_at dksX1_knownMany_0 15 rfl rfl)
theorem dX1_knownMany_18 : decode cX1_knownMany 18 = .ok (.aload_n 0, 1) := dk_42 (dk_at dksX1_knownMany_0 18 rfl rfl)
theorem dX1_knownMany_19 : decode cX1_knownMany 19 = .ok (.getfield 135, 3) := dk_180 0 135 (dk_at dksX1_knownMany_0 19 rfl rfl)
theorem dX1_knownMany_22 : decode cX1_knownMany 22 = .ok (.ireturn, 1) := dk_172 (dk_at dksX1_knownMany_0 22 rfl rfl)
theorem dX20_struck_0 : decode cX20_struck 0 = .ok (.iconst (-1), 1) := by decide +kernel
theorem dX20_struck_1 : decode cX20_struck 1 = .ok (.ireturn, 1) := by decide +kernel
theorem dX22_struck_0 : decode cX22_struck 0 = .ok (.aload_n 0, 1) := by decide +kernel
theorem dX22_struck_1 : decode cX22_struck 1 = .ok (.getfield 7, 3) := by decide +kernel
theorem dX22_struck_4 : decode cX22_struck 4 = .ok (.ireturn, 1) := by decide +kernel
def dkwX21_isSo_1 : List UInt8 := [3, 42, 180, 0, 19, 160, 0, 7, 4, 167, 0, 4, 3, 172]
abbrev dktX21_isSo_1 : List UInt8 := dkwX21_isSo_1 ++ []
def dkwX21_isSo_0 : List UInt8 := [43, 180, 0, 23, 42, 180, 0, 13, 46, 42, 180, 0, 16, 122, 4, 126, 4, 160, 0, 7, 4, 167, 0, 4]
abbrev dktX21_isSo_0 : List UInt8 := dkwX21_isSo_0 ++ dktX21_isSo_1
theorem dksX21_isSo_0 : cX21_isSo.data.toList.drop 0 = dktX21_isSo_0 := by decide +kernel
theorem dksX21_isSo_1 : cX21_isSo.data.toList.drop 24 = dktX21_isSo_1 := dk_seg dksX21_isSo_0 24 rfl rfl
theorem dX21_isSo_0 : decode cX21_isSo 0 = .ok (.aload_n 1, 1) := dk_43 (dk_at dksX21_isSo_0 0 rfl rfl)
theorem dX21_isSo_1 : decode cX21_isSo 1 = .ok (.getfield 23, 3) := dk_180 0 23 (dk_at dksX21_isSo_0 1 rfl rfl)
theorem dX21_isSo_4 : decode cX21_isSo 4 = .ok (.aload_n 0, 1) := dk_42 (dk_at dksX21_isSo_0 4 rfl rfl)
theorem dX21_isSo_5 : decode cX21_isSo 5 = .ok (.getfield 13, 3) := dk_180 0 13 (dk_at dksX21_isSo_0 5 rfl rfl)
theorem dX21_isSo_8 : decode cX21_isSo 8 = .ok (.iaload, 1) := dk_46 (dk_at dksX21_isSo_0 8 rfl rfl)
theorem dX21_isSo_9 : decode cX21_isSo 9 = .ok (.aload_n 0, 1) := dk_42 (dk_at dksX21_isSo_0 9 rfl rfl)
theorem dX21_isSo_10 : decode cX21_isSo 10 = .ok (.getfield 16, 3) := dk_180 0 16 (dk_at dksX21_isSo_0 10 rfl rfl)
theorem dX21_isSo_13 : decode cX21_isSo 13 = .ok (.ishr, 1) := dk_122 (dk_at dksX21_isSo_0 13 rfl rfl)
theorem dX21_isSo_14 : decode cX21_isSo 14 = .ok (.iconst 1, 1) := dk_4 (dk_at dksX21_isSo_0 14 rfl rfl)
theorem dX21_isSo_15 : decode cX21_isSo 15 = .ok (.iand, 1) := dk_126 (dk_at dksX21_isSo_0 15 rfl rfl)
theorem dX21_isSo_16 : decode cX21_isSo 16 = .ok (.iconst 1, 1) := dk_4 (dk_at dksX21_isSo_0 16 rfl rfl)
theorem dX21_isSo_17 : decode cX21_isSo 17 = .ok (.if_icmp .ne 7, 3) := dk_160 0 7 (dk_at dksX21_isSo_0 17 rfl rfl)
theorem dX21_isSo_20 : decode cX21_isSo 20 = .ok (.iconst 1, 1) := dk_4 (dk_at dksX21_isSo_0 20 rfl rfl)
theorem dX21_isSo_21 : decode cX21_isSo 21 = .ok (.goto 4, 3) := dk_167 0 4 (dk_at dksX21_isSo_0 21 rfl rfl)
theorem dX21_isSo_24 : decode cX21_isSo 24 = .ok (.iconst 0, 1) := dk_3 (dk_at dksX21_isSo_1 0 rfl rfl)
theorem dX21_isSo_25 : decode cX21_isSo 25 = .ok (.aload_n 0, 1) := dk_42 (dk_at dksX21_isSo_1 1 rfl rfl)
theorem dX21_isSo_26 : decode cX21_isSo 26 = .ok (.getfield 19, 3) := dk_180 0 19 (dk_at dksX21_isSo_1 2 rfl rfl)
theorem dX21_isSo_29 : decode cX21_isSo 29 = .ok (.if_icmp .ne 7, 3) := dk_160 0 7 (dk_at dksX21_isSo_1 5 rfl rfl)
theorem dX21_isSo_32 : decode cX21_isSo 32 = .ok (.iconst 1, 1) := dk_4 (dk_at dksX21_isSo_1 8 rfl rfl)
theorem dX21_isSo_33 : decode cX21_isSo 33 = .ok (.goto 4, 3) := dk_167 0 4 (dk_at dksX21_isSo_1 9 rfl rfl)
theorem dX21_isSo_36 : decode cX21_isSo 36 = .ok (.iconst 0, 1) := dk_3 (dk_at dksX21_isSo_1 12 rfl rfl)
theorem dX21_isSo_37 : decode cX21_isSo 37 = .ok (.ireturn, 1) := dk_172 (dk_at dksX21_isSo_1 13 rfl rfl)
theorem dX20_isSo_0 : decode cX20_isSo 0 = .ok (.iconst 1, 1) := by decide +kernel
theorem dX20_isSo_1 : decode cX20_isSo 1 = .ok (.ireturn, 1) := by decide +kernel
theorem dX21_behind_0 : decode cX21_behind 0 = .ok (.aload_n 0, 1) := by decide +kernel
theorem dX21_behind_1 : decode cX21_behind 1 = .ok (.getfield 7, 3) := by decide +kernel
theorem dX21_behind_4 : decode cX21_behind 4 = .ok (.ireturn, 1) := by decide +kernel
theorem dX20_behind_0 : decode cX20_behind 0 = .ok (.iconst (-1), 1) := by decide +kernel
theorem dX20_behind_1 : decode cX20_behind 1 = .ok (.ireturn, 1) := by decide +kernel
def dkwX1_areSo_2 : List UInt8 := [42, 180, 0, 99, 182, 1, 136, 154, 0, 5, 3, 172, 132, 2, 1, 167, 255, 195, 4, 172]
abbrev dktX1_areSo_2 : List UInt8 := dkwX1_areSo_2 ++ []
def dkwX1_areSo_1 : List UInt8 := [182, 0, 199, 192, 1, 131, 182, 1, 133, 27, 160, 0, 26, 42, 180, 0, 128, 28, 182, 0, 199, 192, 1, 131]
abbrev dktX1_areSo_1 : List UInt8 := dkwX1_areSo_1 ++ dktX1_areSo_2
def dkwX1_areSo_0 : List UInt8 := [3, 61, 28, 42, 182, 1, 128, 162, 0, 59, 42, 180, 0, 131, 28, 51, 154, 0, 44, 42, 180, 0, 128, 28]
abbrev dktX1_areSo_0 : List UInt8 := dkwX1_areSo_0 ++ dktX1_areSo_1
theorem dksX1_areSo_0 : cX1_areSo.data.toList.drop 0 = dktX1_areSo_0 := by decide +kernel
theorem dksX1_areSo_1 : cX1_areSo.data.toList.drop 24 = dktX1_areSo_1 := dk_seg dksX1_areSo_0 24 rfl rfl
theorem dksX1_areSo_2 : cX1_areSo.data.toList.drop 48 = dktX1_areSo_2 := dk_seg dksX1_areSo_1 24 rfl rfl
theorem dX1_areSo_0 : decode cX1_areSo 0 = .ok (.iconst 0, 1) := dk_3 (dk_at dksX1_areSo_0 0 rfl rfl)
theorem dX1_areSo_1 : decode cX1_areSo 1 = .ok (.istore_n 2, 1) := dk_61 (dk_at dksX1_areSo_0 1 rfl rfl)
theorem dX1_areSo_2 : decode cX1_areSo 2 = .ok (.iload_n 2, 1) := dk_28 (dk_at dksX1_areSo_0 2 rfl rfl)
theorem dX1_areSo_3 : decode cX1_areSo 3 = .ok (.aload_n 0, 1) := dk_42 (dk_at dksX1_areSo_0 3 rfl rfl)
theorem dX1_areSo_4 : decode cX1_areSo 4 = .ok (.invokevirtual 384, 3) := dk_182 1 128 (dk_at dksX1_areSo_0 4 rfl rfl)
theorem dX1_areSo_7 : decode cX1_areSo 7 = .ok (.if_icmp .ge 59, 3) := dk_162 0 59 (dk_at dksX1_areSo_0 7 rfl rfl)
theorem dX1_areSo_10 : decode cX1_areSo 10 = .ok (.aload_n 0, 1) := dk_42 (dk_at dksX1_areSo_0 10 rfl rfl)
theorem dX1_areSo_11 : decode cX1_areSo 11 = .ok (.getfield 131, 3) := dk_180 0 131 (dk_at dksX1_areSo_0 11 rfl rfl)
theorem dX1_areSo_14 : decode cX1_areSo 14 = .ok (.iload_n 2, 1) := dk_28 (dk_at dksX1_areSo_0 14 rfl rfl)
theorem dX1_areSo_15 : decode cX1_areSo 15 = .ok (.baload, 1) := dk_51 (dk_at dksX1_areSo_0 15 rfl rfl)
theorem dX1_areSo_16 : decode cX1_areSo 16 = .ok (.ifCond .ne 44, 3) := dk_154 0 44 (dk_at dksX1_areSo_0 16 rfl rfl)
theorem dX1_areSo_19 : decode cX1_areSo 19 = .ok (.aload_n 0, 1) := dk_42 (dk_at dksX1_areSo_0 19 rfl rfl)
theorem dX1_areSo_20 : decode cX1_areSo 20 = .ok (.getfield 128, 3) := dk_180 0 128 (dk_at dksX1_areSo_0 20 rfl rfl)
theorem dX1_areSo_23 : decode cX1_areSo 23 = .ok (.iload_n 2, 1) := dk_28 (dk_at dksX1_areSo_0 23 rfl rfl)
theorem dX1_areSo_24 : decode cX1_areSo 24 = .ok (.invokevirtual 199, 3) := dk_182 0 199 (dk_at dksX1_areSo_1 0 rfl rfl)
theorem dX1_areSo_27 : decode cX1_areSo 27 = .ok (.checkcast 387, 3) := dk_192 1 131 (dk_at dksX1_areSo_1 3 rfl rfl)
theorem dX1_areSo_30 : decode cX1_areSo 30 = .ok (.invokevirtual 389, 3) := dk_182 1 133 (dk_at dksX1_areSo_1 6 rfl rfl)
theorem dX1_areSo_33 : decode cX1_areSo 33 = .ok (.iload_n 1, 1) := dk_27 (dk_at dksX1_areSo_1 9 rfl rfl)
theorem dX1_areSo_34 : decode cX1_areSo 34 = .ok (.if_icmp .ne 26, 3) := dk_160 0 26 (dk_at dksX1_areSo_1 10 rfl rfl)
theorem dX1_areSo_37 : decode cX1_areSo 37 = .ok (.aload_n 0, 1) := dk_42 (dk_at dksX1_areSo_1 13 rfl rfl)
theorem dX1_areSo_38 : decode cX1_areSo 38 = .ok (.getfield 128, 3) := dk_180 0 128 (dk_at dksX1_areSo_1 14 rfl rfl)
theorem dX1_areSo_41 : decode cX1_areSo 41 = .ok (.iload_n 2, 1) := dk_28 (dk_at dksX1_areSo_1 17 rfl rfl)
theorem dX1_areSo_42 : decode cX1_areSo 42 = .ok (.invokevirtual 199, 3) := dk_182 0 199 (dk_at dksX1_areSo_1 18 rfl rfl)
theorem dX1_areSo_45 : decode cX1_areSo 45 = .ok (.checkcast 387, 3) := dk_192 1 131 (dk_at dksX1_areSo_1 21 rfl rfl)
theorem dX1_areSo_48 : decode cX1_areSo 48 = .ok (.aload_n 0, 1) := dk_42 (dk_at dksX1_areSo_2 0 rfl rfl)
theorem dX1_areSo_49 : decode cX1_areSo 49 = .ok (.getfield 99, 3) := dk_180 0 99 (dk_at dksX1_areSo_2 1 rfl rfl)
theorem dX1_areSo_52 : decode cX1_areSo 52 = .ok (.invokevirtual 392, 3) := dk_182 1 136 (dk_at dksX1_areSo_2 4 rfl rfl)
theorem dX1_areSo_55 : decode cX1_areSo 55 = .ok (.ifCond .ne 5, 3) := dk_154 0 5 (dk_at dksX1_areSo_2 7 rfl rfl)
theorem dX1_areSo_58 : decode cX1_areSo 58 = .ok (.iconst 0, 1) := dk_3 (dk_at dksX1_areSo_2 10 rfl rfl)
theorem dX1_areSo_59 : decode cX1_areSo 59 = .ok (.ireturn, 1) := dk_172 (dk_at dksX1_areSo_2 11 rfl rfl)
theorem dX1_areSo_60 : decode cX1_areSo 60 = .ok (.iinc 2 1, 3) := dk_132 2 1 (dk_at dksX1_areSo_2 12 rfl rfl)
theorem dX1_areSo_63 : decode cX1_areSo 63 = .ok (.goto (-61), 3) := dk_167 255 195 (dk_at dksX1_areSo_2 15 rfl rfl)
theorem dX1_areSo_66 : decode cX1_areSo 66 = .ok (.iconst 1, 1) := dk_4 (dk_at dksX1_areSo_2 18 rfl rfl)
theorem dX1_areSo_67 : decode cX1_areSo 67 = .ok (.ireturn, 1) := dk_172 (dk_at dksX1_areSo_2 19 rfl rfl)
def dkwX1_isKnew_2 : List UInt8 := [3, 182, 1, 102, 132, 3, 1, 167, 255, 223, 42, 42, 180, 0, 13, 180, 1, 106, 182, 1, 140, 172]
abbrev dktX1_isKnew_2 : List UInt8 := dkwX1_isKnew_2 ++ []
def dkwX1_isKnew_1 : List UInt8 := [180, 0, 13, 180, 1, 106, 162, 0, 28, 42, 29, 182, 1, 140, 154, 0, 5, 3, 172, 42, 180, 0, 99, 29]
abbrev dktX1_isKnew_1 : List UInt8 := dkwX1_isKnew_1 ++ dktX1_isKnew_2
def dkwX1_isKnew_0 : List UInt8 := [42, 180, 0, 99, 182, 0, 138, 42, 180, 0, 99, 180, 0, 214, 27, 92, 46, 28, 128, 79, 3, 62, 29, 42]
abbrev dktX1_isKnew_0 : List UInt8 := dkwX1_isKnew_0 ++ dktX1_isKnew_1
theorem dksX1_isKnew_0 : cX1_isKnew.data.toList.drop 0 = dktX1_isKnew_0 := by decide +kernel
theorem dksX1_isKnew_1 : cX1_isKnew.data.toList.drop 24 = dktX1_isKnew_1 := dk_seg dksX1_isKnew_0 24 rfl rfl
theorem dksX1_isKnew_2 : cX1_isKnew.data.toList.drop 48 = dktX1_isKnew_2 := dk_seg dksX1_isKnew_1 24 rfl rfl
theorem dX1_isKnew_0 : decode cX1_isKnew 0 = .ok (.aload_n 0, 1) := dk_42 (dk_at dksX1_isKnew_0 0 rfl rfl)
theorem dX1_isKnew_1 : decode cX1_isKnew 1 = .ok (.getfield 99, 3) := dk_180 0 99 (dk_at dksX1_isKnew_0 1 rfl rfl)
theorem dX1_isKnew_4 : decode cX1_isKnew 4 = .ok (.invokevirtual 138, 3) := dk_182 0 138 (dk_at dksX1_isKnew_0 4 rfl rfl)
theorem dX1_isKnew_7 : decode cX1_isKnew 7 = .ok (.aload_n 0, 1) := dk_42 (dk_at dksX1_isKnew_0 7 rfl rfl)
theorem dX1_isKnew_8 : decode cX1_isKnew 8 = .ok (.getfield 99, 3) := dk_180 0 99 (dk_at dksX1_isKnew_0 8 rfl rfl)
theorem dX1_isKnew_11 : decode cX1_isKnew 11 = .ok (.getfield 214, 3) := dk_180 0 214 (dk_at dksX1_isKnew_0 11 rfl rfl)
theorem dX1_isKnew_14 : decode cX1_isKnew 14 = .ok (.iload_n 1, 1) := dk_27 (dk_at dksX1_isKnew_0 14 rfl rfl)
theorem dX1_isKnew_15 : decode cX1_isKnew 15 = .ok (.dup2, 1) := dk_92 (dk_at dksX1_isKnew_0 15 rfl rfl)
theorem dX1_isKnew_16 : decode cX1_isKnew 16 = .ok (.iaload, 1) := dk_46 (dk_at dksX1_isKnew_0 16 rfl rfl)
theorem dX1_isKnew_17 : decode cX1_isKnew 17 = .ok (.iload_n 2, 1) := dk_28 (dk_at dksX1_isKnew_0 17 rfl rfl)
theorem dX1_isKnew_18 : decode cX1_isKnew 18 = .ok (.ior, 1) := dk_128 (dk_at dksX1_isKnew_0 18 rfl rfl)
theorem dX1_isKnew_19 : decode cX1_isKnew 19 = .ok (.iastore, 1) := dk_79 (dk_at dksX1_isKnew_0 19 rfl rfl)
theorem dX1_isKnew_20 : decode cX1_isKnew 20 = .ok (.iconst 0, 1) := dk_3 (dk_at dksX1_isKnew_0 20 rfl rfl)
theorem dX1_isKnew_21 : decode cX1_isKnew 21 = .ok (.istore_n 3, 1) := dk_62 (dk_at dksX1_isKnew_0 21 rfl rfl)
theorem dX1_isKnew_22 : decode cX1_isKnew 22 = .ok (.iload_n 3, 1) := dk_29 (dk_at dksX1_isKnew_0 22 rfl rfl)
theorem dX1_isKnew_23 : decode cX1_isKnew 23 = .ok (.aload_n 0, 1) := dk_42 (dk_at dksX1_isKnew_0 23 rfl rfl)
theorem dX1_isKnew_24 : decode cX1_isKnew 24 = .ok (.getfield 13, 3) := dk_180 0 13 (dk_at dksX1_isKnew_1 0 rfl rfl)
theorem dX1_isKnew_27 : decode cX1_isKnew 27 = .ok (.getfield 362, 3) := dk_180 1 106 (dk_at dksX1_isKnew_1 3 rfl rfl)
theorem dX1_isKnew_30 : decode cX1_isKnew 30 = .ok (.if_icmp .ge 28, 3) := dk_162 0 28 (dk_at dksX1_isKnew_1 6 rfl rfl)
theorem dX1_isKnew_33 : decode cX1_isKnew 33 = .ok (.aload_n 0, 1) := dk_42 (dk_at dksX1_isKnew_1 9 rfl rfl)
theorem dX1_isKnew_34 : decode cX1_isKnew 34 = .ok (.iload_n 3, 1) := dk_29 (dk_at dksX1_isKnew_1 10 rfl rfl)
theorem dX1_isKnew_35 : decode cX1_isKnew 35 = .ok (.invokevirtual 396, 3) := dk_182 1 140 (dk_at dksX1_isKnew_1 11 rfl rfl)
theorem dX1_isKnew_38 : decode cX1_isKnew 38 = .ok (.ifCond .ne 5, 3) := dk_154 0 5 (dk_at dksX1_isKnew_1 14 rfl rfl)
theorem dX1_isKnew_41 : decode cX1_isKnew 41 = .ok (.iconst 0, 1) := dk_3 (dk_at dksX1_isKnew_1 17 rfl rfl)
theorem dX1_isKnew_42 : decode cX1_isKnew 42 = .ok (.ireturn, 1) := dk_172 (dk_at dksX1_isKnew_1 18 rfl rfl)
theorem dX1_isKnew_43 : decode cX1_isKnew 43 = .ok (.aload_n 0, 1) := dk_42 (dk_at dksX1_isKnew_1 19 rfl rfl)
theorem dX1_isKnew_44 : decode cX1_isKnew 44 = .ok (.getfield 99, 3) := dk_180 0 99 (dk_at dksX1_isKnew_1 20 rfl rfl)
theorem dX1_isKnew_47 : decode cX1_isKnew 47 = .ok (.iload_n 3, 1) := dk_29 (dk_at dksX1_isKnew_1 23 rfl rfl)
theorem dX1_isKnew_48 : decode cX1_isKnew 48 = .ok (.iconst 0, 1) := dk_3 (dk_at dksX1_isKnew_2 0 rfl rfl)
theorem dX1_isKnew_49 : decode cX1_isKnew 49 = .ok (.invokevirtual 358, 3) := dk_182 1 102 (dk_at dksX1_isKnew_2 1 rfl rfl)
theorem dX1_isKnew_52 : decode cX1_isKnew 52 = .ok (.iinc 3 1, 3) := dk_132 3 1 (dk_at dksX1_isKnew_2 4 rfl rfl)
theorem dX1_isKnew_55 : decode cX1_isKnew 55 = .ok (.goto (-33), 3) := dk_167 255 223 (dk_at dksX1_isKnew_2 7 rfl rfl)
theorem dX1_isKnew_58 : decode cX1_isKnew 58 = .ok (.aload_n 0, 1) := dk_42 (dk_at dksX1_isKnew_2 10 rfl rfl)
theorem dX1_isKnew_59 : decode cX1_isKnew 59 = .ok (.aload_n 0, 1) := dk_42 (dk_at dksX1_isKnew_2 11 rfl rfl)
theorem dX1_isKnew_60 : decode cX1_isKnew 60 = .ok (.getfield 13, 3) := dk_180 0 13 (dk_at dksX1_isKnew_2 12 rfl rfl)
theorem dX1_isKnew_63 : decode cX1_isKnew 63 = .ok (.getfield 362, 3) := dk_180 1 106 (dk_at dksX1_isKnew_2 15 rfl rfl)
theorem dX1_isKnew_66 : decode cX1_isKnew 66 = .ok (.invokevirtual 396, 3) := dk_182 1 140 (dk_at dksX1_isKnew_2 18 rfl rfl)
theorem dX1_isKnew_69 : decode cX1_isKnew 69 = .ok (.ireturn, 1) := dk_172 (dk_at dksX1_isKnew_2 21 rfl rfl)
def dkwX1_knew_6 : List UInt8 := [153, 0, 10, 4, 21, 4, 120, 167, 0, 4, 3, 128, 62, 132, 4, 1, 167, 255, 214, 29, 172]
abbrev dktX1_knew_6 : List UInt8 := dkwX1_knew_6 ++ []
def dkwX1_knew_5 : List UInt8 := [163, 0, 42, 29, 42, 27, 21, 4, 28, 162, 0, 10, 4, 21, 4, 120, 167, 0, 4, 3, 182, 1, 146]
abbrev dktX1_knew_5 : List UInt8 := dkwX1_knew_5 ++ dktX1_knew_6
def dkwX1_knew_4 : List UInt8 := [167, 255, 202, 42, 180, 0, 13, 180, 0, 179, 182, 0, 23, 61, 3, 62, 3, 54, 4, 21, 4, 28]
abbrev dktX1_knew_4 : List UInt8 := dkwX1_knew_4 ++ dktX1_knew_5
def dkwX1_knew_3 : List UInt8 := [180, 0, 131, 42, 180, 0, 128, 28, 182, 0, 199, 192, 1, 131, 182, 1, 143, 4, 84, 132, 2, 255]
abbrev dktX1_knew_3 : List UInt8 := dkwX1_knew_3 ++ dktX1_knew_4
def dkwX1_knew_2 : List UInt8 := [28, 51, 154, 0, 41, 42, 180, 0, 128, 28, 182, 0, 199, 192, 1, 131, 182, 1, 143, 2, 159, 0, 23, 42]
abbrev dktX1_knew_2 : List UInt8 := dkwX1_knew_2 ++ dktX1_knew_3
def dkwX1_knew_1 : List UInt8 := [28, 3, 84, 132, 2, 1, 167, 255, 238, 42, 182, 1, 128, 4, 100, 61, 28, 155, 0, 56, 42, 180, 0, 131]
abbrev dktX1_knew_1 : List UInt8 := dkwX1_knew_1 ++ dktX1_knew_2
def dkwX1_knew_0 : List UInt8 := [42, 27, 182, 0, 192, 154, 0, 5, 2, 172, 3, 61, 28, 42, 182, 1, 128, 162, 0, 16, 42, 180, 0, 131]
abbrev dktX1_knew_0 : List UInt8 := dkwX1_knew_0 ++ dktX1_knew_1
theorem dksX1_knew_0 : cX1_knew.data.toList.drop 0 = dktX1_knew_0 := by decide +kernel
theorem dksX1_knew_1 : cX1_knew.data.toList.drop 24 = dktX1_knew_1 := dk_seg dksX1_knew_0 24 rfl rfl
theorem dksX1_knew_2 : cX1_knew.data.toList.drop 48 = dktX1_knew_2 := dk_seg dksX1_knew_1 24 rfl rfl
theorem dksX1_knew_3 : cX1_knew.data.toList.drop 72 = dktX1_knew_3 := dk_seg dksX1_knew_2 24 rfl rfl
theorem dksX1_knew_4 : cX1_knew.data.toList.drop 94 = dktX1_knew_4 := dk_seg dksX1_knew_3 22 rfl rfl
theorem dksX1_knew_5 : cX1_knew.data.toList.drop 116 = dktX1_knew_5 := dk_seg dksX1_knew_4 22 rfl rfl
theorem dksX1_knew_6 : cX1_knew.data.toList.drop 139 = dktX1_knew_6 := dk_seg dksX1_knew_5 23 rfl rfl
theorem dX1_knew_0 : decode cX1_knew 0 = .ok (.aload_n 0, 1) := dk_42 (dk_at dksX1_knew_0 0 rfl rfl)
theorem dX1_knew_1 : decode cX1_knew 1 = .ok (.iload_n 1, 1) := dk_27 (dk_at dksX1_knew_0 1 rfl rfl)
theorem dX1_knew_2 : decode cX1_knew 2 = .ok (.invokevirtual 192, 3) := dk_182 0 192 (dk_at dksX1_knew_0 2 rfl rfl)
theorem dX1_knew_5 : decode cX1_knew 5 = .ok (.ifCond .ne 5, 3) := dk_154 0 5 (dk_at dksX1_knew_0 5 rfl rfl)
theorem dX1_knew_8 : decode cX1_knew 8 = .ok (.iconst (-1), 1) := dk_2 (dk_at dksX1_knew_0 8 rfl rfl)
theorem dX1_knew_9 : decode cX1_knew 9 = .ok (.ireturn, 1) := dk_172 (dk_at dksX1_knew_0 9 rfl rfl)
theorem dX1_knew_10 : decode cX1_knew 10 = .ok (.iconst 0, 1) := dk_3 (dk_at dksX1_knew_0 10 rfl rfl)
theorem dX1_knew_11 : decode cX1_knew 11 = .ok (.istore_n 2, 1) := dk_61 (dk_at dksX1_knew_0 11 rfl rfl)
theorem dX1_knew_12 : decode cX1_knew 12 = .ok (.iload_n 2, 1) := dk_28 (dk_at dksX1_knew_0 12 rfl rfl)
theorem dX1_knew_13 : decode cX1_knew 13 = .ok (.aload_n 0, 1) := dk_42 (dk_at dksX1_knew_0 13 rfl rfl)
theorem dX1_knew_14 : decode cX1_knew 14 = .ok (.invokevirtual 384, 3) := dk_182 1 128 (dk_at dksX1_knew_0 14 rfl rfl)
theorem dX1_knew_17 : decode cX1_knew 17 = .ok (.if_icmp .ge 16, 3) := dk_162 0 16 (dk_at dksX1_knew_0 17 rfl rfl)
theorem dX1_knew_20 : decode cX1_knew 20 = .ok (.aload_n 0, 1) := dk_42 (dk_at dksX1_knew_0 20 rfl rfl)
theorem dX1_knew_21 : decode cX1_knew 21 = .ok (.getfield 131, 3) := dk_180 0 131 (dk_at dksX1_knew_0 21 rfl rfl)
theorem dX1_knew_24 : decode cX1_knew 24 = .ok (.iload_n 2, 1) := dk_28 (dk_at dksX1_knew_1 0 rfl rfl)
theorem dX1_knew_25 : decode cX1_knew 25 = .ok (.iconst 0, 1) := dk_3 (dk_at dksX1_knew_1 1 rfl rfl)
theorem dX1_knew_26 : decode cX1_knew 26 = .ok (.bastore, 1) := dk_84 (dk_at dksX1_knew_1 2 rfl rfl)
theorem dX1_knew_27 : decode cX1_knew 27 = .ok (.iinc 2 1, 3) := dk_132 2 1 (dk_at dksX1_knew_1 3 rfl rfl)
theorem dX1_knew_30 : decode cX1_knew 30 = .ok (.goto (-18), 3) := dk_167 255 238 (dk_at dksX1_knew_1 6 rfl rfl)
theorem dX1_knew_33 : decode cX1_knew 33 = .ok (.aload_n 0, 1) := dk_42 (dk_at dksX1_knew_1 9 rfl rfl)
theorem dX1_knew_34 : decode cX1_knew 34 = .ok (.invokevirtual 384, 3) := dk_182 1 128 (dk_at dksX1_knew_1 10 rfl rfl)
theorem dX1_knew_37 : decode cX1_knew 37 = .ok (.iconst 1, 1) := dk_4 (dk_at dksX1_knew_1 13 rfl rfl)
theorem dX1_knew_38 : decode cX1_knew 38 = .ok (.isub, 1) := dk_100 (dk_at dksX1_knew_1 14 rfl rfl)
theorem dX1_knew_39 : decode cX1_knew 39 = .ok (.istore_n 2, 1) := dk_61 (dk_at dksX1_knew_1 15 rfl rfl)
theorem dX1_knew_40 : decode cX1_knew 40 = .ok (.iload_n 2, 1) := dk_28 (dk_at dksX1_knew_1 16 rfl rfl)
theorem dX1_knew_41 : decode cX1_knew 41 = .ok (.ifCond .lt 56, 3) := dk_155 0 56 (dk_at dksX1_knew_1 17 rfl rfl)
theorem dX1_knew_44 : decode cX1_knew 44 = .ok (.aload_n 0, 1) := dk_42 (dk_at dksX1_knew_1 20 rfl rfl)
theorem dX1_knew_45 : decode cX1_knew 45 = .ok (.getfield 131, 3) := dk_180 0 131 (dk_at dksX1_knew_1 21 rfl rfl)
theorem dX1_knew_48 : decode cX1_knew 48 = .ok (.iload_n 2, 1) := dk_28 (dk_at dksX1_knew_2 0 rfl rfl)
theorem dX1_knew_49 : decode cX1_knew 49 = .ok (.baload, 1) := dk_51 (dk_at dksX1_knew_2 1 rfl rfl)
theorem dX1_knew_50 : decode cX1_knew 50 = .ok (.ifCond .ne 41, 3) := dk_154 0 41 (dk_at dksX1_knew_2 2 rfl rfl)
theorem dX1_knew_53 : decode cX1_knew 53 = .ok (.aload_n 0, 1) := dk_42 (dk_at dksX1_knew_2 5 rfl rfl)
theorem dX1_knew_54 : decode cX1_knew 54 = .ok (.getfield 128, 3) := dk_180 0 128 (dk_at dksX1_knew_2 6 rfl rfl)
theorem dX1_knew_57 : decode cX1_knew 57 = .ok (.iload_n 2, 1) := dk_28 (dk_at dksX1_knew_2 9 rfl rfl)
theorem dX1_knew_58 : decode cX1_knew 58 = .ok (.invokevirtual 199, 3) := dk_182 0 199 (dk_at dksX1_knew_2 10 rfl rfl)
theorem dX1_knew_61 : decode cX1_knew 61 = .ok (.checkcast 387, 3) := dk_192 1 131 (dk_at dksX1_knew_2 13 rfl rfl)
theorem dX1_knew_64 : decode cX1_knew 64 = .ok (.invokevirtual 399, 3) := dk_182 1 143 (dk_at dksX1_knew_2 16 rfl rfl)
theorem dX1_knew_67 : decode cX1_knew 67 = .ok (.iconst (-1), 1) := dk_2 (dk_at dksX1_knew_2 19 rfl rfl)
theorem dX1_knew_68 : decode cX1_knew 68 = .ok (.if_icmp .eq 23, 3) := dk_159 0 23 (dk_at dksX1_knew_2 20 rfl rfl)
theorem dX1_knew_71 : decode cX1_knew 71 = .ok (.aload_n 0, 1) := dk_42 (dk_at dksX1_knew_2 23 rfl rfl)
theorem dX1_knew_72 : decode cX1_knew 72 = .ok (.getfield 131, 3) := dk_180 0 131 (dk_at dksX1_knew_3 0 rfl rfl)
theorem dX1_knew_75 : decode cX1_knew 75 = .ok (.aload_n 0, 1) := dk_42 (dk_at dksX1_knew_3 3 rfl rfl)
theorem dX1_knew_76 : decode cX1_knew 76 = .ok (.getfield 128, 3) := dk_180 0 128 (dk_at dksX1_knew_3 4 rfl rfl)
theorem dX1_knew_79 : decode cX1_knew 79 = .ok (.iload_n 2, 1) := dk_28 (dk_at dksX1_knew_3 7 rfl rfl)
theorem dX1_knew_80 : decode cX1_knew 80 = .ok (.invokevirtual 199, 3) := dk_182 0 199 (dk_at dksX1_knew_3 8 rfl rfl)
theorem dX1_knew_83 : decode cX1_knew 83 = .ok (.checkcast 387, 3) := dk_192 1 131 (dk_at dksX1_knew_3 11 rfl rfl)
theorem dX1_knew_86 : decode cX1_knew 86 = .ok (.invokevirtual 399, 3) := dk_182 1 143 (dk_at dksX1_knew_3 14 rfl rfl)
theorem dX1_knew_89 : decode cX1_knew 89 = .ok (.iconst 1, 1) := dk_4 (dk_at dksX1_knew_3 17 rfl rfl)
theorem dX1_knew_90 : decode cX1_knew 90 = .ok (.bastore, 1) := dk_84 (dk_at dksX1_knew_3 18 rfl rfl)
theorem dX1_knew_91 : decode cX1_knew 91 = .ok (.iinc 2 (-1), 3) := dk_132 2 255 (dk_at dksX1_knew_3 19 rfl rfl)
theorem dX1_knew_94 : decode cX1_knew 94 = .ok (.goto (-54), 3) := dk_167 255 202 (dk_at dksX1_knew_4 0 rfl rfl)
theorem dX1_knew_97 : decode cX1_knew 97 = .ok (.aload_n 0, 1) := dk_42 (dk_at dksX1_knew_4 3 rfl rfl)
theorem dX1_knew_98 : decode cX1_knew 98 = .ok (.getfield 13, 3) := dk_180 0 13 (dk_at dksX1_knew_4 4 rfl rfl)
theorem dX1_knew_101 : decode cX1_knew 101 = .ok (.getfield 179, 3) := dk_180 0 179 (dk_at dksX1_knew_4 7 rfl rfl)
theorem dX1_knew_104 : decode cX1_knew 104 = .ok (.invokevirtual 23, 3) := dk_182 0 23 (dk_at dksX1_knew_4 10 rfl rfl)
theorem dX1_knew_107 : decode cX1_knew 107 = .ok (.istore_n 2, 1) := dk_61 (dk_at dksX1_knew_4 13 rfl rfl)
theorem dX1_knew_108 : decode cX1_knew 108 = .ok (.iconst 0, 1) := dk_3 (dk_at dksX1_knew_4 14 rfl rfl)
theorem dX1_knew_109 : decode cX1_knew 109 = .ok (.istore_n 3, 1) := dk_62 (dk_at dksX1_knew_4 15 rfl rfl)
theorem dX1_knew_110 : decode cX1_knew 110 = .ok (.iconst 0, 1) := dk_3 (dk_at dksX1_knew_4 16 rfl rfl)
theorem dX1_knew_111 : decode cX1_knew 111 = .ok (.istore 4, 2) := dk_54 4 (dk_at dksX1_knew_4 17 rfl rfl)
theorem dX1_knew_113 : decode cX1_knew 113 = .ok (.iload 4, 2) := dk_21 4 (dk_at dksX1_knew_4 19 rfl rfl)
theorem dX1_knew_115 : decode cX1_knew 115 = .ok (.iload_n 2, 1) := dk_28 (dk_at dksX1_knew_4 21 rfl rfl)
theorem dX1_knew_116 : decode cX1_knew 116 = .ok (.if_icmp .gt 42, 3) := dk_163 0 42 (dk_at dksX1_knew_5 0 rfl rfl)
theorem dX1_knew_119 : decode cX1_knew 119 = .ok (.iload_n 3, 1) := dk_29 (dk_at dksX1_knew_5 3 rfl rfl)
theorem dX1_knew_120 : decode cX1_knew 120 = .ok (.aload_n 0, 1) := dk_42 (dk_at dksX1_knew_5 4 rfl rfl)
theorem dX1_knew_121 : decode cX1_knew 121 = .ok (.iload_n 1, 1) := dk_27 (dk_at dksX1_knew_5 5 rfl rfl)
theorem dX1_knew_122 : decode cX1_knew 122 = .ok (.iload 4, 2) := dk_21 4 (dk_at dksX1_knew_5 6 rfl rfl)
theorem dX1_knew_124 : decode cX1_knew 124 = .ok (.iload_n 2, 1) := dk_28 (dk_at dksX1_knew_5 8 rfl rfl)
theorem dX1_knew_125 : decode cX1_knew 125 = .ok (.if_icmp .ge 10, 3) := dk_162 0 10 (dk_at dksX1_knew_5 9 rfl rfl)
theorem dX1_knew_128 : decode cX1_knew 128 = .ok (.iconst 1, 1) := dk_4 (dk_at dksX1_knew_5 12 rfl rfl)
theorem dX1_knew_129 : decode cX1_knew 129 = .ok (.iload 4, 2) := dk_21 4 (dk_at dksX1_knew_5 13 rfl rfl)
theorem dX1_knew_131 : decode cX1_knew 131 = .ok (.ishl, 1) := dk_120 (dk_at dksX1_knew_5 15 rfl rfl)
theorem dX1_knew_132 : decode cX1_knew 132 = .ok (.goto 4, 3) := dk_167 0 4 (dk_at dksX1_knew_5 16 rfl rfl)
theorem dX1_knew_135 : decode cX1_knew 135 = .ok (.iconst 0, 1) := dk_3 (dk_at dksX1_knew_5 19 rfl rfl)
theorem dX1_knew_136 : decode cX1_knew 136 = .ok (.invokevirtual 402, 3) := dk_182 1 146 (dk_at dksX1_knew_5 20 rfl rfl)
theorem dX1_knew_139 : decode cX1_knew 139 = .ok (.ifCond .eq 10, 3) := dk_153 0 10 (dk_at dksX1_knew_6 0 rfl rfl)
theorem dX1_knew_142 : decode cX1_knew 142 = .ok (.iconst 1, 1) := dk_4 (dk_at dksX1_knew_6 3 rfl rfl)
theorem dX1_knew_143 : decode cX1_knew 143 = .ok (.iload 4, 2) := dk_21 4 (dk_at dksX1_knew_6 4 rfl rfl)
theorem dX1_knew_145 : decode cX1_knew 145 = .ok (.ishl, 1) := dk_120 (dk_at dksX1_knew_6 6 rfl rfl)
theorem dX1_knew_146 : decode cX1_knew 146 = .ok (.goto 4, 3) := dk_167 0 4 (dk_at dksX1_knew_6 7 rfl rfl)
theorem dX1_knew_149 : decode cX1_knew 149 = .ok (.iconst 0, 1) := dk_3 (dk_at dksX1_knew_6 10 rfl rfl)
theorem dX1_knew_150 : decode cX1_knew 150 = .ok (.ior, 1) := dk_128 (dk_at dksX1_knew_6 11 rfl rfl)
theorem dX1_knew_151 : decode cX1_knew 151 = .ok (.istore_n 3, 1) := dk_62 (dk_at dksX1_knew_6 12 rfl rfl)
theorem dX1_knew_152 : decode cX1_knew 152 = .ok (.iinc 4 1, 3) := dk_132 4 1 (dk_at dksX1_knew_6 13 rfl rfl)
theorem dX1_knew_155 : decode cX1_knew 155 = .ok (.goto (-42), 3) := dk_167 255 214 (dk_at dksX1_knew_6 16 rfl rfl)
theorem dX1_knew_158 : decode cX1_knew 158 = .ok (.iload_n 3, 1) := dk_29 (dk_at dksX1_knew_6 19 rfl rfl)
theorem dX1_knew_159 : decode cX1_knew 159 = .ok (.ireturn, 1) := dk_172 (dk_at dksX1_knew_6 20 rfl rfl)
def dkwX1_chance_5 : List UInt8 := [132, 6, 1, 167, 255, 168, 21, 4, 172]
abbrev dktX1_chance_5 : List UInt8 := dkwX1_chance_5 ++ []
def dkwX1_chance_4 : List UInt8 := [180, 1, 149, 54, 5, 21, 4, 42, 180, 0, 99, 180, 0, 214, 28, 46, 29, 122, 4, 126, 96, 54, 4]
abbrev dktX1_chance_4 : List UInt8 := dkwX1_chance_4 ++ dktX1_chance_5
def dkwX1_chance_3 : List UInt8 := [162, 0, 19, 42, 180, 0, 99, 21, 7, 4, 182, 1, 102, 132, 7, 1, 167, 255, 231, 42, 180, 0, 99]
abbrev dktX1_chance_3 : List UInt8 := dkwX1_chance_3 ++ dktX1_chance_4
def dkwX1_chance_2 : List UInt8 := [182, 1, 1, 42, 180, 0, 99, 21, 5, 181, 1, 149, 3, 54, 7, 21, 7, 42, 180, 0, 13, 180, 1, 106]
abbrev dktX1_chance_2 : List UInt8 := dkwX1_chance_2 ++ dktX1_chance_3
def dkwX1_chance_1 : List UInt8 := [54, 4, 27, 54, 5, 3, 54, 6, 21, 6, 16, 10, 162, 0, 87, 42, 180, 0, 99, 42, 180, 0, 95]
abbrev dktX1_chance_1 : List UInt8 := dkwX1_chance_1 ++ dktX1_chance_2
def dkwX1_chance_0 : List UInt8 := [27, 155, 0, 19, 42, 28, 182, 0, 192, 153, 0, 11, 42, 29, 182, 1, 11, 154, 0, 5, 2, 172, 3]
abbrev dktX1_chance_0 : List UInt8 := dkwX1_chance_0 ++ dktX1_chance_1
theorem dksX1_chance_0 : cX1_chance.data.toList.drop 0 = dktX1_chance_0 := by decide +kernel
theorem dksX1_chance_1 : cX1_chance.data.toList.drop 23 = dktX1_chance_1 := dk_seg dksX1_chance_0 23 rfl rfl
theorem dksX1_chance_2 : cX1_chance.data.toList.drop 46 = dktX1_chance_2 := dk_seg dksX1_chance_1 23 rfl rfl
theorem dksX1_chance_3 : cX1_chance.data.toList.drop 70 = dktX1_chance_3 := dk_seg dksX1_chance_2 24 rfl rfl
theorem dksX1_chance_4 : cX1_chance.data.toList.drop 93 = dktX1_chance_4 := dk_seg dksX1_chance_3 23 rfl rfl
theorem dksX1_chance_5 : cX1_chance.data.toList.drop 116 = dktX1_chance_5 := dk_seg dksX1_chance_4 23 rfl rfl
theorem dX1_chance_0 : decode cX1_chance 0 = .ok (.iload_n 1, 1) := dk_27 (dk_at dksX1_chance_0 0 rfl rfl)
theorem dX1_chance_1 : decode cX1_chance 1 = .ok (.ifCond .lt 19, 3) := dk_155 0 19 (dk_at dksX1_chance_0 1 rfl rfl)
theorem dX1_chance_4 : decode cX1_chance 4 = .ok (.aload_n 0, 1) := dk_42 (dk_at dksX1_chance_0 4 rfl rfl)
theorem dX1_chance_5 : decode cX1_chance 5 = .ok (.iload_n 2, 1) := dk_28 (dk_at dksX1_chance_0 5 rfl rfl)
theorem dX1_chance_6 : decode cX1_chance 6 = .ok (.invokevirtual 192, 3) := dk_182 0 192 (dk_at dksX1_chance_0 6 rfl rfl)
theorem dX1_chance_9 : decode cX1_chance 9 = .ok (.ifCond .eq 11, 3) := dk_153 0 11 (dk_at dksX1_chance_0 9 rfl rfl)
theorem dX1_chance_12 : decode cX1_chance 12 = .ok (.aload_n 0, 1) := dk_42 (dk_at dksX1_chance_0 12 rfl rfl)
theorem dX1_chance_13 : decode cX1_chance 13 = .ok (.iload_n 3, 1) := dk_29 (dk_at dksX1_chance_0 13 rfl rfl)
theorem dX1_chance_14 : decode cX1_chance 14 = .ok (.invokevirtual 267, 3) := dk_182 1 11 (dk_at dksX1_chance_0 14 rfl rfl)
theorem dX1_chance_17 : decode cX1_chance 17 = .ok (.ifCond .ne 5, 3) := dk_154 0 5 (dk_at dksX1_chance_0 17 rfl rfl)
theorem dX1_chance_20 : decode cX1_chance 20 = .ok (.iconst (-1), 1) := dk_2 (dk_at dksX1_chance_0 20 rfl rfl)
theorem dX1_chance_21 : decode cX1_chance 21 = .ok (.ireturn, 1) := dk_172 (dk_at dksX1_chance_0 21 rfl rfl)
theorem dX1_chance_22 : decode cX1_chance 22 = .ok (.iconst 0, 1) := dk_3 (dk_at dksX1_chance_0 22 rfl rfl)
theorem dX1_chance_23 : decode cX1_chance 23 = .ok (.istore 4, 2) := dk_54 4 (dk_at dksX1_chance_1 0 rfl rfl)
theorem dX1_chance_25 : decode cX1_chance 25 = .ok (.iload_n 1, 1) := dk_27 (dk_at dksX1_chance_1 2 rfl rfl)
theorem dX1_chance_26 : decode cX1_chance 26 = .ok (.istore 5, 2) := dk_54 5 (dk_at dksX1_chance_1 3 rfl rfl)
theorem dX1_chance_28 : decode cX1_chance 28 = .ok (.iconst 0, 1) := dk_3 (dk_at dksX1_chance_1 5 rfl rfl)
theorem dX1_chance_29 : decode cX1_chance 29 = .ok (.istore 6, 2) := dk_54 6 (dk_at dksX1_chance_1 6 rfl rfl)
theorem dX1_chance_31 : decode cX1_chance 31 = .ok (.iload 6, 2) := dk_21 6 (dk_at dksX1_chance_1 8 rfl rfl)
theorem dX1_chance_33 : decode cX1_chance 33 = .ok (.bipush 10, 2) := dk_16 10 (dk_at dksX1_chance_1 10 rfl rfl)
theorem dX1_chance_35 : decode cX1_chance 35 = .ok (.if_icmp .ge 87, 3) := dk_162 0 87 (dk_at dksX1_chance_1 12 rfl rfl)
theorem dX1_chance_38 : decode cX1_chance 38 = .ok (.aload_n 0, 1) := dk_42 (dk_at dksX1_chance_1 15 rfl rfl)
theorem dX1_chance_39 : decode cX1_chance 39 = .ok (.getfield 99, 3) := dk_180 0 99 (dk_at dksX1_chance_1 16 rfl rfl)
theorem dX1_chance_42 : decode cX1_chance 42 = .ok (.aload_n 0, 1) := dk_42 (dk_at dksX1_chance_1 19 rfl rfl)
theorem dX1_chance_43 : decode cX1_chance 43 = .ok (.getfield 95, 3) := dk_180 0 95 (dk_at dksX1_chance_1 20 rfl rfl)
theorem dX1_chance_46 : decode cX1_chance 46 = .ok (.invokevirtual 257, 3) := dk_182 1 1 (dk_at dksX1_chance_2 0 rfl rfl)
theorem dX1_chance_49 : decode cX1_chance 49 = .ok (.aload_n 0, 1) := dk_42 (dk_at dksX1_chance_2 3 rfl rfl)
theorem dX1_chance_50 : decode cX1_chance 50 = .ok (.getfield 99, 3) := dk_180 0 99 (dk_at dksX1_chance_2 4 rfl rfl)
theorem dX1_chance_53 : decode cX1_chance 53 = .ok (.iload 5, 2) := dk_21 5 (dk_at dksX1_chance_2 7 rfl rfl)
theorem dX1_chance_55 : decode cX1_chance 55 = .ok (.putfield 405, 3) := dk_181 1 149 (dk_at dksX1_chance_2 9 rfl rfl)
theorem dX1_chance_58 : decode cX1_chance 58 = .ok (.iconst 0, 1) := dk_3 (dk_at dksX1_chance_2 12 rfl rfl)
theorem dX1_chance_59 : decode cX1_chance 59 = .ok (.istore 7, 2) := dk_54 7 (dk_at dksX1_chance_2 13 rfl rfl)
theorem dX1_chance_61 : decode cX1_chance 61 = .ok (.iload 7, 2) := dk_21 7 (dk_at dksX1_chance_2 15 rfl rfl)
theorem dX1_chance_63 : decode cX1_chance 63 = .ok (.aload_n 0, 1) := dk_42 (dk_at dksX1_chance_2 17 rfl rfl)
theorem dX1_chance_64 : decode cX1_chance 64 = .ok (.getfield 13, 3) := dk_180 0 13 (dk_at dksX1_chance_2 18 rfl rfl)
theorem dX1_chance_67 : decode cX1_chance 67 = .ok (.getfield 362, 3) := dk_180 1 106 (dk_at dksX1_chance_2 21 rfl rfl)
theorem dX1_chance_70 : decode cX1_chance 70 = .ok (.if_icmp .ge 19, 3) := dk_162 0 19 (dk_at dksX1_chance_3 0 rfl rfl)
theorem dX1_chance_73 : decode cX1_chance 73 = .ok (.aload_n 0, 1) := dk_42 (dk_at dksX1_chance_3 3 rfl rfl)
theorem dX1_chance_74 : decode cX1_chance 74 = .ok (.getfield 99, 3) := dk_180 0 99 (dk_at dksX1_chance_3 4 rfl rfl)
theorem dX1_chance_77 : decode cX1_chance 77 = .ok (.iload 7, 2) := dk_21 7 (dk_at dksX1_chance_3 7 rfl rfl)
theorem dX1_chance_79 : decode cX1_chance 79 = .ok (.iconst 1, 1) := dk_4 (dk_at dksX1_chance_3 9 rfl rfl)
theorem dX1_chance_80 : decode cX1_chance 80 = .ok (.invokevirtual 358, 3) := dk_182 1 102 (dk_at dksX1_chance_3 10 rfl rfl)
theorem dX1_chance_83 : decode cX1_chance 83 = .ok (.iinc 7 1, 3) := dk_132 7 1 (dk_at dksX1_chance_3 13 rfl rfl)
theorem dX1_chance_86 : decode cX1_chance 86 = .ok (.goto (-25), 3) := dk_167 255 231 (dk_at dksX1_chance_3 16 rfl rfl)
theorem dX1_chance_89 : decode cX1_chance 89 = .ok (.aload_n 0, 1) := dk_42 (dk_at dksX1_chance_3 19 rfl rfl)
theorem dX1_chance_90 : decode cX1_chance 90 = .ok (.getfield 99, 3) := dk_180 0 99 (dk_at dksX1_chance_3 20 rfl rfl)
theorem dX1_chance_93 : decode cX1_chance 93 = .ok (.getfield 405, 3) := dk_180 1 149 (dk_at dksX1_chance_4 0 rfl rfl)
theorem dX1_chance_96 : decode cX1_chance 96 = .ok (.istore 5, 2) := dk_54 5 (dk_at dksX1_chance_4 3 rfl rfl)
theorem dX1_chance_98 : decode cX1_chance 98 = .ok (.iload 4, 2) := dk_21 4 (dk_at dksX1_chance_4 5 rfl rfl)
theorem dX1_chance_100 : decode cX1_chance 100 = .ok (.aload_n 0, 1) := dk_42 (dk_at dksX1_chance_4 7 rfl rfl)
theorem dX1_chance_101 : decode cX1_chance 101 = .ok (.getfield 99, 3) := dk_180 0 99 (dk_at dksX1_chance_4 8 rfl rfl)
theorem dX1_chance_104 : decode cX1_chance 104 = .ok (.getfield 214, 3) := dk_180 0 214 (dk_at dksX1_chance_4 11 rfl rfl)
theorem dX1_chance_107 : decode cX1_chance 107 = .ok (.iload_n 2, 1) := dk_28 (dk_at dksX1_chance_4 14 rfl rfl)
theorem dX1_chance_108 : decode cX1_chance 108 = .ok (.iaload, 1) := dk_46 (dk_at dksX1_chance_4 15 rfl rfl)
theorem dX1_chance_109 : decode cX1_chance 109 = .ok (.iload_n 3, 1) := dk_29 (dk_at dksX1_chance_4 16 rfl rfl)
theorem dX1_chance_110 : decode cX1_chance 110 = .ok (.ishr, 1) := dk_122 (dk_at dksX1_chance_4 17 rfl rfl)
theorem dX1_chance_111 : decode cX1_chance 111 = .ok (.iconst 1, 1) := dk_4 (dk_at dksX1_chance_4 18 rfl rfl)
theorem dX1_chance_112 : decode cX1_chance 112 = .ok (.iand, 1) := dk_126 (dk_at dksX1_chance_4 19 rfl rfl)
theorem dX1_chance_113 : decode cX1_chance 113 = .ok (.iadd, 1) := dk_96 (dk_at dksX1_chance_4 20 rfl rfl)
theorem dX1_chance_114 : decode cX1_chance 114 = .ok (.istore 4, 2) := dk_54 4 (dk_at dksX1_chance_4 21 rfl rfl)
theorem dX1_chance_116 : decode cX1_chance 116 = .ok (.iinc 6 1, 3) := dk_132 6 1 (dk_at dksX1_chance_5 0 rfl rfl)
theorem dX1_chance_119 : decode cX1_chance 119 = .ok (.goto (-88), 3) := dk_167 255 168 (dk_at dksX1_chance_5 3 rfl rfl)
theorem dX1_chance_122 : decode cX1_chance 122 = .ok (.iload 4, 2) := dk_21 4 (dk_at dksX1_chance_5 6 rfl rfl)
theorem dX1_chance_124 : decode cX1_chance 124 = .ok (.ireturn, 1) := dk_172 (dk_at dksX1_chance_5 8 rfl rfl)
def dkwX1_tried_4 : List UInt8 := [181, 1, 19, 42, 180, 0, 99, 182, 1, 22, 42, 180, 0, 99, 182, 1, 45, 172]
abbrev dktX1_tried_4 : List UInt8 := dkwX1_tried_4 ++ []
def dkwX1_tried_3 : List UInt8 := [181, 1, 154, 42, 180, 0, 99, 28, 181, 1, 157, 27, 5, 160, 0, 13, 42, 180, 0, 99, 4, 28, 120]
abbrev dktX1_tried_3 : List UInt8 := dkwX1_tried_3 ++ dktX1_tried_4
def dkwX1_tried_2 : List UInt8 := [62, 29, 154, 0, 5, 2, 172, 42, 180, 0, 99, 42, 180, 0, 95, 182, 1, 1, 42, 180, 0, 99, 27]
abbrev dktX1_tried_2 : List UInt8 := dkwX1_tried_2 ++ dktX1_tried_3
def dkwX1_tried_1 : List UInt8 := [167, 0, 24, 27, 133, 9, 20, 1, 152, 184, 0, 147, 153, 0, 11, 28, 154, 0, 7, 4, 167, 0, 4, 3]
abbrev dktX1_tried_1 : List UInt8 := dkwX1_tried_1 ++ dktX1_tried_2
def dkwX1_tried_0 : List UInt8 := [27, 5, 160, 0, 11, 42, 28, 182, 0, 192, 167, 0, 37, 27, 6, 160, 0, 11, 42, 28, 182, 0, 226]
abbrev dktX1_tried_0 : List UInt8 := dkwX1_tried_0 ++ dktX1_tried_1
theorem dksX1_tried_0 : cX1_tried.data.toList.drop 0 = dktX1_tried_0 := by decide +kernel
theorem dksX1_tried_1 : cX1_tried.data.toList.drop 23 = dktX1_tried_1 := dk_seg dksX1_tried_0 23 rfl rfl
theorem dksX1_tried_2 : cX1_tried.data.toList.drop 47 = dktX1_tried_2 := dk_seg dksX1_tried_1 24 rfl rfl
theorem dksX1_tried_3 : cX1_tried.data.toList.drop 70 = dktX1_tried_3 := dk_seg dksX1_tried_2 23 rfl rfl
theorem dksX1_tried_4 : cX1_tried.data.toList.drop 93 = dktX1_tried_4 := dk_seg dksX1_tried_3 23 rfl rfl
theorem dX1_tried_0 : decode cX1_tried 0 = .ok (.iload_n 1, 1) := dk_27 (dk_at dksX1_tried_0 0 rfl rfl)
theorem dX1_tried_1 : decode cX1_tried 1 = .ok (.iconst 2, 1) := dk_5 (dk_at dksX1_tried_0 1 rfl rfl)
theorem dX1_tried_2 : decode cX1_tried 2 = .ok (.if_icmp .ne 11, 3) := dk_160 0 11 (dk_at dksX1_tried_0 2 rfl rfl)
theorem dX1_tried_5 : decode cX1_tried 5 = .ok (.aload_n 0, 1) := dk_42 (dk_at dksX1_tried_0 5 rfl rfl)
theorem dX1_tried_6 : decode cX1_tried 6 = .ok (.iload_n 2, 1) := dk_28 (dk_at dksX1_tried_0 6 rfl rfl)
theorem dX1_tried_7 : decode cX1_tried 7 = .ok (.invokevirtual 192, 3) := dk_182 0 192 (dk_at dksX1_tried_0 7 rfl rfl)
theorem dX1_tried_10 : decode cX1_tried 10 = .ok (.goto 37, 3) := dk_167 0 37 (dk_at dksX1_tried_0 10 rfl rfl)
theorem dX1_tried_13 : decode cX1_tried 13 = .ok (.iload_n 1, 1) := dk_27 (dk_at dksX1_tried_0 13 rfl rfl)
theorem dX1_tried_14 : decode cX1_tried 14 = .ok (.iconst 3, 1) := dk_6 (dk_at dksX1_tried_0 14 rfl rfl)
theorem dX1_tried_15 : decode cX1_tried 15 = .ok (.if_icmp .ne 11, 3) := dk_160 0 11 (dk_at dksX1_tried_0 15 rfl rfl)
theorem dX1_tried_18 : decode cX1_tried 18 = .ok (.aload_n 0, 1) := dk_42 (dk_at dksX1_tried_0 18 rfl rfl)
theorem dX1_tried_19 : decode cX1_tried 19 = .ok (.iload_n 2, 1) := dk_28 (dk_at dksX1_tried_0 19 rfl rfl)
theorem dX1_tried_20 : decode cX1_tried 20 = .ok (.invokevirtual 226, 3) := dk_182 0 226 (dk_at dksX1_tried_0 20 rfl rfl)
theorem dX1_tried_23 : decode cX1_tried 23 = .ok (.goto 24, 3) := dk_167 0 24 (dk_at dksX1_tried_1 0 rfl rfl)
theorem dX1_tried_26 : decode cX1_tried 26 = .ok (.iload_n 1, 1) := dk_27 (dk_at dksX1_tried_1 3 rfl rfl)
theorem dX1_tried_27 : decode cX1_tried 27 = .ok (.i2l, 1) := dk_133 (dk_at dksX1_tried_1 4 rfl rfl)
theorem dX1_tried_28 : decode cX1_tried 28 = .ok (.lconst 0, 1) := dk_9 (dk_at dksX1_tried_1 5 rfl rfl)
theorem dX1_tried_29 : decode cX1_tried 29 = .ok (.ldc2_w 408, 3) := dk_20 1 152 (dk_at dksX1_tried_1 6 rfl rfl)
theorem dX1_tried_32 : decode cX1_tried 32 = .ok (.invokestatic 147, 3) := dk_184 0 147 (dk_at dksX1_tried_1 9 rfl rfl)
theorem dX1_tried_35 : decode cX1_tried 35 = .ok (.ifCond .eq 11, 3) := dk_153 0 11 (dk_at dksX1_tried_1 12 rfl rfl)
theorem dX1_tried_38 : decode cX1_tried 38 = .ok (.iload_n 2, 1) := dk_28 (dk_at dksX1_tried_1 15 rfl rfl)
theorem dX1_tried_39 : decode cX1_tried 39 = .ok (.ifCond .ne 7, 3) := dk_154 0 7 (dk_at dksX1_tried_1 16 rfl rfl)
theorem dX1_tried_42 : decode cX1_tried 42 = .ok (.iconst 1, 1) := dk_4 (dk_at dksX1_tried_1 19 rfl rfl)
theorem dX1_tried_43 : decode cX1_tried 43 = .ok (.goto 4, 3) := dk_167 0 4 (dk_at dksX1_tried_1 20 rfl rfl)
theorem dX1_tried_46 : decode cX1_tried 46 = .ok (.iconst 0, 1) := dk_3 (dk_at dksX1_tried_1 23 rfl rfl)
theorem dX1_tried_47 : decode cX1_tried 47 = .ok (.istore_n 3, 1) := dk_62 (dk_at dksX1_tried_2 0 rfl rfl)
theorem dX1_tried_48 : decode cX1_tried 48 = .ok (.iload_n 3, 1) := dk_29 (dk_at dksX1_tried_2 1 rfl rfl)
theorem dX1_tried_49 : decode cX1_tried 49 = .ok (.ifCond .ne 5, 3) := dk_154 0 5 (dk_at dksX1_tried_2 2 rfl rfl)
theorem dX1_tried_52 : decode cX1_tried 52 = .ok (.iconst (-1), 1) := dk_2 (dk_at dksX1_tried_2 5 rfl rfl)
theorem dX1_tried_53 : decode cX1_tried 53 = .ok (.ireturn, 1) := dk_172 (dk_at dksX1_tried_2 6 rfl rfl)
theorem dX1_tried_54 : decode cX1_tried 54 = .ok (.aload_n 0, 1) := dk_42 (dk_at dksX1_tried_2 7 rfl rfl)
theorem dX1_tried_55 : decode cX1_tried 55 = .ok (.getfield 99, 3) := dk_180 0 99 (dk_at dksX1_tried_2 8 rfl rfl)
theorem dX1_tried_58 : decode cX1_tried 58 = .ok (.aload_n 0, 1) := dk_42 (dk_at dksX1_tried_2 11 rfl rfl)
theorem dX1_tried_59 : decode cX1_tried 59 = .ok (.getfield 95, 3) := dk_180 0 95 (dk_at dksX1_tried_2 12 rfl rfl)
theorem dX1_tried_62 : decode cX1_tried 62 = .ok (.invokevirtual 257, 3) := dk_182 1 1 (dk_at dksX1_tried_2 15 rfl rfl)
theorem dX1_tried_65 : decode cX1_tried 65 = .ok (.aload_n 0, 1) := dk_42 (dk_at dksX1_tried_2 18 rfl rfl)
theorem dX1_tried_66 : decode cX1_tried 66 = .ok (.getfield 99, 3) := dk_180 0 99 (dk_at dksX1_tried_2 19 rfl rfl)
theorem dX1_tried_69 : decode cX1_tried 69 = .ok (.iload_n 1, 1) := dk_27 (dk_at dksX1_tried_2 22 rfl rfl)
theorem dX1_tried_70 : decode cX1_tried 70 = .ok (.putfield 410, 3) := dk_181 1 154 (dk_at dksX1_tried_3 0 rfl rfl)
theorem dX1_tried_73 : decode cX1_tried 73 = .ok (.aload_n 0, 1) := dk_42 (dk_at dksX1_tried_3 3 rfl rfl)
theorem dX1_tried_74 : decode cX1_tried 74 = .ok (.getfield 99, 3) := dk_180 0 99 (dk_at dksX1_tried_3 4 rfl rfl)
theorem dX1_tried_77 : decode cX1_tried 77 = .ok (.iload_n 2, 1) := dk_28 (dk_at dksX1_tried_3 7 rfl rfl)
theorem dX1_tried_78 : decode cX1_tried 78 = .ok (.putfield 413, 3) := dk_181 1 157 (dk_at dksX1_tried_3 8 rfl rfl)
theorem dX1_tried_81 : decode cX1_tried 81 = .ok (.iload_n 1, 1) := dk_27 (dk_at dksX1_tried_3 11 rfl rfl)
theorem dX1_tried_82 : decode cX1_tried 82 = .ok (.iconst 2, 1) := dk_5 (dk_at dksX1_tried_3 12 rfl rfl)
theorem dX1_tried_83 : decode cX1_tried 83 = .ok (.if_icmp .ne 13, 3) := dk_160 0 13 (dk_at dksX1_tried_3 13 rfl rfl)
theorem dX1_tried_86 : decode cX1_tried 86 = .ok (.aload_n 0, 1) := dk_42 (dk_at dksX1_tried_3 16 rfl rfl)
theorem dX1_tried_87 : decode cX1_tried 87 = .ok (.getfield 99, 3) := dk_180 0 99 (dk_at dksX1_tried_3 17 rfl rfl)
theorem dX1_tried_90 : decode cX1_tried 90 = .ok (.iconst 1, 1) := dk_4 (dk_at dksX1_tried_3 20 rfl rfl)
theorem dX1_tried_91 : decode cX1_tried 91 = .ok (.iload_n 2, 1) := dk_28 (dk_at dksX1_tried_3 21 rfl rfl)
theorem dX1_tried_92 : decode cX1_tried 92 = .ok (.ishl, 1) := dk_120 (dk_at dksX1_tried_3 22 rfl rfl)
theorem dX1_tried_93 : decode cX1_tried 93 = .ok (.putfield 275, 3) := dk_181 1 19 (dk_at dksX1_tried_4 0 rfl rfl)
theorem dX1_tried_96 : decode cX1_tried 96 = .ok (.aload_n 0, 1) := dk_42 (dk_at dksX1_tried_4 3 rfl rfl)
theorem dX1_tried_97 : decode cX1_tried 97 = .ok (.getfield 99, 3) := dk_180 0 99 (dk_at dksX1_tried_4 4 rfl rfl)
theorem dX1_tried_100 : decode cX1_tried 100 = .ok (.invokevirtual 278, 3) := dk_182 1 22 (dk_at dksX1_tried_4 7 rfl rfl)
theorem dX1_tried_103 : decode cX1_tried 103 = .ok (.aload_n 0, 1) := dk_42 (dk_at dksX1_tried_4 10 rfl rfl)
theorem dX1_tried_104 : decode cX1_tried 104 = .ok (.getfield 99, 3) := dk_180 0 99 (dk_at dksX1_tried_4 11 rfl rfl)
theorem dX1_tried_107 : decode cX1_tried 107 = .ok (.invokevirtual 301, 3) := dk_182 1 45 (dk_at dksX1_tried_4 14 rfl rfl)
theorem dX1_tried_110 : decode cX1_tried 110 = .ok (.ireturn, 1) := dk_172 (dk_at dksX1_tried_4 17 rfl rfl)
def dkwX1_undo_1 : List UInt8 := [180, 0, 105, 42, 180, 0, 166, 50, 182, 1, 1, 42, 180, 0, 166, 172]
abbrev dktX1_undo_1 : List UInt8 := dkwX1_undo_1 ++ []
def dkwX1_undo_0 : List UInt8 := [42, 180, 0, 166, 154, 0, 5, 2, 172, 42, 89, 180, 0, 166, 4, 100, 181, 0, 166, 42, 180, 0, 95, 42]
abbrev dktX1_undo_0 : List UInt8 := dkwX1_undo_0 ++ dktX1_undo_1
theorem dksX1_undo_0 : cX1_undo.data.toList.drop 0 = dktX1_undo_0 := by decide +kernel
theorem dksX1_undo_1 : cX1_undo.data.toList.drop 24 = dktX1_undo_1 := dk_seg dksX1_undo_0 24 rfl rfl
theorem dX1_undo_0 : decode cX1_undo 0 = .ok (.aload_n 0, 1) := dk_42 (dk_at dksX1_undo_0 0 rfl rfl)
theorem dX1_undo_1 : decode cX1_undo 1 = .ok (.getfield 166, 3) := dk_180 0 166 (dk_at dksX1_undo_0 1 rfl rfl)
theorem dX1_undo_4 : decode cX1_undo 4 = .ok (.ifCond .ne 5, 3) := dk_154 0 5 (dk_at dksX1_undo_0 4 rfl rfl)
theorem dX1_undo_7 : decode cX1_undo 7 = .ok (.iconst (-1), 1) := dk_2 (dk_at dksX1_undo_0 7 rfl rfl)
theorem dX1_undo_8 : decode cX1_undo 8 = .ok (.ireturn, 1) := dk_172 (dk_at dksX1_undo_0 8 rfl rfl)
theorem dX1_undo_9 : decode cX1_undo 9 = .ok (.aload_n 0, 1) := dk_42 (dk_at dksX1_undo_0 9 rfl rfl)
theorem dX1_undo_10 : decode cX1_undo 10 = .ok (.dup, 1) := dk_89 (dk_at dksX1_undo_0 10 rfl rfl)
theorem dX1_undo_11 : decode cX1_undo 11 = .ok (.getfield 166, 3) := dk_180 0 166 (dk_at dksX1_undo_0 11 rfl rfl)
theorem dX1_undo_14 : decode cX1_undo 14 = .ok (.iconst 1, 1) := dk_4 (dk_at dksX1_undo_0 14 rfl rfl)
theorem dX1_undo_15 : decode cX1_undo 15 = .ok (.isub, 1) := dk_100 (dk_at dksX1_undo_0 15 rfl rfl)
theorem dX1_undo_16 : decode cX1_undo 16 = .ok (.putfield 166, 3) := dk_181 0 166 (dk_at dksX1_undo_0 16 rfl rfl)
theorem dX1_undo_19 : decode cX1_undo 19 = .ok (.aload_n 0, 1) := dk_42 (dk_at dksX1_undo_0 19 rfl rfl)
theorem dX1_undo_20 : decode cX1_undo 20 = .ok (.getfield 95, 3) := dk_180 0 95 (dk_at dksX1_undo_0 20 rfl rfl)
theorem dX1_undo_23 : decode cX1_undo 23 = .ok (.aload_n 0, 1) := dk_42 (dk_at dksX1_undo_0 23 rfl rfl)
theorem dX1_undo_24 : decode cX1_undo 24 = .ok (.getfield 105, 3) := dk_180 0 105 (dk_at dksX1_undo_1 0 rfl rfl)
theorem dX1_undo_27 : decode cX1_undo 27 = .ok (.aload_n 0, 1) := dk_42 (dk_at dksX1_undo_1 3 rfl rfl)
theorem dX1_undo_28 : decode cX1_undo 28 = .ok (.getfield 166, 3) := dk_180 0 166 (dk_at dksX1_undo_1 4 rfl rfl)
theorem dX1_undo_31 : decode cX1_undo 31 = .ok (.aaload, 1) := dk_50 (dk_at dksX1_undo_1 7 rfl rfl)
theorem dX1_undo_32 : decode cX1_undo 32 = .ok (.invokevirtual 257, 3) := dk_182 1 1 (dk_at dksX1_undo_1 8 rfl rfl)
theorem dX1_undo_35 : decode cX1_undo 35 = .ok (.aload_n 0, 1) := dk_42 (dk_at dksX1_undo_1 11 rfl rfl)
theorem dX1_undo_36 : decode cX1_undo 36 = .ok (.getfield 166, 3) := dk_180 0 166 (dk_at dksX1_undo_1 12 rfl rfl)
theorem dX1_undo_39 : decode cX1_undo 39 = .ok (.ireturn, 1) := dk_172 (dk_at dksX1_undo_1 15 rfl rfl)
def dkwX1_keep_0 : List UInt8 := [42, 180, 0, 102, 42, 180, 0, 95, 182, 1, 1, 42, 4, 181, 0, 169, 42, 180, 0, 95, 180, 1, 16, 172]
abbrev dktX1_keep_0 : List UInt8 := dkwX1_keep_0 ++ []
theorem dksX1_keep_0 : cX1_keep.data.toList.drop 0 = dktX1_keep_0 := by decide +kernel
theorem dX1_keep_0 : decode cX1_keep 0 = .ok (.aload_n 0, 1) := dk_42 (dk_at dksX1_keep_0 0 rfl rfl)
theorem dX1_keep_1 : decode cX1_keep 1 = .ok (.getfield 102, 3) := dk_180 0 102 (dk_at dksX1_keep_0 1 rfl rfl)
theorem dX1_keep_4 : decode cX1_keep 4 = .ok (.aload_n 0, 1) := dk_42 (dk_at dksX1_keep_0 4 rfl rfl)
theorem dX1_keep_5 : decode cX1_keep 5 = .ok (.getfield 95, 3) := dk_180 0 95 (dk_at dksX1_keep_0 5 rfl rfl)
theorem dX1_keep_8 : decode cX1_keep 8 = .ok (.invokevirtual 257, 3) := dk_182 1 1 (dk_at dksX1_keep_0 8 rfl rfl)
theorem dX1_keep_11 : decode cX1_keep 11 = .ok (.aload_n 0, 1) := dk_42 (dk_at dksX1_keep_0 11 rfl rfl)
theorem dX1_keep_12 : decode cX1_keep 12 = .ok (.iconst 1, 1) := dk_4 (dk_at dksX1_keep_0 12 rfl rfl)
theorem dX1_keep_13 : decode cX1_keep 13 = .ok (.putfield 169, 3) := dk_181 0 169 (dk_at dksX1_keep_0 13 rfl rfl)
theorem dX1_keep_16 : decode cX1_keep 16 = .ok (.aload_n 0, 1) := dk_42 (dk_at dksX1_keep_0 16 rfl rfl)
theorem dX1_keep_17 : decode cX1_keep 17 = .ok (.getfield 95, 3) := dk_180 0 95 (dk_at dksX1_keep_0 17 rfl rfl)
theorem dX1_keep_20 : decode cX1_keep 20 = .ok (.getfield 272, 3) := dk_180 1 16 (dk_at dksX1_keep_0 20 rfl rfl)
theorem dX1_keep_23 : decode cX1_keep 23 = .ok (.ireturn, 1) := dk_172 (dk_at dksX1_keep_0 23 rfl rfl)
def dkwX1_back_1 : List UInt8 := [181, 0, 166, 42, 180, 0, 95, 180, 1, 16, 172]
abbrev dktX1_back_1 : List UInt8 := dkwX1_back_1 ++ []
def dkwX1_back_0 : List UInt8 := [42, 180, 0, 169, 154, 0, 5, 2, 172, 42, 180, 0, 95, 42, 180, 0, 102, 182, 1, 1, 42, 3]
abbrev dktX1_back_0 : List UInt8 := dkwX1_back_0 ++ dktX1_back_1
theorem dksX1_back_0 : cX1_back.data.toList.drop 0 = dktX1_back_0 := by decide +kernel
theorem dksX1_back_1 : cX1_back.data.toList.drop 22 = dktX1_back_1 := dk_seg dksX1_back_0 22 rfl rfl
theorem dX1_back_0 : decode cX1_back 0 = .ok (.aload_n 0, 1) := dk_42 (dk_at dksX1_back_0 0 rfl rfl)
theorem dX1_back_1 : decode cX1_back 1 = .ok (.getfield 169, 3) := dk_180 0 169 (dk_at dksX1_back_0 1 rfl rfl)
theorem dX1_back_4 : decode cX1_back 4 = .ok (.ifCond .ne 5, 3) := dk_154 0 5 (dk_at dksX1_back_0 4 rfl rfl)
theorem dX1_back_7 : decode cX1_back 7 = .ok (.iconst (-1), 1) := dk_2 (dk_at dksX1_back_0 7 rfl rfl)
theorem dX1_back_8 : decode cX1_back 8 = .ok (.ireturn, 1) := dk_172 (dk_at dksX1_back_0 8 rfl rfl)
theorem dX1_back_9 : decode cX1_back 9 = .ok (.aload_n 0, 1) := dk_42 (dk_at dksX1_back_0 9 rfl rfl)
theorem dX1_back_10 : decode cX1_back 10 = .ok (.getfield 95, 3) := dk_180 0 95 (dk_at dksX1_back_0 10 rfl rfl)
theorem dX1_back_13 : decode cX1_back 13 = .ok (.aload_n 0, 1) := dk_42 (dk_at dksX1_back_0 13 rfl rfl)
theorem dX1_back_14 : decode cX1_back 14 = .ok (.getfield 102, 3) := dk_180 0 102 (dk_at dksX1_back_0 14 rfl rfl)
theorem dX1_back_17 : decode cX1_back 17 = .ok (.invokevirtual 257, 3) := dk_182 1 1 (dk_at dksX1_back_0 17 rfl rfl)
theorem dX1_back_20 : decode cX1_back 20 = .ok (.aload_n 0, 1) := dk_42 (dk_at dksX1_back_0 20 rfl rfl)
theorem dX1_back_21 : decode cX1_back 21 = .ok (.iconst 0, 1) := dk_3 (dk_at dksX1_back_0 21 rfl rfl)
theorem dX1_back_22 : decode cX1_back 22 = .ok (.putfield 166, 3) := dk_181 0 166 (dk_at dksX1_back_1 0 rfl rfl)
theorem dX1_back_25 : decode cX1_back 25 = .ok (.aload_n 0, 1) := dk_42 (dk_at dksX1_back_1 3 rfl rfl)
theorem dX1_back_26 : decode cX1_back 26 = .ok (.getfield 95, 3) := dk_180 0 95 (dk_at dksX1_back_1 4 rfl rfl)
theorem dX1_back_29 : decode cX1_back 29 = .ok (.getfield 272, 3) := dk_180 1 16 (dk_at dksX1_back_1 7 rfl rfl)
theorem dX1_back_32 : decode cX1_back 32 = .ok (.ireturn, 1) := dk_172 (dk_at dksX1_back_1 10 rfl rfl)
def dkwX1_count_6 : List UInt8 := [180, 0, 128, 182, 0, 23, 172, 42, 182, 1, 128, 172, 42, 180, 0, 166, 172, 2, 172]
abbrev dktX1_count_6 : List UInt8 := dkwX1_count_6 ++ []
def dkwX1_count_5 : List UInt8 := [180, 0, 217, 29, 46, 96, 61, 132, 3, 1, 167, 255, 233, 28, 172, 42, 180, 0, 95, 180, 1, 163, 172, 42]
abbrev dktX1_count_5 : List UInt8 := dkwX1_count_5 ++ dktX1_count_6
def dkwX1_count_4 : List UInt8 := [180, 0, 95, 182, 1, 45, 172, 3, 62, 29, 42, 182, 0, 188, 162, 0, 21, 28, 42, 180, 0, 95]
abbrev dktX1_count_4 : List UInt8 := dkwX1_count_4 ++ dktX1_count_5
def dkwX1_count_3 : List UInt8 := [180, 0, 13, 180, 1, 106, 172, 42, 180, 0, 13, 180, 1, 160, 172, 42, 180, 0, 95, 180, 1, 16, 172, 42]
abbrev dktX1_count_3 : List UInt8 := dkwX1_count_3 ++ dktX1_count_4
def dkwX1_count_2 : List UInt8 := [42, 180, 0, 13, 180, 0, 179, 182, 0, 23, 172, 42, 182, 0, 188, 172, 42, 182, 0, 190, 172, 42]
abbrev dktX1_count_2 : List UInt8 := dkwX1_count_2 ++ dktX1_count_3
def dkwX1_count_1 : List UInt8 := [170, 0, 0, 0, 170, 0, 0, 0, 0, 0, 0, 0, 11, 0, 0, 0, 61, 0, 0, 0, 72, 0, 0, 0, 77, 0, 0, 0, 82, 0, 0, 0, 90, 0, 0, 0, 98, 0, 0, 0, 106, 0, 0, 0, 114, 0, 0, 0, 144, 0, 0, 0, 152, 0, 0, 0, 160, 0, 0, 0, 165]
abbrev dktX1_count_1 : List UInt8 := dkwX1_count_1 ++ dktX1_count_2
def dkwX1_count_0 : List UInt8 := [3, 61, 27]
abbrev dktX1_count_0 : List UInt8 := dkwX1_count_0 ++ dktX1_count_1
theorem dksX1_count_0 : cX1_count.data.toList.drop 0 = dktX1_count_0 := by decide +kernel
theorem dksX1_count_1 : cX1_count.data.toList.drop 3 = dktX1_count_1 := dk_seg dksX1_count_0 3 rfl rfl
theorem dksX1_count_2 : cX1_count.data.toList.drop 64 = dktX1_count_2 := dk_seg dksX1_count_1 61 rfl rfl
theorem dksX1_count_3 : cX1_count.data.toList.drop 86 = dktX1_count_3 := dk_seg dksX1_count_2 22 rfl rfl
theorem dksX1_count_4 : cX1_count.data.toList.drop 110 = dktX1_count_4 := dk_seg dksX1_count_3 24 rfl rfl
theorem dksX1_count_5 : cX1_count.data.toList.drop 132 = dktX1_count_5 := dk_seg dksX1_count_4 22 rfl rfl
theorem dksX1_count_6 : cX1_count.data.toList.drop 156 = dktX1_count_6 := dk_seg dksX1_count_5 24 rfl rfl
theorem dX1_count_0 : decode cX1_count 0 = .ok (.iconst 0, 1) := dk_3 (dk_at dksX1_count_0 0 rfl rfl)
theorem dX1_count_1 : decode cX1_count 1 = .ok (.istore_n 2, 1) := dk_61 (dk_at dksX1_count_0 1 rfl rfl)
theorem dX1_count_2 : decode cX1_count 2 = .ok (.iload_n 1, 1) := dk_27 (dk_at dksX1_count_0 2 rfl rfl)
theorem dX1_count_3 : decode cX1_count 3 = .ok (.tableswitch 170 0 11 #[61, 72, 77, 82, 90, 98, 106, 114, 144, 152, 160, 165], 61) := by decide +kernel
theorem dX1_count_64 : decode cX1_count 64 = .ok (.aload_n 0, 1) := dk_42 (dk_at dksX1_count_2 0 rfl rfl)
theorem dX1_count_65 : decode cX1_count 65 = .ok (.getfield 13, 3) := dk_180 0 13 (dk_at dksX1_count_2 1 rfl rfl)
theorem dX1_count_68 : decode cX1_count 68 = .ok (.getfield 179, 3) := dk_180 0 179 (dk_at dksX1_count_2 4 rfl rfl)
theorem dX1_count_71 : decode cX1_count 71 = .ok (.invokevirtual 23, 3) := dk_182 0 23 (dk_at dksX1_count_2 7 rfl rfl)
theorem dX1_count_74 : decode cX1_count 74 = .ok (.ireturn, 1) := dk_172 (dk_at dksX1_count_2 10 rfl rfl)
theorem dX1_count_75 : decode cX1_count 75 = .ok (.aload_n 0, 1) := dk_42 (dk_at dksX1_count_2 11 rfl rfl)
theorem dX1_count_76 : decode cX1_count 76 = .ok (.invokevirtual 188, 3) := dk_182 0 188 (dk_at dksX1_count_2 12 rfl rfl)
theorem dX1_count_79 : decode cX1_count 79 = .ok (.ireturn, 1) := dk_172 (dk_at dksX1_count_2 15 rfl rfl)
theorem dX1_count_80 : decode cX1_count 80 = .ok (.aload_n 0, 1) := dk_42 (dk_at dksX1_count_2 16 rfl rfl)
theorem dX1_count_81 : decode cX1_count 81 = .ok (.invokevirtual 190, 3) := dk_182 0 190 (dk_at dksX1_count_2 17 rfl rfl)
theorem dX1_count_84 : decode cX1_count 84 = .ok (.ireturn, 1) := dk_172 (dk_at dksX1_count_2 20 rfl rfl)
theorem dX1_count_85 : decode cX1_count 85 = .ok (.aload_n 0, 1) := dk_42 (dk_at dksX1_count_2 21 rfl rfl)
theorem dX1_count_86 : decode cX1_count 86 = .ok (.getfield 13, 3) := dk_180 0 13 (dk_at dksX1_count_3 0 rfl rfl)
theorem dX1_count_89 : decode cX1_count 89 = .ok (.getfield 362, 3) := dk_180 1 106 (dk_at dksX1_count_3 3 rfl rfl)
theorem dX1_count_92 : decode cX1_count 92 = .ok (.ireturn, 1) := dk_172 (dk_at dksX1_count_3 6 rfl rfl)
theorem dX1_count_93 : decode cX1_count 93 = .ok (.aload_n 0, 1) := dk_42 (dk_at dksX1_count_3 7 rfl rfl)
theorem dX1_count_94 : decode cX1_count 94 = .ok (.getfield 13, 3) := dk_180 0 13 (dk_at dksX1_count_3 8 rfl rfl)
theorem dX1_count_97 : decode cX1_count 97 = .ok (.getfield 416, 3) := dk_180 1 160 (dk_at dksX1_count_3 11 rfl rfl)
theorem dX1_count_100 : decode cX1_count 100 = .ok (.ireturn, 1) := dk_172 (dk_at dksX1_count_3 14 rfl rfl)
theorem dX1_count_101 : decode cX1_count 101 = .ok (.aload_n 0, 1) := dk_42 (dk_at dksX1_count_3 15 rfl rfl)
theorem dX1_count_102 : decode cX1_count 102 = .ok (.getfield 95, 3) := dk_180 0 95 (dk_at dksX1_count_3 16 rfl rfl)
theorem dX1_count_105 : decode cX1_count 105 = .ok (.getfield 272, 3) := dk_180 1 16 (dk_at dksX1_count_3 19 rfl rfl)
theorem dX1_count_108 : decode cX1_count 108 = .ok (.ireturn, 1) := dk_172 (dk_at dksX1_count_3 22 rfl rfl)
theorem dX1_count_109 : decode cX1_count 109 = .ok (.aload_n 0, 1) := dk_42 (dk_at dksX1_count_3 23 rfl rfl)
theorem dX1_count_110 : decode cX1_count 110 = .ok (.getfield 95, 3) := dk_180 0 95 (dk_at dksX1_count_4 0 rfl rfl)
theorem dX1_count_113 : decode cX1_count 113 = .ok (.invokevirtual 301, 3) := dk_182 1 45 (dk_at dksX1_count_4 3 rfl rfl)
theorem dX1_count_116 : decode cX1_count 116 = .ok (.ireturn, 1) := dk_172 (dk_at dksX1_count_4 6 rfl rfl)
theorem dX1_count_117 : decode cX1_count 117 = .ok (.iconst 0, 1) := dk_3 (dk_at dksX1_count_4 7 rfl rfl)
theorem dX1_count_118 : decode cX1_count 118 = .ok (.istore_n 3, 1) := dk_62 (dk_at dksX1_count_4 8 rfl rfl)
theorem dX1_count_119 : decode cX1_count 119 = .ok (.iload_n 3, 1) := dk_29 (dk_at dksX1_count_4 9 rfl rfl)
theorem dX1_count_120 : decode cX1_count 120 = .ok (.aload_n 0, 1) := dk_42 (dk_at dksX1_count_4 10 rfl rfl)
theorem dX1_count_121 : decode cX1_count 121 = .ok (.invokevirtual 188, 3) := dk_182 0 188 (dk_at dksX1_count_4 11 rfl rfl)
theorem dX1_count_124 : decode cX1_count 124 = .ok (.if_icmp .ge 21, 3) := dk_162 0 21 (dk_at dksX1_count_4 14 rfl rfl)
theorem dX1_count_127 : decode cX1_count 127 = .ok (.iload_n 2, 1) := dk_28 (dk_at dksX1_count_4 17 rfl rfl)
theorem dX1_count_128 : decode cX1_count 128 = .ok (.aload_n 0, 1) := dk_42 (dk_at dksX1_count_4 18 rfl rfl)
theorem dX1_count_129 : decode cX1_count 129 = .ok (.getfield 95, 3) := dk_180 0 95 (dk_at dksX1_count_4 19 rfl rfl)
theorem dX1_count_132 : decode cX1_count 132 = .ok (.getfield 217, 3) := dk_180 0 217 (dk_at dksX1_count_5 0 rfl rfl)
theorem dX1_count_135 : decode cX1_count 135 = .ok (.iload_n 3, 1) := dk_29 (dk_at dksX1_count_5 3 rfl rfl)
theorem dX1_count_136 : decode cX1_count 136 = .ok (.iaload, 1) := dk_46 (dk_at dksX1_count_5 4 rfl rfl)
theorem dX1_count_137 : decode cX1_count 137 = .ok (.iadd, 1) := dk_96 (dk_at dksX1_count_5 5 rfl rfl)
theorem dX1_count_138 : decode cX1_count 138 = .ok (.istore_n 2, 1) := dk_61 (dk_at dksX1_count_5 6 rfl rfl)
theorem dX1_count_139 : decode cX1_count 139 = .ok (.iinc 3 1, 3) := dk_132 3 1 (dk_at dksX1_count_5 7 rfl rfl)
theorem dX1_count_142 : decode cX1_count 142 = .ok (.goto (-23), 3) := dk_167 255 233 (dk_at dksX1_count_5 10 rfl rfl)
theorem dX1_count_145 : decode cX1_count 145 = .ok (.iload_n 2, 1) := dk_28 (dk_at dksX1_count_5 13 rfl rfl)
theorem dX1_count_146 : decode cX1_count 146 = .ok (.ireturn, 1) := dk_172 (dk_at dksX1_count_5 14 rfl rfl)
theorem dX1_count_147 : decode cX1_count 147 = .ok (.aload_n 0, 1) := dk_42 (dk_at dksX1_count_5 15 rfl rfl)
theorem dX1_count_148 : decode cX1_count 148 = .ok (.getfield 95, 3) := dk_180 0 95 (dk_at dksX1_count_5 16 rfl rfl)
theorem dX1_count_151 : decode cX1_count 151 = .ok (.getfield 419, 3) := dk_180 1 163 (dk_at dksX1_count_5 19 rfl rfl)
theorem dX1_count_154 : decode cX1_count 154 = .ok (.ireturn, 1) := dk_172 (dk_at dksX1_count_5 22 rfl rfl)
theorem dX1_count_155 : decode cX1_count 155 = .ok (.aload_n 0, 1) := dk_42 (dk_at dksX1_count_5 23 rfl rfl)
theorem dX1_count_156 : decode cX1_count 156 = .ok (.getfield 128, 3) := dk_180 0 128 (dk_at dksX1_count_6 0 rfl rfl)
theorem dX1_count_159 : decode cX1_count 159 = .ok (.invokevirtual 23, 3) := dk_182 0 23 (dk_at dksX1_count_6 3 rfl rfl)
theorem dX1_count_162 : decode cX1_count 162 = .ok (.ireturn, 1) := dk_172 (dk_at dksX1_count_6 6 rfl rfl)
theorem dX1_count_163 : decode cX1_count 163 = .ok (.aload_n 0, 1) := dk_42 (dk_at dksX1_count_6 7 rfl rfl)
theorem dX1_count_164 : decode cX1_count 164 = .ok (.invokevirtual 384, 3) := dk_182 1 128 (dk_at dksX1_count_6 8 rfl rfl)
theorem dX1_count_167 : decode cX1_count 167 = .ok (.ireturn, 1) := dk_172 (dk_at dksX1_count_6 11 rfl rfl)
theorem dX1_count_168 : decode cX1_count 168 = .ok (.aload_n 0, 1) := dk_42 (dk_at dksX1_count_6 12 rfl rfl)
theorem dX1_count_169 : decode cX1_count 169 = .ok (.getfield 166, 3) := dk_180 0 166 (dk_at dksX1_count_6 13 rfl rfl)
theorem dX1_count_172 : decode cX1_count 172 = .ok (.ireturn, 1) := dk_172 (dk_at dksX1_count_6 16 rfl rfl)
theorem dX1_count_173 : decode cX1_count 173 = .ok (.iconst (-1), 1) := dk_2 (dk_at dksX1_count_6 17 rfl rfl)
theorem dX1_count_174 : decode cX1_count 174 = .ok (.ireturn, 1) := dk_172 (dk_at dksX1_count_6 18 rfl rfl)
theorem dX4_init_0 : decode cX4_init 0 = .ok (.aload_n 0, 1) := by decide +kernel
theorem dX4_init_1 : decode cX4_init 1 = .ok (.invokespecial 3, 3) := by decide +kernel
theorem dX4_init_4 : decode cX4_init 4 = .ok (.return_, 1) := by decide +kernel
theorem dX5_init_0 : decode cX5_init 0 = .ok (.aload_n 0, 1) := by decide +kernel
theorem dX5_init_1 : decode cX5_init 1 = .ok (.invokespecial 1, 3) := by decide +kernel
theorem dX5_init_4 : decode cX5_init 4 = .ok (.return_, 1) := by decide +kernel
theorem dX6_init_0 : decode cX6_init 0 = .ok (.aload_n 0, 1) := by decide +kernel
theorem dX6_init_1 : decode cX6_init 1 = .ok (.invokespecial 1, 3) := by decide +kernel
theorem dX6_init_4 : decode cX6_init 4 = .ok (.return_, 1) := by decide +kernel
theorem dX7_init_0 : decode cX7_init 0 = .ok (.aload_n 0, 1) := by decide +kernel
theorem dX7_init_1 : decode cX7_init 1 = .ok (.invokespecial 3, 3) := by decide +kernel
theorem dX7_init_4 : decode cX7_init 4 = .ok (.return_, 1) := by decide +kernel
theorem dX8_init_0 : decode cX8_init 0 = .ok (.aload_n 0, 1) := by decide +kernel
theorem dX8_init_1 : decode cX8_init 1 = .ok (.invokespecial 3, 3) := by decide +kernel
theorem dX8_init_4 : decode cX8_init 4 = .ok (.return_, 1) := by decide +kernel
