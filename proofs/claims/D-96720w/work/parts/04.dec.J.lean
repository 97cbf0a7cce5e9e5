set_option maxRecDepth 100000
def dkwJ0_init_1 : List UInt8 := [182, 0, 27, 87, 42, 43, 181, 0, 31, 177]
abbrev dktJ0_init_1 : List UInt8 := dkwJ0_init_1 ++ []
def dkwJ0_init_0 : List UInt8 := [42, 183, 0, 1, 42, 42, 181, 0, 7, 42, 178, 0, 13, 181, 0, 17, 42, 178, 0, 20, 181, 0, 24, 42]
abbrev dktJ0_init_0 : List UInt8 := dkwJ0_init_0 ++ dktJ0_init_1
theorem dksJ0_init_0 : cJ0_init.data.toList.drop 0 = dktJ0_init_0 := by decide +kernel
theorem dksJ0_init_1 : cJ0_init.data.toList.drop 24 = dktJ0_init_1 := dk_seg dksJ0_init_0 24 rfl rfl
theorem dJ0_init_0 : decode cJ0_init 0 = .ok (.aload_n 0, 1) := dk_42 (dk_at dksJ0_init_0 0 rfl rfl)
theorem dJ0_init_1 : decode cJ0_init 1 = .ok (.invokespecial 1, 3) := dk_183 0 1 (dk_at dksJ0_init_0 1 rfl rfl)
theorem dJ0_init_4 : decode cJ0_init 4 = .ok (.aload_n 0, 1) := dk_42 (dk_at dksJ0_init_0 4 rfl rfl)
theorem dJ0_init_5 : decode cJ0_init 5 = .ok (.aload_n 0, 1) := dk_42 (dk_at dksJ0_init_0 5 rfl rfl)
theorem dJ0_init_6 : decode cJ0_init 6 = .ok (.putfield 7, 3) := dk_181 0 7 (dk_at dksJ0_init_0 6 rfl rfl)
theorem dJ0_init_9 : decode cJ0_init 9 = .ok (.aload_n 0, 1) := dk_42 (dk_at dksJ0_init_0 9 rfl rfl)
theorem dJ0_init_10 : decode cJ0_init 10 = .ok (.getstatic 13, 3) := dk_178 0 13 (dk_at dksJ0_init_0 10 rfl rfl)
theorem dJ0_init_13 : decode cJ0_init 13 = .ok (.putfield 17, 3) := dk_181 0 17 (dk_at dksJ0_init_0 13 rfl rfl)
theorem dJ0_init_16 : decode cJ0_init 16 = .ok (.aload_n 0, 1) := dk_42 (dk_at dksJ0_init_0 16 rfl rfl)
theorem dJ0_init_17 : decode cJ0_init 17 = .ok (.getstatic 20, 3) := dk_178 0 20 (dk_at dksJ0_init_0 17 rfl rfl)
theorem dJ0_init_20 : decode cJ0_init 20 = .ok (.putfield 24, 3) := dk_181 0 24 (dk_at dksJ0_init_0 20 rfl rfl)
theorem dJ0_init_23 : decode cJ0_init 23 = .ok (.aload_n 0, 1) := dk_42 (dk_at dksJ0_init_0 23 rfl rfl)
theorem dJ0_init_24 : decode cJ0_init 24 = .ok (.invokevirtual 27, 3) := dk_182 0 27 (dk_at dksJ0_init_1 0 rfl rfl)
theorem dJ0_init_27 : decode cJ0_init 27 = .ok (.pop, 1) := dk_87 (dk_at dksJ0_init_1 3 rfl rfl)
theorem dJ0_init_28 : decode cJ0_init 28 = .ok (.aload_n 0, 1) := dk_42 (dk_at dksJ0_init_1 4 rfl rfl)
theorem dJ0_init_29 : decode cJ0_init 29 = .ok (.aload_n 1, 1) := dk_43 (dk_at dksJ0_init_1 5 rfl rfl)
theorem dJ0_init_30 : decode cJ0_init 30 = .ok (.putfield 31, 3) := dk_181 0 31 (dk_at dksJ0_init_1 6 rfl rfl)
theorem dJ0_init_33 : decode cJ0_init 33 = .ok (.return_, 1) := dk_177 (dk_at dksJ0_init_1 9 rfl rfl)
def dkwJ0_init_2_1 : List UInt8 := [182, 0, 27, 87, 177]
abbrev dktJ0_init_2_1 : List UInt8 := dkwJ0_init_2_1 ++ []
def dkwJ0_init_2_0 : List UInt8 := [42, 183, 0, 1, 42, 42, 181, 0, 7, 42, 178, 0, 13, 181, 0, 17, 42, 178, 0, 20, 181, 0, 24, 42]
abbrev dktJ0_init_2_0 : List UInt8 := dkwJ0_init_2_0 ++ dktJ0_init_2_1
theorem dksJ0_init_2_0 : cJ0_init_2.data.toList.drop 0 = dktJ0_init_2_0 := by decide +kernel
theorem dksJ0_init_2_1 : cJ0_init_2.data.toList.drop 24 = dktJ0_init_2_1 := dk_seg dksJ0_init_2_0 24 rfl rfl
theorem dJ0_init_2_0 : decode cJ0_init_2 0 = .ok (.aload_n 0, 1) := dk_42 (dk_at dksJ0_init_2_0 0 rfl rfl)
theorem dJ0_init_2_1 : decode cJ0_init_2 1 = .ok (.invokespecial 1, 3) := dk_183 0 1 (dk_at dksJ0_init_2_0 1 rfl rfl)
theorem dJ0_init_2_4 : decode cJ0_init_2 4 = .ok (.aload_n 0, 1) := dk_42 (dk_at dksJ0_init_2_0 4 rfl rfl)
theorem dJ0_init_2_5 : decode cJ0_init_2 5 = .ok (.aload_n 0, 1) := dk_42 (dk_at dksJ0_init_2_0 5 rfl rfl)
theorem dJ0_init_2_6 : decode cJ0_init_2 6 = .ok (.putfield 7, 3) := dk_181 0 7 (dk_at dksJ0_init_2_0 6 rfl rfl)
theorem dJ0_init_2_9 : decode cJ0_init_2 9 = .ok (.aload_n 0, 1) := dk_42 (dk_at dksJ0_init_2_0 9 rfl rfl)
theorem dJ0_init_2_10 : decode cJ0_init_2 10 = .ok (.getstatic 13, 3) := dk_178 0 13 (dk_at dksJ0_init_2_0 10 rfl rfl)
theorem dJ0_init_2_13 : decode cJ0_init_2 13 = .ok (.putfield 17, 3) := dk_181 0 17 (dk_at dksJ0_init_2_0 13 rfl rfl)
theorem dJ0_init_2_16 : decode cJ0_init_2 16 = .ok (.aload_n 0, 1) := dk_42 (dk_at dksJ0_init_2_0 16 rfl rfl)
theorem dJ0_init_2_17 : decode cJ0_init_2 17 = .ok (.getstatic 20, 3) := dk_178 0 20 (dk_at dksJ0_init_2_0 17 rfl rfl)
theorem dJ0_init_2_20 : decode cJ0_init_2 20 = .ok (.putfield 24, 3) := dk_181 0 24 (dk_at dksJ0_init_2_0 20 rfl rfl)
theorem dJ0_init_2_23 : decode cJ0_init_2 23 = .ok (.aload_n 0, 1) := dk_42 (dk_at dksJ0_init_2_0 23 rfl rfl)
theorem dJ0_init_2_24 : decode cJ0_init_2 24 = .ok (.invokevirtual 27, 3) := dk_182 0 27 (dk_at dksJ0_init_2_1 0 rfl rfl)
theorem dJ0_init_2_27 : decode cJ0_init_2 27 = .ok (.pop, 1) := dk_87 (dk_at dksJ0_init_2_1 3 rfl rfl)
theorem dJ0_init_2_28 : decode cJ0_init_2 28 = .ok (.return_, 1) := dk_177 (dk_at dksJ0_init_2_1 4 rfl rfl)
def dkwJ0_init_3_2 : List UInt8 := [44, 181, 0, 7, 29, 154, 0, 8, 42, 1, 181, 0, 24, 177]
abbrev dktJ0_init_3_2 : List UInt8 := dkwJ0_init_3_2 ++ []
def dkwJ0_init_3_1 : List UInt8 := [21, 4, 153, 0, 11, 42, 182, 0, 27, 87, 167, 0, 8, 42, 1, 181, 0, 17, 42, 43, 181, 0, 31, 42]
abbrev dktJ0_init_3_1 : List UInt8 := dkwJ0_init_3_1 ++ dktJ0_init_3_2
def dkwJ0_init_3_0 : List UInt8 := [42, 183, 0, 1, 42, 42, 181, 0, 7, 42, 178, 0, 13, 181, 0, 17, 42, 178, 0, 20, 181, 0, 24]
abbrev dktJ0_init_3_0 : List UInt8 := dkwJ0_init_3_0 ++ dktJ0_init_3_1
theorem dksJ0_init_3_0 : cJ0_init_3.data.toList.drop 0 = dktJ0_init_3_0 := by decide +kernel
theorem dksJ0_init_3_1 : cJ0_init_3.data.toList.drop 23 = dktJ0_init_3_1 := dk_seg dksJ0_init_3_0 23 rfl rfl
theorem dksJ0_init_3_2 : cJ0_init_3.data.toList.drop 47 = dktJ0_init_3_2 := dk_seg dksJ0_init_3_1 24 rfl rfl
theorem dJ0_init_3_0 : decode cJ0_init_3 0 = .ok (.aload_n 0, 1) := dk_42 (dk_at dksJ0_init_3_0 0 rfl rfl)
theorem dJ0_init_3_1 : decode cJ0_init_3 1 = .ok (.invokespecial 1, 3) := dk_183 0 1 (dk_at dksJ0_init_3_0 1 rfl rfl)
theorem dJ0_init_3_4 : decode cJ0_init_3 4 = .ok (.aload_n 0, 1) := dk_42 (dk_at dksJ0_init_3_0 4 rfl rfl)
theorem dJ0_init_3_5 : decode cJ0_init_3 5 = .ok (.aload_n 0, 1) := dk_42 (dk_at dksJ0_init_3_0 5 rfl rfl)
theorem dJ0_init_3_6 : decode cJ0_init_3 6 = .ok (.putfield 7, 3) := dk_181 0 7 (dk_at dksJ0_init_3_0 6 rfl rfl)
theorem dJ0_init_3_9 : decode cJ0_init_3 9 = .ok (.aload_n 0, 1) := dk_42 (dk_at dksJ0_init_3_0 9 rfl rfl)
theorem dJ0_init_3_10 : decode cJ0_init_3 10 = .ok (.getstatic 13, 3) := dk_178 0 13 (dk_at dksJ0_init_3_0 10 rfl rfl)
theorem dJ0_init_3_13 : decode cJ0_init_3 13 = .ok (.putfield 17, 3) := dk_181 0 17 (dk_at dksJ0_init_3_0 13 rfl rfl)
theorem dJ0_init_3_16 : decode cJ0_init_3 16 = .ok (.aload_n 0, 1) := dk_42 (dk_at dksJ0_init_3_0 16 rfl rfl)
theorem dJ0_init_3_17 : decode cJ0_init_3 17 = .ok (.getstatic 20, 3) := dk_178 0 20 (dk_at dksJ0_init_3_0 17 rfl rfl)
theorem dJ0_init_3_20 : decode cJ0_init_3 20 = .ok (.putfield 24, 3) := dk_181 0 24 (dk_at dksJ0_init_3_0 20 rfl rfl)
theorem dJ0_init_3_23 : decode cJ0_init_3 23 = .ok (.iload 4, 2) := dk_21 4 (dk_at dksJ0_init_3_1 0 rfl rfl)
theorem dJ0_init_3_25 : decode cJ0_init_3 25 = .ok (.ifCond .eq 11, 3) := dk_153 0 11 (dk_at dksJ0_init_3_1 2 rfl rfl)
theorem dJ0_init_3_28 : decode cJ0_init_3 28 = .ok (.aload_n 0, 1) := dk_42 (dk_at dksJ0_init_3_1 5 rfl rfl)
theorem dJ0_init_3_29 : decode cJ0_init_3 29 = .ok (.invokevirtual 27, 3) := dk_182 0 27 (dk_at dksJ0_init_3_1 6 rfl rfl)
theorem dJ0_init_3_32 : decode cJ0_init_3 32 = .ok (.pop, 1) := dk_87 (dk_at dksJ0_init_3_1 9 rfl rfl)
theorem dJ0_init_3_33 : decode cJ0_init_3 33 = .ok (.goto 8, 3) := dk_167 0 8 (dk_at dksJ0_init_3_1 10 rfl rfl)
theorem dJ0_init_3_36 : decode cJ0_init_3 36 = .ok (.aload_n 0, 1) := dk_42 (dk_at dksJ0_init_3_1 13 rfl rfl)
theorem dJ0_init_3_37 : decode cJ0_init_3 37 = .ok (.aconst_null, 1) := dk_1 (dk_at dksJ0_init_3_1 14 rfl rfl)
theorem dJ0_init_3_38 : decode cJ0_init_3 38 = .ok (.putfield 17, 3) := dk_181 0 17 (dk_at dksJ0_init_3_1 15 rfl rfl)
theorem dJ0_init_3_41 : decode cJ0_init_3 41 = .ok (.aload_n 0, 1) := dk_42 (dk_at dksJ0_init_3_1 18 rfl rfl)
theorem dJ0_init_3_42 : decode cJ0_init_3 42 = .ok (.aload_n 1, 1) := dk_43 (dk_at dksJ0_init_3_1 19 rfl rfl)
theorem dJ0_init_3_43 : decode cJ0_init_3 43 = .ok (.putfield 31, 3) := dk_181 0 31 (dk_at dksJ0_init_3_1 20 rfl rfl)
theorem dJ0_init_3_46 : decode cJ0_init_3 46 = .ok (.aload_n 0, 1) := dk_42 (dk_at dksJ0_init_3_1 23 rfl rfl)
theorem dJ0_init_3_47 : decode cJ0_init_3 47 = .ok (.aload_n 2, 1) := dk_44 (dk_at dksJ0_init_3_2 0 rfl rfl)
theorem dJ0_init_3_48 : decode cJ0_init_3 48 = .ok (.putfield 7, 3) := dk_181 0 7 (dk_at dksJ0_init_3_2 1 rfl rfl)
theorem dJ0_init_3_51 : decode cJ0_init_3 51 = .ok (.iload_n 3, 1) := dk_29 (dk_at dksJ0_init_3_2 4 rfl rfl)
theorem dJ0_init_3_52 : decode cJ0_init_3 52 = .ok (.ifCond .ne 8, 3) := dk_154 0 8 (dk_at dksJ0_init_3_2 5 rfl rfl)
theorem dJ0_init_3_55 : decode cJ0_init_3 55 = .ok (.aload_n 0, 1) := dk_42 (dk_at dksJ0_init_3_2 8 rfl rfl)
theorem dJ0_init_3_56 : decode cJ0_init_3 56 = .ok (.aconst_null, 1) := dk_1 (dk_at dksJ0_init_3_2 9 rfl rfl)
theorem dJ0_init_3_57 : decode cJ0_init_3 57 = .ok (.putfield 24, 3) := dk_181 0 24 (dk_at dksJ0_init_3_2 10 rfl rfl)
theorem dJ0_init_3_60 : decode cJ0_init_3 60 = .ok (.return_, 1) := dk_177 (dk_at dksJ0_init_3_2 13 rfl rfl)
def dkwJ1_init_0 : List UInt8 := [42, 43, 183, 0, 7, 177]
abbrev dktJ1_init_0 : List UInt8 := dkwJ1_init_0 ++ []
theorem dksJ1_init_0 : cJ1_init.data.toList.drop 0 = dktJ1_init_0 := by decide +kernel
theorem dJ1_init_0 : decode cJ1_init 0 = .ok (.aload_n 0, 1) := dk_42 (dk_at dksJ1_init_0 0 rfl rfl)
theorem dJ1_init_1 : decode cJ1_init 1 = .ok (.aload_n 1, 1) := dk_43 (dk_at dksJ1_init_0 1 rfl rfl)
theorem dJ1_init_2 : decode cJ1_init 2 = .ok (.invokespecial 7, 3) := dk_183 0 7 (dk_at dksJ1_init_0 2 rfl rfl)
theorem dJ1_init_5 : decode cJ1_init 5 = .ok (.return_, 1) := dk_177 (dk_at dksJ1_init_0 5 rfl rfl)
def dkwJ1_init_2_0 : List UInt8 := [42, 43, 44, 29, 21, 4, 183, 0, 16, 177]
abbrev dktJ1_init_2_0 : List UInt8 := dkwJ1_init_2_0 ++ []
theorem dksJ1_init_2_0 : cJ1_init_2.data.toList.drop 0 = dktJ1_init_2_0 := by decide +kernel
theorem dJ1_init_2_0 : decode cJ1_init_2 0 = .ok (.aload_n 0, 1) := dk_42 (dk_at dksJ1_init_2_0 0 rfl rfl)
theorem dJ1_init_2_1 : decode cJ1_init_2 1 = .ok (.aload_n 1, 1) := dk_43 (dk_at dksJ1_init_2_0 1 rfl rfl)
theorem dJ1_init_2_2 : decode cJ1_init_2 2 = .ok (.aload_n 2, 1) := dk_44 (dk_at dksJ1_init_2_0 2 rfl rfl)
theorem dJ1_init_2_3 : decode cJ1_init_2 3 = .ok (.iload_n 3, 1) := dk_29 (dk_at dksJ1_init_2_0 3 rfl rfl)
theorem dJ1_init_2_4 : decode cJ1_init_2 4 = .ok (.iload 4, 2) := dk_21 4 (dk_at dksJ1_init_2_0 4 rfl rfl)
theorem dJ1_init_2_6 : decode cJ1_init_2 6 = .ok (.invokespecial 16, 3) := dk_183 0 16 (dk_at dksJ1_init_2_0 6 rfl rfl)
theorem dJ1_init_2_9 : decode cJ1_init_2 9 = .ok (.return_, 1) := dk_177 (dk_at dksJ1_init_2_0 9 rfl rfl)
theorem dJ1_init_3_0 : decode cJ1_init_3 0 = .ok (.aload_n 0, 1) := by decide +kernel
theorem dJ1_init_3_1 : decode cJ1_init_3 1 = .ok (.invokespecial 1, 3) := by decide +kernel
theorem dJ1_init_3_4 : decode cJ1_init_3 4 = .ok (.return_, 1) := by decide +kernel
def dkwJ2_init_0 : List UInt8 := [42, 43, 183, 0, 7, 177]
abbrev dktJ2_init_0 : List UInt8 := dkwJ2_init_0 ++ []
theorem dksJ2_init_0 : cJ2_init.data.toList.drop 0 = dktJ2_init_0 := by decide +kernel
theorem dJ2_init_0 : decode cJ2_init 0 = .ok (.aload_n 0, 1) := dk_42 (dk_at dksJ2_init_0 0 rfl rfl)
theorem dJ2_init_1 : decode cJ2_init 1 = .ok (.aload_n 1, 1) := dk_43 (dk_at dksJ2_init_0 1 rfl rfl)
theorem dJ2_init_2 : decode cJ2_init 2 = .ok (.invokespecial 7, 3) := dk_183 0 7 (dk_at dksJ2_init_0 2 rfl rfl)
theorem dJ2_init_5 : decode cJ2_init 5 = .ok (.return_, 1) := dk_177 (dk_at dksJ2_init_0 5 rfl rfl)
def dkwJ2_init_2_0 : List UInt8 := [42, 43, 44, 29, 21, 4, 183, 0, 16, 177]
abbrev dktJ2_init_2_0 : List UInt8 := dkwJ2_init_2_0 ++ []
theorem dksJ2_init_2_0 : cJ2_init_2.data.toList.drop 0 = dktJ2_init_2_0 := by decide +kernel
theorem dJ2_init_2_0 : decode cJ2_init_2 0 = .ok (.aload_n 0, 1) := dk_42 (dk_at dksJ2_init_2_0 0 rfl rfl)
theorem dJ2_init_2_1 : decode cJ2_init_2 1 = .ok (.aload_n 1, 1) := dk_43 (dk_at dksJ2_init_2_0 1 rfl rfl)
theorem dJ2_init_2_2 : decode cJ2_init_2 2 = .ok (.aload_n 2, 1) := dk_44 (dk_at dksJ2_init_2_0 2 rfl rfl)
theorem dJ2_init_2_3 : decode cJ2_init_2 3 = .ok (.iload_n 3, 1) := dk_29 (dk_at dksJ2_init_2_0 3 rfl rfl)
theorem dJ2_init_2_4 : decode cJ2_init_2 4 = .ok (.iload 4, 2) := dk_21 4 (dk_at dksJ2_init_2_0 4 rfl rfl)
theorem dJ2_init_2_6 : decode cJ2_init_2 6 = .ok (.invokespecial 16, 3) := dk_183 0 16 (dk_at dksJ2_init_2_0 6 rfl rfl)
theorem dJ2_init_2_9 : decode cJ2_init_2 9 = .ok (.return_, 1) := dk_177 (dk_at dksJ2_init_2_0 9 rfl rfl)
theorem dJ2_init_3_0 : decode cJ2_init_3 0 = .ok (.aload_n 0, 1) := by decide +kernel
theorem dJ2_init_3_1 : decode cJ2_init_3 1 = .ok (.invokespecial 1, 3) := by decide +kernel
theorem dJ2_init_3_4 : decode cJ2_init_3 4 = .ok (.return_, 1) := by decide +kernel
def dkwJ3_init_0 : List UInt8 := [42, 43, 183, 0, 7, 177]
abbrev dktJ3_init_0 : List UInt8 := dkwJ3_init_0 ++ []
theorem dksJ3_init_0 : cJ3_init.data.toList.drop 0 = dktJ3_init_0 := by decide +kernel
theorem dJ3_init_0 : decode cJ3_init 0 = .ok (.aload_n 0, 1) := dk_42 (dk_at dksJ3_init_0 0 rfl rfl)
theorem dJ3_init_1 : decode cJ3_init 1 = .ok (.aload_n 1, 1) := dk_43 (dk_at dksJ3_init_0 1 rfl rfl)
theorem dJ3_init_2 : decode cJ3_init 2 = .ok (.invokespecial 7, 3) := dk_183 0 7 (dk_at dksJ3_init_0 2 rfl rfl)
theorem dJ3_init_5 : decode cJ3_init 5 = .ok (.return_, 1) := dk_177 (dk_at dksJ3_init_0 5 rfl rfl)
theorem dJ3_init_2_0 : decode cJ3_init_2 0 = .ok (.aload_n 0, 1) := by decide +kernel
theorem dJ3_init_2_1 : decode cJ3_init_2 1 = .ok (.invokespecial 1, 3) := by decide +kernel
theorem dJ3_init_2_4 : decode cJ3_init_2 4 = .ok (.return_, 1) := by decide +kernel
def dkwJ4_checkBoundsOffCount_0 : List UInt8 := [26, 27, 28, 178, 4, 29, 184, 4, 41, 172]
abbrev dktJ4_checkBoundsOffCount_0 : List UInt8 := dkwJ4_checkBoundsOffCount_0 ++ []
theorem dksJ4_checkBoundsOffCount_0 : cJ4_checkBoundsOffCount.data.toList.drop 0 = dktJ4_checkBoundsOffCount_0 := by decide +kernel
theorem dJ4_checkBoundsOffCount_0 : decode cJ4_checkBoundsOffCount 0 = .ok (.iload_n 0, 1) := dk_26 (dk_at dksJ4_checkBoundsOffCount_0 0 rfl rfl)
theorem dJ4_checkBoundsOffCount_1 : decode cJ4_checkBoundsOffCount 1 = .ok (.iload_n 1, 1) := dk_27 (dk_at dksJ4_checkBoundsOffCount_0 1 rfl rfl)
theorem dJ4_checkBoundsOffCount_2 : decode cJ4_checkBoundsOffCount 2 = .ok (.iload_n 2, 1) := dk_28 (dk_at dksJ4_checkBoundsOffCount_0 2 rfl rfl)
theorem dJ4_checkBoundsOffCount_3 : decode cJ4_checkBoundsOffCount 3 = .ok (.getstatic 1053, 3) := dk_178 4 29 (dk_at dksJ4_checkBoundsOffCount_0 3 rfl rfl)
theorem dJ4_checkBoundsOffCount_6 : decode cJ4_checkBoundsOffCount 6 = .ok (.invokestatic 1065, 3) := dk_184 4 41 (dk_at dksJ4_checkBoundsOffCount_0 6 rfl rfl)
theorem dJ4_checkBoundsOffCount_9 : decode cJ4_checkBoundsOffCount 9 = .ok (.ireturn, 1) := dk_172 (dk_at dksJ4_checkBoundsOffCount_0 9 rfl rfl)
def dkwJ4_checkIndex_0 : List UInt8 := [26, 27, 178, 4, 29, 184, 4, 35, 87, 177]
abbrev dktJ4_checkIndex_0 : List UInt8 := dkwJ4_checkIndex_0 ++ []
theorem dksJ4_checkIndex_0 : cJ4_checkIndex.data.toList.drop 0 = dktJ4_checkIndex_0 := by decide +kernel
theorem dJ4_checkIndex_0 : decode cJ4_checkIndex 0 = .ok (.iload_n 0, 1) := dk_26 (dk_at dksJ4_checkIndex_0 0 rfl rfl)
theorem dJ4_checkIndex_1 : decode cJ4_checkIndex 1 = .ok (.iload_n 1, 1) := dk_27 (dk_at dksJ4_checkIndex_0 1 rfl rfl)
theorem dJ4_checkIndex_2 : decode cJ4_checkIndex 2 = .ok (.getstatic 1053, 3) := dk_178 4 29 (dk_at dksJ4_checkIndex_0 2 rfl rfl)
theorem dJ4_checkIndex_5 : decode cJ4_checkIndex 5 = .ok (.invokestatic 1059, 3) := dk_184 4 35 (dk_at dksJ4_checkIndex_0 5 rfl rfl)
theorem dJ4_checkIndex_8 : decode cJ4_checkIndex 8 = .ok (.pop, 1) := dk_87 (dk_at dksJ4_checkIndex_0 8 rfl rfl)
theorem dJ4_checkIndex_9 : decode cJ4_checkIndex 9 = .ok (.return_, 1) := dk_177 (dk_at dksJ4_checkIndex_0 9 rfl rfl)
def dkwJ4_init_0 : List UInt8 := [42, 43, 1, 183, 1, 233, 177]
abbrev dktJ4_init_0 : List UInt8 := dkwJ4_init_0 ++ []
theorem dksJ4_init_0 : cJ4_init.data.toList.drop 0 = dktJ4_init_0 := by decide +kernel
theorem dJ4_init_0 : decode cJ4_init 0 = .ok (.aload_n 0, 1) := dk_42 (dk_at dksJ4_init_0 0 rfl rfl)
theorem dJ4_init_1 : decode cJ4_init 1 = .ok (.aload_n 1, 1) := dk_43 (dk_at dksJ4_init_0 1 rfl rfl)
theorem dJ4_init_2 : decode cJ4_init 2 = .ok (.aconst_null, 1) := dk_1 (dk_at dksJ4_init_0 2 rfl rfl)
theorem dJ4_init_3 : decode cJ4_init 3 = .ok (.invokespecial 489, 3) := dk_183 1 233 (dk_at dksJ4_init_0 3 rfl rfl)
theorem dJ4_init_6 : decode cJ4_init 6 = .ok (.return_, 1) := dk_177 (dk_at dksJ4_init_0 6 rfl rfl)
def dkwJ4_init_2_4 : List UInt8 := [181, 0, 9, 177]
abbrev dktJ4_init_2_4 : List UInt8 := dkwJ4_init_2_4 ++ []
def dkwJ4_init_2_3 : List UInt8 := [184, 0, 47, 181, 0, 15, 177, 42, 4, 181, 0, 15, 42, 45, 3, 21, 4, 4, 120, 184, 0, 54]
abbrev dktJ4_init_2_3 : List UInt8 := dkwJ4_init_2_3 ++ dktJ4_init_2_4
def dkwJ4_init_2_2 : List UInt8 := [180, 4, 24, 153, 0, 28, 42, 45, 3, 21, 4, 184, 4, 27, 181, 0, 9, 42, 42, 180, 0, 9, 21, 4]
abbrev dktJ4_init_2_2 : List UInt8 := dkwJ4_init_2_2 ++ dktJ4_init_2_3
def dkwJ4_init_2_1 : List UInt8 := [181, 0, 15, 42, 45, 3, 21, 4, 184, 0, 54, 181, 0, 9, 167, 0, 59, 178, 0, 38, 153, 0, 35, 43]
abbrev dktJ4_init_2_1 : List UInt8 := dkwJ4_init_2_1 ++ dktJ4_init_2_2
def dkwJ4_init_2_0 : List UInt8 := [42, 183, 0, 1, 43, 182, 2, 40, 78, 43, 182, 2, 37, 54, 4, 43, 182, 4, 23, 153, 0, 22, 42, 3]
abbrev dktJ4_init_2_0 : List UInt8 := dkwJ4_init_2_0 ++ dktJ4_init_2_1
theorem dksJ4_init_2_0 : cJ4_init_2.data.toList.drop 0 = dktJ4_init_2_0 := by decide +kernel
theorem dksJ4_init_2_1 : cJ4_init_2.data.toList.drop 24 = dktJ4_init_2_1 := dk_seg dksJ4_init_2_0 24 rfl rfl
theorem dksJ4_init_2_2 : cJ4_init_2.data.toList.drop 48 = dktJ4_init_2_2 := dk_seg dksJ4_init_2_1 24 rfl rfl
theorem dksJ4_init_2_3 : cJ4_init_2.data.toList.drop 72 = dktJ4_init_2_3 := dk_seg dksJ4_init_2_2 24 rfl rfl
theorem dksJ4_init_2_4 : cJ4_init_2.data.toList.drop 94 = dktJ4_init_2_4 := dk_seg dksJ4_init_2_3 22 rfl rfl
theorem dJ4_init_2_0 : decode cJ4_init_2 0 = .ok (.aload_n 0, 1) := dk_42 (dk_at dksJ4_init_2_0 0 rfl rfl)
theorem dJ4_init_2_1 : decode cJ4_init_2 1 = .ok (.invokespecial 1, 3) := dk_183 0 1 (dk_at dksJ4_init_2_0 1 rfl rfl)
theorem dJ4_init_2_4 : decode cJ4_init_2 4 = .ok (.aload_n 1, 1) := dk_43 (dk_at dksJ4_init_2_0 4 rfl rfl)
theorem dJ4_init_2_5 : decode cJ4_init_2 5 = .ok (.invokevirtual 552, 3) := dk_182 2 40 (dk_at dksJ4_init_2_0 5 rfl rfl)
theorem dJ4_init_2_8 : decode cJ4_init_2 8 = .ok (.astore_n 3, 1) := dk_78 (dk_at dksJ4_init_2_0 8 rfl rfl)
theorem dJ4_init_2_9 : decode cJ4_init_2 9 = .ok (.aload_n 1, 1) := dk_43 (dk_at dksJ4_init_2_0 9 rfl rfl)
theorem dJ4_init_2_10 : decode cJ4_init_2 10 = .ok (.invokevirtual 549, 3) := dk_182 2 37 (dk_at dksJ4_init_2_0 10 rfl rfl)
theorem dJ4_init_2_13 : decode cJ4_init_2 13 = .ok (.istore 4, 2) := dk_54 4 (dk_at dksJ4_init_2_0 13 rfl rfl)
theorem dJ4_init_2_15 : decode cJ4_init_2 15 = .ok (.aload_n 1, 1) := dk_43 (dk_at dksJ4_init_2_0 15 rfl rfl)
theorem dJ4_init_2_16 : decode cJ4_init_2 16 = .ok (.invokevirtual 1047, 3) := dk_182 4 23 (dk_at dksJ4_init_2_0 16 rfl rfl)
theorem dJ4_init_2_19 : decode cJ4_init_2 19 = .ok (.ifCond .eq 22, 3) := dk_153 0 22 (dk_at dksJ4_init_2_0 19 rfl rfl)
theorem dJ4_init_2_22 : decode cJ4_init_2 22 = .ok (.aload_n 0, 1) := dk_42 (dk_at dksJ4_init_2_0 22 rfl rfl)
theorem dJ4_init_2_23 : decode cJ4_init_2 23 = .ok (.iconst 0, 1) := dk_3 (dk_at dksJ4_init_2_0 23 rfl rfl)
theorem dJ4_init_2_24 : decode cJ4_init_2 24 = .ok (.putfield 15, 3) := dk_181 0 15 (dk_at dksJ4_init_2_1 0 rfl rfl)
theorem dJ4_init_2_27 : decode cJ4_init_2 27 = .ok (.aload_n 0, 1) := dk_42 (dk_at dksJ4_init_2_1 3 rfl rfl)
theorem dJ4_init_2_28 : decode cJ4_init_2 28 = .ok (.aload_n 3, 1) := dk_45 (dk_at dksJ4_init_2_1 4 rfl rfl)
theorem dJ4_init_2_29 : decode cJ4_init_2 29 = .ok (.iconst 0, 1) := dk_3 (dk_at dksJ4_init_2_1 5 rfl rfl)
theorem dJ4_init_2_30 : decode cJ4_init_2 30 = .ok (.iload 4, 2) := dk_21 4 (dk_at dksJ4_init_2_1 6 rfl rfl)
theorem dJ4_init_2_32 : decode cJ4_init_2 32 = .ok (.invokestatic 54, 3) := dk_184 0 54 (dk_at dksJ4_init_2_1 8 rfl rfl)
theorem dJ4_init_2_35 : decode cJ4_init_2 35 = .ok (.putfield 9, 3) := dk_181 0 9 (dk_at dksJ4_init_2_1 11 rfl rfl)
theorem dJ4_init_2_38 : decode cJ4_init_2 38 = .ok (.goto 59, 3) := dk_167 0 59 (dk_at dksJ4_init_2_1 14 rfl rfl)
theorem dJ4_init_2_41 : decode cJ4_init_2 41 = .ok (.getstatic 38, 3) := dk_178 0 38 (dk_at dksJ4_init_2_1 17 rfl rfl)
theorem dJ4_init_2_44 : decode cJ4_init_2 44 = .ok (.ifCond .eq 35, 3) := dk_153 0 35 (dk_at dksJ4_init_2_1 20 rfl rfl)
theorem dJ4_init_2_47 : decode cJ4_init_2 47 = .ok (.aload_n 1, 1) := dk_43 (dk_at dksJ4_init_2_1 23 rfl rfl)
theorem dJ4_init_2_48 : decode cJ4_init_2 48 = .ok (.getfield 1048, 3) := dk_180 4 24 (dk_at dksJ4_init_2_2 0 rfl rfl)
theorem dJ4_init_2_51 : decode cJ4_init_2 51 = .ok (.ifCond .eq 28, 3) := dk_153 0 28 (dk_at dksJ4_init_2_2 3 rfl rfl)
theorem dJ4_init_2_54 : decode cJ4_init_2 54 = .ok (.aload_n 0, 1) := dk_42 (dk_at dksJ4_init_2_2 6 rfl rfl)
theorem dJ4_init_2_55 : decode cJ4_init_2 55 = .ok (.aload_n 3, 1) := dk_45 (dk_at dksJ4_init_2_2 7 rfl rfl)
theorem dJ4_init_2_56 : decode cJ4_init_2 56 = .ok (.iconst 0, 1) := dk_3 (dk_at dksJ4_init_2_2 8 rfl rfl)
theorem dJ4_init_2_57 : decode cJ4_init_2 57 = .ok (.iload 4, 2) := dk_21 4 (dk_at dksJ4_init_2_2 9 rfl rfl)
theorem dJ4_init_2_59 : decode cJ4_init_2 59 = .ok (.invokestatic 1051, 3) := dk_184 4 27 (dk_at dksJ4_init_2_2 11 rfl rfl)
theorem dJ4_init_2_62 : decode cJ4_init_2 62 = .ok (.putfield 9, 3) := dk_181 0 9 (dk_at dksJ4_init_2_2 14 rfl rfl)
theorem dJ4_init_2_65 : decode cJ4_init_2 65 = .ok (.aload_n 0, 1) := dk_42 (dk_at dksJ4_init_2_2 17 rfl rfl)
theorem dJ4_init_2_66 : decode cJ4_init_2 66 = .ok (.aload_n 0, 1) := dk_42 (dk_at dksJ4_init_2_2 18 rfl rfl)
theorem dJ4_init_2_67 : decode cJ4_init_2 67 = .ok (.getfield 9, 3) := dk_180 0 9 (dk_at dksJ4_init_2_2 19 rfl rfl)
theorem dJ4_init_2_70 : decode cJ4_init_2 70 = .ok (.iload 4, 2) := dk_21 4 (dk_at dksJ4_init_2_2 22 rfl rfl)
theorem dJ4_init_2_72 : decode cJ4_init_2 72 = .ok (.invokestatic 47, 3) := dk_184 0 47 (dk_at dksJ4_init_2_3 0 rfl rfl)
theorem dJ4_init_2_75 : decode cJ4_init_2 75 = .ok (.putfield 15, 3) := dk_181 0 15 (dk_at dksJ4_init_2_3 3 rfl rfl)
theorem dJ4_init_2_78 : decode cJ4_init_2 78 = .ok (.return_, 1) := dk_177 (dk_at dksJ4_init_2_3 6 rfl rfl)
theorem dJ4_init_2_79 : decode cJ4_init_2 79 = .ok (.aload_n 0, 1) := dk_42 (dk_at dksJ4_init_2_3 7 rfl rfl)
theorem dJ4_init_2_80 : decode cJ4_init_2 80 = .ok (.iconst 1, 1) := dk_4 (dk_at dksJ4_init_2_3 8 rfl rfl)
theorem dJ4_init_2_81 : decode cJ4_init_2 81 = .ok (.putfield 15, 3) := dk_181 0 15 (dk_at dksJ4_init_2_3 9 rfl rfl)
theorem dJ4_init_2_84 : decode cJ4_init_2 84 = .ok (.aload_n 0, 1) := dk_42 (dk_at dksJ4_init_2_3 12 rfl rfl)
theorem dJ4_init_2_85 : decode cJ4_init_2 85 = .ok (.aload_n 3, 1) := dk_45 (dk_at dksJ4_init_2_3 13 rfl rfl)
theorem dJ4_init_2_86 : decode cJ4_init_2 86 = .ok (.iconst 0, 1) := dk_3 (dk_at dksJ4_init_2_3 14 rfl rfl)
theorem dJ4_init_2_87 : decode cJ4_init_2 87 = .ok (.iload 4, 2) := dk_21 4 (dk_at dksJ4_init_2_3 15 rfl rfl)
theorem dJ4_init_2_89 : decode cJ4_init_2 89 = .ok (.iconst 1, 1) := dk_4 (dk_at dksJ4_init_2_3 17 rfl rfl)
theorem dJ4_init_2_90 : decode cJ4_init_2 90 = .ok (.ishl, 1) := dk_120 (dk_at dksJ4_init_2_3 18 rfl rfl)
theorem dJ4_init_2_91 : decode cJ4_init_2 91 = .ok (.invokestatic 54, 3) := dk_184 0 54 (dk_at dksJ4_init_2_3 19 rfl rfl)
theorem dJ4_init_2_94 : decode cJ4_init_2 94 = .ok (.putfield 9, 3) := dk_181 0 9 (dk_at dksJ4_init_2_4 0 rfl rfl)
theorem dJ4_init_2_97 : decode cJ4_init_2 97 = .ok (.return_, 1) := dk_177 (dk_at dksJ4_init_2_4 3 rfl rfl)
def dkwJ4_hashCode_2 : List UInt8 := [181, 0, 23, 167, 0, 8, 42, 27, 181, 0, 19, 27, 172]
abbrev dktJ4_hashCode_2 : List UInt8 := dkwJ4_hashCode_2 ++ []
def dkwJ4_hashCode_1 : List UInt8 := [180, 0, 9, 184, 2, 116, 167, 0, 10, 42, 180, 0, 9, 184, 2, 120, 60, 27, 154, 0, 11, 42, 4]
abbrev dktJ4_hashCode_1 : List UInt8 := dkwJ4_hashCode_1 ++ dktJ4_hashCode_2
def dkwJ4_hashCode_0 : List UInt8 := [42, 180, 0, 19, 60, 27, 154, 0, 52, 42, 180, 0, 23, 154, 0, 45, 42, 182, 1, 236, 153, 0, 13, 42]
abbrev dktJ4_hashCode_0 : List UInt8 := dkwJ4_hashCode_0 ++ dktJ4_hashCode_1
theorem dksJ4_hashCode_0 : cJ4_hashCode.data.toList.drop 0 = dktJ4_hashCode_0 := by decide +kernel
theorem dksJ4_hashCode_1 : cJ4_hashCode.data.toList.drop 24 = dktJ4_hashCode_1 := dk_seg dksJ4_hashCode_0 24 rfl rfl
theorem dksJ4_hashCode_2 : cJ4_hashCode.data.toList.drop 47 = dktJ4_hashCode_2 := dk_seg dksJ4_hashCode_1 23 rfl rfl
theorem dJ4_hashCode_0 : decode cJ4_hashCode 0 = .ok (.aload_n 0, 1) := dk_42 (dk_at dksJ4_hashCode_0 0 rfl rfl)
theorem dJ4_hashCode_1 : decode cJ4_hashCode 1 = .ok (.getfield 19, 3) := dk_180 0 19 (dk_at dksJ4_hashCode_0 1 rfl rfl)
theorem dJ4_hashCode_4 : decode cJ4_hashCode 4 = .ok (.istore_n 1, 1) := dk_60 (dk_at dksJ4_hashCode_0 4 rfl rfl)
theorem dJ4_hashCode_5 : decode cJ4_hashCode 5 = .ok (.iload_n 1, 1) := dk_27 (dk_at dksJ4_hashCode_0 5 rfl rfl)
theorem dJ4_hashCode_6 : decode cJ4_hashCode 6 = .ok (.ifCond .ne 52, 3) := dk_154 0 52 (dk_at dksJ4_hashCode_0 6 rfl rfl)
theorem dJ4_hashCode_9 : decode cJ4_hashCode 9 = .ok (.aload_n 0, 1) := dk_42 (dk_at dksJ4_hashCode_0 9 rfl rfl)
theorem dJ4_hashCode_10 : decode cJ4_hashCode 10 = .ok (.getfield 23, 3) := dk_180 0 23 (dk_at dksJ4_hashCode_0 10 rfl rfl)
theorem dJ4_hashCode_13 : decode cJ4_hashCode 13 = .ok (.ifCond .ne 45, 3) := dk_154 0 45 (dk_at dksJ4_hashCode_0 13 rfl rfl)
theorem dJ4_hashCode_16 : decode cJ4_hashCode 16 = .ok (.aload_n 0, 1) := dk_42 (dk_at dksJ4_hashCode_0 16 rfl rfl)
theorem dJ4_hashCode_17 : decode cJ4_hashCode 17 = .ok (.invokevirtual 492, 3) := dk_182 1 236 (dk_at dksJ4_hashCode_0 17 rfl rfl)
theorem dJ4_hashCode_20 : decode cJ4_hashCode 20 = .ok (.ifCond .eq 13, 3) := dk_153 0 13 (dk_at dksJ4_hashCode_0 20 rfl rfl)
theorem dJ4_hashCode_23 : decode cJ4_hashCode 23 = .ok (.aload_n 0, 1) := dk_42 (dk_at dksJ4_hashCode_0 23 rfl rfl)
theorem dJ4_hashCode_24 : decode cJ4_hashCode 24 = .ok (.getfield 9, 3) := dk_180 0 9 (dk_at dksJ4_hashCode_1 0 rfl rfl)
theorem dJ4_hashCode_27 : decode cJ4_hashCode 27 = .ok (.invokestatic 628, 3) := dk_184 2 116 (dk_at dksJ4_hashCode_1 3 rfl rfl)
theorem dJ4_hashCode_30 : decode cJ4_hashCode 30 = .ok (.goto 10, 3) := dk_167 0 10 (dk_at dksJ4_hashCode_1 6 rfl rfl)
theorem dJ4_hashCode_33 : decode cJ4_hashCode 33 = .ok (.aload_n 0, 1) := dk_42 (dk_at dksJ4_hashCode_1 9 rfl rfl)
theorem dJ4_hashCode_34 : decode cJ4_hashCode 34 = .ok (.getfield 9, 3) := dk_180 0 9 (dk_at dksJ4_hashCode_1 10 rfl rfl)
theorem dJ4_hashCode_37 : decode cJ4_hashCode 37 = .ok (.invokestatic 632, 3) := dk_184 2 120 (dk_at dksJ4_hashCode_1 13 rfl rfl)
theorem dJ4_hashCode_40 : decode cJ4_hashCode 40 = .ok (.istore_n 1, 1) := dk_60 (dk_at dksJ4_hashCode_1 16 rfl rfl)
theorem dJ4_hashCode_41 : decode cJ4_hashCode 41 = .ok (.iload_n 1, 1) := dk_27 (dk_at dksJ4_hashCode_1 17 rfl rfl)
theorem dJ4_hashCode_42 : decode cJ4_hashCode 42 = .ok (.ifCond .ne 11, 3) := dk_154 0 11 (dk_at dksJ4_hashCode_1 18 rfl rfl)
theorem dJ4_hashCode_45 : decode cJ4_hashCode 45 = .ok (.aload_n 0, 1) := dk_42 (dk_at dksJ4_hashCode_1 21 rfl rfl)
theorem dJ4_hashCode_46 : decode cJ4_hashCode 46 = .ok (.iconst 1, 1) := dk_4 (dk_at dksJ4_hashCode_1 22 rfl rfl)
theorem dJ4_hashCode_47 : decode cJ4_hashCode 47 = .ok (.putfield 23, 3) := dk_181 0 23 (dk_at dksJ4_hashCode_2 0 rfl rfl)
theorem dJ4_hashCode_50 : decode cJ4_hashCode 50 = .ok (.goto 8, 3) := dk_167 0 8 (dk_at dksJ4_hashCode_2 3 rfl rfl)
theorem dJ4_hashCode_53 : decode cJ4_hashCode 53 = .ok (.aload_n 0, 1) := dk_42 (dk_at dksJ4_hashCode_2 6 rfl rfl)
theorem dJ4_hashCode_54 : decode cJ4_hashCode 54 = .ok (.iload_n 1, 1) := dk_27 (dk_at dksJ4_hashCode_2 7 rfl rfl)
theorem dJ4_hashCode_55 : decode cJ4_hashCode 55 = .ok (.putfield 19, 3) := dk_181 0 19 (dk_at dksJ4_hashCode_2 8 rfl rfl)
theorem dJ4_hashCode_58 : decode cJ4_hashCode 58 = .ok (.iload_n 1, 1) := dk_27 (dk_at dksJ4_hashCode_2 11 rfl rfl)
theorem dJ4_hashCode_59 : decode cJ4_hashCode 59 = .ok (.ireturn, 1) := dk_172 (dk_at dksJ4_hashCode_2 12 rfl rfl)
def dkwJ4_isLatin1_0 : List UInt8 := [178, 0, 38, 153, 0, 14, 42, 180, 0, 15, 154, 0, 7, 4, 167, 0, 4, 3, 172]
abbrev dktJ4_isLatin1_0 : List UInt8 := dkwJ4_isLatin1_0 ++ []
theorem dksJ4_isLatin1_0 : cJ4_isLatin1.data.toList.drop 0 = dktJ4_isLatin1_0 := by decide +kernel
theorem dJ4_isLatin1_0 : decode cJ4_isLatin1 0 = .ok (.getstatic 38, 3) := dk_178 0 38 (dk_at dksJ4_isLatin1_0 0 rfl rfl)
theorem dJ4_isLatin1_3 : decode cJ4_isLatin1 3 = .ok (.ifCond .eq 14, 3) := dk_153 0 14 (dk_at dksJ4_isLatin1_0 3 rfl rfl)
theorem dJ4_isLatin1_6 : decode cJ4_isLatin1 6 = .ok (.aload_n 0, 1) := dk_42 (dk_at dksJ4_isLatin1_0 6 rfl rfl)
theorem dJ4_isLatin1_7 : decode cJ4_isLatin1 7 = .ok (.getfield 15, 3) := dk_180 0 15 (dk_at dksJ4_isLatin1_0 7 rfl rfl)
theorem dJ4_isLatin1_10 : decode cJ4_isLatin1 10 = .ok (.ifCond .ne 7, 3) := dk_154 0 7 (dk_at dksJ4_isLatin1_0 10 rfl rfl)
theorem dJ4_isLatin1_13 : decode cJ4_isLatin1 13 = .ok (.iconst 1, 1) := dk_4 (dk_at dksJ4_isLatin1_0 13 rfl rfl)
theorem dJ4_isLatin1_14 : decode cJ4_isLatin1 14 = .ok (.goto 4, 3) := dk_167 0 4 (dk_at dksJ4_isLatin1_0 14 rfl rfl)
theorem dJ4_isLatin1_17 : decode cJ4_isLatin1 17 = .ok (.iconst 0, 1) := dk_3 (dk_at dksJ4_isLatin1_0 17 rfl rfl)
theorem dJ4_isLatin1_18 : decode cJ4_isLatin1 18 = .ok (.ireturn, 1) := dk_172 (dk_at dksJ4_isLatin1_0 18 rfl rfl)
def dkwJ4_equals_2 : List UInt8 := [184, 2, 29, 153, 0, 7, 4, 167, 0, 4, 3, 172]
abbrev dktJ4_equals_2 : List UInt8 := dkwJ4_equals_2 ++ []
def dkwJ4_equals_1 : List UInt8 := [153, 0, 14, 42, 180, 0, 15, 44, 180, 0, 15, 160, 0, 21, 42, 180, 0, 9, 44, 180, 0, 9]
abbrev dktJ4_equals_1 : List UInt8 := dkwJ4_equals_1 ++ dktJ4_equals_2
def dkwJ4_equals_0 : List UInt8 := [42, 43, 166, 0, 5, 4, 172, 43, 193, 0, 10, 153, 0, 43, 43, 192, 0, 10, 77, 178, 0, 38]
abbrev dktJ4_equals_0 : List UInt8 := dkwJ4_equals_0 ++ dktJ4_equals_1
theorem dksJ4_equals_0 : cJ4_equals.data.toList.drop 0 = dktJ4_equals_0 := by decide +kernel
theorem dksJ4_equals_1 : cJ4_equals.data.toList.drop 22 = dktJ4_equals_1 := dk_seg dksJ4_equals_0 22 rfl rfl
theorem dksJ4_equals_2 : cJ4_equals.data.toList.drop 44 = dktJ4_equals_2 := dk_seg dksJ4_equals_1 22 rfl rfl
theorem dJ4_equals_0 : decode cJ4_equals 0 = .ok (.aload_n 0, 1) := dk_42 (dk_at dksJ4_equals_0 0 rfl rfl)
theorem dJ4_equals_1 : decode cJ4_equals 1 = .ok (.aload_n 1, 1) := dk_43 (dk_at dksJ4_equals_0 1 rfl rfl)
theorem dJ4_equals_2 : decode cJ4_equals 2 = .ok (.if_acmp .ne 5, 3) := dk_166 0 5 (dk_at dksJ4_equals_0 2 rfl rfl)
theorem dJ4_equals_5 : decode cJ4_equals 5 = .ok (.iconst 1, 1) := dk_4 (dk_at dksJ4_equals_0 5 rfl rfl)
theorem dJ4_equals_6 : decode cJ4_equals 6 = .ok (.ireturn, 1) := dk_172 (dk_at dksJ4_equals_0 6 rfl rfl)
theorem dJ4_equals_7 : decode cJ4_equals 7 = .ok (.aload_n 1, 1) := dk_43 (dk_at dksJ4_equals_0 7 rfl rfl)
theorem dJ4_equals_8 : decode cJ4_equals 8 = .ok (.instanceof 10, 3) := dk_193 0 10 (dk_at dksJ4_equals_0 8 rfl rfl)
theorem dJ4_equals_11 : decode cJ4_equals 11 = .ok (.ifCond .eq 43, 3) := dk_153 0 43 (dk_at dksJ4_equals_0 11 rfl rfl)
theorem dJ4_equals_14 : decode cJ4_equals 14 = .ok (.aload_n 1, 1) := dk_43 (dk_at dksJ4_equals_0 14 rfl rfl)
theorem dJ4_equals_15 : decode cJ4_equals 15 = .ok (.checkcast 10, 3) := dk_192 0 10 (dk_at dksJ4_equals_0 15 rfl rfl)
theorem dJ4_equals_18 : decode cJ4_equals 18 = .ok (.astore_n 2, 1) := dk_77 (dk_at dksJ4_equals_0 18 rfl rfl)
theorem dJ4_equals_19 : decode cJ4_equals 19 = .ok (.getstatic 38, 3) := dk_178 0 38 (dk_at dksJ4_equals_0 19 rfl rfl)
theorem dJ4_equals_22 : decode cJ4_equals 22 = .ok (.ifCond .eq 14, 3) := dk_153 0 14 (dk_at dksJ4_equals_1 0 rfl rfl)
theorem dJ4_equals_25 : decode cJ4_equals 25 = .ok (.aload_n 0, 1) := dk_42 (dk_at dksJ4_equals_1 3 rfl rfl)
theorem dJ4_equals_26 : decode cJ4_equals 26 = .ok (.getfield 15, 3) := dk_180 0 15 (dk_at dksJ4_equals_1 4 rfl rfl)
theorem dJ4_equals_29 : decode cJ4_equals 29 = .ok (.aload_n 2, 1) := dk_44 (dk_at dksJ4_equals_1 7 rfl rfl)
theorem dJ4_equals_30 : decode cJ4_equals 30 = .ok (.getfield 15, 3) := dk_180 0 15 (dk_at dksJ4_equals_1 8 rfl rfl)
theorem dJ4_equals_33 : decode cJ4_equals 33 = .ok (.if_icmp .ne 21, 3) := dk_160 0 21 (dk_at dksJ4_equals_1 11 rfl rfl)
theorem dJ4_equals_36 : decode cJ4_equals 36 = .ok (.aload_n 0, 1) := dk_42 (dk_at dksJ4_equals_1 14 rfl rfl)
theorem dJ4_equals_37 : decode cJ4_equals 37 = .ok (.getfield 9, 3) := dk_180 0 9 (dk_at dksJ4_equals_1 15 rfl rfl)
theorem dJ4_equals_40 : decode cJ4_equals 40 = .ok (.aload_n 2, 1) := dk_44 (dk_at dksJ4_equals_1 18 rfl rfl)
theorem dJ4_equals_41 : decode cJ4_equals 41 = .ok (.getfield 9, 3) := dk_180 0 9 (dk_at dksJ4_equals_1 19 rfl rfl)
theorem dJ4_equals_44 : decode cJ4_equals 44 = .ok (.invokestatic 541, 3) := dk_184 2 29 (dk_at dksJ4_equals_2 0 rfl rfl)
theorem dJ4_equals_47 : decode cJ4_equals 47 = .ok (.ifCond .eq 7, 3) := dk_153 0 7 (dk_at dksJ4_equals_2 3 rfl rfl)
theorem dJ4_equals_50 : decode cJ4_equals 50 = .ok (.iconst 1, 1) := dk_4 (dk_at dksJ4_equals_2 6 rfl rfl)
theorem dJ4_equals_51 : decode cJ4_equals 51 = .ok (.goto 4, 3) := dk_167 0 4 (dk_at dksJ4_equals_2 7 rfl rfl)
theorem dJ4_equals_54 : decode cJ4_equals 54 = .ok (.iconst 0, 1) := dk_3 (dk_at dksJ4_equals_2 10 rfl rfl)
theorem dJ4_equals_55 : decode cJ4_equals 55 = .ok (.ireturn, 1) := dk_172 (dk_at dksJ4_equals_2 11 rfl rfl)
def dkwJ4_length_0 : List UInt8 := [42, 180, 0, 9, 190, 42, 182, 1, 79, 122, 172]
abbrev dktJ4_length_0 : List UInt8 := dkwJ4_length_0 ++ []
theorem dksJ4_length_0 : cJ4_length.data.toList.drop 0 = dktJ4_length_0 := by decide +kernel
theorem dJ4_length_0 : decode cJ4_length 0 = .ok (.aload_n 0, 1) := dk_42 (dk_at dksJ4_length_0 0 rfl rfl)
theorem dJ4_length_1 : decode cJ4_length 1 = .ok (.getfield 9, 3) := dk_180 0 9 (dk_at dksJ4_length_0 1 rfl rfl)
theorem dJ4_length_4 : decode cJ4_length 4 = .ok (.arraylength, 1) := dk_190 (dk_at dksJ4_length_0 4 rfl rfl)
theorem dJ4_length_5 : decode cJ4_length 5 = .ok (.aload_n 0, 1) := dk_42 (dk_at dksJ4_length_0 5 rfl rfl)
theorem dJ4_length_6 : decode cJ4_length 6 = .ok (.invokevirtual 335, 3) := dk_182 1 79 (dk_at dksJ4_length_0 6 rfl rfl)
theorem dJ4_length_9 : decode cJ4_length 9 = .ok (.ishr, 1) := dk_122 (dk_at dksJ4_length_0 9 rfl rfl)
theorem dJ4_length_10 : decode cJ4_length 10 = .ok (.ireturn, 1) := dk_172 (dk_at dksJ4_length_0 10 rfl rfl)
def dkwJ4_coder_0 : List UInt8 := [178, 0, 38, 153, 0, 10, 42, 180, 0, 15, 167, 0, 4, 4, 172]
abbrev dktJ4_coder_0 : List UInt8 := dkwJ4_coder_0 ++ []
theorem dksJ4_coder_0 : cJ4_coder.data.toList.drop 0 = dktJ4_coder_0 := by decide +kernel
theorem dJ4_coder_0 : decode cJ4_coder 0 = .ok (.getstatic 38, 3) := dk_178 0 38 (dk_at dksJ4_coder_0 0 rfl rfl)
theorem dJ4_coder_3 : decode cJ4_coder 3 = .ok (.ifCond .eq 10, 3) := dk_153 0 10 (dk_at dksJ4_coder_0 3 rfl rfl)
theorem dJ4_coder_6 : decode cJ4_coder 6 = .ok (.aload_n 0, 1) := dk_42 (dk_at dksJ4_coder_0 6 rfl rfl)
theorem dJ4_coder_7 : decode cJ4_coder 7 = .ok (.getfield 15, 3) := dk_180 0 15 (dk_at dksJ4_coder_0 7 rfl rfl)
theorem dJ4_coder_10 : decode cJ4_coder 10 = .ok (.goto 4, 3) := dk_167 0 4 (dk_at dksJ4_coder_0 10 rfl rfl)
theorem dJ4_coder_13 : decode cJ4_coder 13 = .ok (.iconst 1, 1) := dk_4 (dk_at dksJ4_coder_0 13 rfl rfl)
theorem dJ4_coder_14 : decode cJ4_coder 14 = .ok (.ireturn, 1) := dk_172 (dk_at dksJ4_coder_0 14 rfl rfl)
def dkwJ4_charAt_1 : List UInt8 := [172]
abbrev dktJ4_charAt_1 : List UInt8 := dkwJ4_charAt_1 ++ []
def dkwJ4_charAt_0 : List UInt8 := [42, 182, 1, 236, 153, 0, 12, 42, 180, 0, 9, 27, 184, 1, 239, 172, 42, 180, 0, 9, 27, 184, 1, 242]
abbrev dktJ4_charAt_0 : List UInt8 := dkwJ4_charAt_0 ++ dktJ4_charAt_1
theorem dksJ4_charAt_0 : cJ4_charAt.data.toList.drop 0 = dktJ4_charAt_0 := by decide +kernel
theorem dksJ4_charAt_1 : cJ4_charAt.data.toList.drop 24 = dktJ4_charAt_1 := dk_seg dksJ4_charAt_0 24 rfl rfl
theorem dJ4_charAt_0 : decode cJ4_charAt 0 = .ok (.aload_n 0, 1) := dk_42 (dk_at dksJ4_charAt_0 0 rfl rfl)
theorem dJ4_charAt_1 : decode cJ4_charAt 1 = .ok (.invokevirtual 492, 3) := dk_182 1 236 (dk_at dksJ4_charAt_0 1 rfl rfl)
theorem dJ4_charAt_4 : decode cJ4_charAt 4 = .ok (.ifCond .eq 12, 3) := dk_153 0 12 (dk_at dksJ4_charAt_0 4 rfl rfl)
theorem dJ4_charAt_7 : decode cJ4_charAt 7 = .ok (.aload_n 0, 1) := dk_42 (dk_at dksJ4_charAt_0 7 rfl rfl)
theorem dJ4_charAt_8 : decode cJ4_charAt 8 = .ok (.getfield 9, 3) := dk_180 0 9 (dk_at dksJ4_charAt_0 8 rfl rfl)
theorem dJ4_charAt_11 : decode cJ4_charAt 11 = .ok (.iload_n 1, 1) := dk_27 (dk_at dksJ4_charAt_0 11 rfl rfl)
theorem dJ4_charAt_12 : decode cJ4_charAt 12 = .ok (.invokestatic 495, 3) := dk_184 1 239 (dk_at dksJ4_charAt_0 12 rfl rfl)
theorem dJ4_charAt_15 : decode cJ4_charAt 15 = .ok (.ireturn, 1) := dk_172 (dk_at dksJ4_charAt_0 15 rfl rfl)
theorem dJ4_charAt_16 : decode cJ4_charAt 16 = .ok (.aload_n 0, 1) := dk_42 (dk_at dksJ4_charAt_0 16 rfl rfl)
theorem dJ4_charAt_17 : decode cJ4_charAt 17 = .ok (.getfield 9, 3) := dk_180 0 9 (dk_at dksJ4_charAt_0 17 rfl rfl)
theorem dJ4_charAt_20 : decode cJ4_charAt 20 = .ok (.iload_n 1, 1) := dk_27 (dk_at dksJ4_charAt_0 20 rfl rfl)
theorem dJ4_charAt_21 : decode cJ4_charAt 21 = .ok (.invokestatic 498, 3) := dk_184 1 242 (dk_at dksJ4_charAt_0 21 rfl rfl)
theorem dJ4_charAt_24 : decode cJ4_charAt 24 = .ok (.ireturn, 1) := dk_172 (dk_at dksJ4_charAt_1 0 rfl rfl)
def dkwJ5_init_0 : List UInt8 := [42, 43, 183, 0, 7, 177]
abbrev dktJ5_init_0 : List UInt8 := dkwJ5_init_0 ++ []
theorem dksJ5_init_0 : cJ5_init.data.toList.drop 0 = dktJ5_init_0 := by decide +kernel
theorem dJ5_init_0 : decode cJ5_init 0 = .ok (.aload_n 0, 1) := dk_42 (dk_at dksJ5_init_0 0 rfl rfl)
theorem dJ5_init_1 : decode cJ5_init 1 = .ok (.aload_n 1, 1) := dk_43 (dk_at dksJ5_init_0 1 rfl rfl)
theorem dJ5_init_2 : decode cJ5_init 2 = .ok (.invokespecial 7, 3) := dk_183 0 7 (dk_at dksJ5_init_0 2 rfl rfl)
theorem dJ5_init_5 : decode cJ5_init 5 = .ok (.return_, 1) := dk_177 (dk_at dksJ5_init_0 5 rfl rfl)
def dkwJ6_init_0 : List UInt8 := [42, 43, 183, 0, 7, 177]
abbrev dktJ6_init_0 : List UInt8 := dkwJ6_init_0 ++ []
theorem dksJ6_init_0 : cJ6_init.data.toList.drop 0 = dktJ6_init_0 := by decide +kernel
theorem dJ6_init_0 : decode cJ6_init 0 = .ok (.aload_n 0, 1) := dk_42 (dk_at dksJ6_init_0 0 rfl rfl)
theorem dJ6_init_1 : decode cJ6_init 1 = .ok (.aload_n 1, 1) := dk_43 (dk_at dksJ6_init_0 1 rfl rfl)
theorem dJ6_init_2 : decode cJ6_init 2 = .ok (.invokespecial 7, 3) := dk_183 0 7 (dk_at dksJ6_init_0 2 rfl rfl)
theorem dJ6_init_5 : decode cJ6_init 5 = .ok (.return_, 1) := dk_177 (dk_at dksJ6_init_0 5 rfl rfl)
theorem dJ7_init_0 : decode cJ7_init 0 = .ok (.aload_n 0, 1) := by decide +kernel
theorem dJ7_init_1 : decode cJ7_init 1 = .ok (.invokespecial 1, 3) := by decide +kernel
theorem dJ7_init_4 : decode cJ7_init 4 = .ok (.return_, 1) := by decide +kernel
def dkwJ8_init_0 : List UInt8 := [42, 43, 183, 0, 7, 177]
abbrev dktJ8_init_0 : List UInt8 := dkwJ8_init_0 ++ []
theorem dksJ8_init_0 : cJ8_init.data.toList.drop 0 = dktJ8_init_0 := by decide +kernel
theorem dJ8_init_0 : decode cJ8_init 0 = .ok (.aload_n 0, 1) := dk_42 (dk_at dksJ8_init_0 0 rfl rfl)
theorem dJ8_init_1 : decode cJ8_init 1 = .ok (.aload_n 1, 1) := dk_43 (dk_at dksJ8_init_0 1 rfl rfl)
theorem dJ8_init_2 : decode cJ8_init 2 = .ok (.invokespecial 7, 3) := dk_183 0 7 (dk_at dksJ8_init_0 2 rfl rfl)
theorem dJ8_init_5 : decode cJ8_init 5 = .ok (.return_, 1) := dk_177 (dk_at dksJ8_init_0 5 rfl rfl)
def dkwJ9_init_0 : List UInt8 := [42, 43, 183, 0, 7, 177]
abbrev dktJ9_init_0 : List UInt8 := dkwJ9_init_0 ++ []
theorem dksJ9_init_0 : cJ9_init.data.toList.drop 0 = dktJ9_init_0 := by decide +kernel
theorem dJ9_init_0 : decode cJ9_init 0 = .ok (.aload_n 0, 1) := dk_42 (dk_at dksJ9_init_0 0 rfl rfl)
theorem dJ9_init_1 : decode cJ9_init 1 = .ok (.aload_n 1, 1) := dk_43 (dk_at dksJ9_init_0 1 rfl rfl)
theorem dJ9_init_2 : decode cJ9_init 2 = .ok (.invokespecial 7, 3) := dk_183 0 7 (dk_at dksJ9_init_0 2 rfl rfl)
theorem dJ9_init_5 : decode cJ9_init 5 = .ok (.return_, 1) := dk_177 (dk_at dksJ9_init_0 5 rfl rfl)
def dkwJ10_abs_0 : List UInt8 := [26, 156, 0, 8, 26, 116, 167, 0, 4, 26, 172]
abbrev dktJ10_abs_0 : List UInt8 := dkwJ10_abs_0 ++ []
theorem dksJ10_abs_0 : cJ10_abs.data.toList.drop 0 = dktJ10_abs_0 := by decide +kernel
theorem dJ10_abs_0 : decode cJ10_abs 0 = .ok (.iload_n 0, 1) := dk_26 (dk_at dksJ10_abs_0 0 rfl rfl)
theorem dJ10_abs_1 : decode cJ10_abs 1 = .ok (.ifCond .ge 8, 3) := dk_156 0 8 (dk_at dksJ10_abs_0 1 rfl rfl)
theorem dJ10_abs_4 : decode cJ10_abs 4 = .ok (.iload_n 0, 1) := dk_26 (dk_at dksJ10_abs_0 4 rfl rfl)
theorem dJ10_abs_5 : decode cJ10_abs 5 = .ok (.ineg, 1) := dk_116 (dk_at dksJ10_abs_0 5 rfl rfl)
theorem dJ10_abs_6 : decode cJ10_abs 6 = .ok (.goto 4, 3) := dk_167 0 4 (dk_at dksJ10_abs_0 6 rfl rfl)
theorem dJ10_abs_9 : decode cJ10_abs 9 = .ok (.iload_n 0, 1) := dk_26 (dk_at dksJ10_abs_0 9 rfl rfl)
theorem dJ10_abs_10 : decode cJ10_abs 10 = .ok (.ireturn, 1) := dk_172 (dk_at dksJ10_abs_0 10 rfl rfl)
def dkwJ10_max_0 : List UInt8 := [26, 27, 161, 0, 7, 26, 167, 0, 4, 27, 172]
abbrev dktJ10_max_0 : List UInt8 := dkwJ10_max_0 ++ []
theorem dksJ10_max_0 : cJ10_max.data.toList.drop 0 = dktJ10_max_0 := by decide +kernel
theorem dJ10_max_0 : decode cJ10_max 0 = .ok (.iload_n 0, 1) := dk_26 (dk_at dksJ10_max_0 0 rfl rfl)
theorem dJ10_max_1 : decode cJ10_max 1 = .ok (.iload_n 1, 1) := dk_27 (dk_at dksJ10_max_0 1 rfl rfl)
theorem dJ10_max_2 : decode cJ10_max 2 = .ok (.if_icmp .lt 7, 3) := dk_161 0 7 (dk_at dksJ10_max_0 2 rfl rfl)
theorem dJ10_max_5 : decode cJ10_max 5 = .ok (.iload_n 0, 1) := dk_26 (dk_at dksJ10_max_0 5 rfl rfl)
theorem dJ10_max_6 : decode cJ10_max 6 = .ok (.goto 4, 3) := dk_167 0 4 (dk_at dksJ10_max_0 6 rfl rfl)
theorem dJ10_max_9 : decode cJ10_max 9 = .ok (.iload_n 1, 1) := dk_27 (dk_at dksJ10_max_0 9 rfl rfl)
theorem dJ10_max_10 : decode cJ10_max 10 = .ok (.ireturn, 1) := dk_172 (dk_at dksJ10_max_0 10 rfl rfl)
def dkwJ10_min_0 : List UInt8 := [26, 27, 163, 0, 7, 26, 167, 0, 4, 27, 172]
abbrev dktJ10_min_0 : List UInt8 := dkwJ10_min_0 ++ []
theorem dksJ10_min_0 : cJ10_min.data.toList.drop 0 = dktJ10_min_0 := by decide +kernel
theorem dJ10_min_0 : decode cJ10_min 0 = .ok (.iload_n 0, 1) := dk_26 (dk_at dksJ10_min_0 0 rfl rfl)
theorem dJ10_min_1 : decode cJ10_min 1 = .ok (.iload_n 1, 1) := dk_27 (dk_at dksJ10_min_0 1 rfl rfl)
theorem dJ10_min_2 : decode cJ10_min 2 = .ok (.if_icmp .gt 7, 3) := dk_163 0 7 (dk_at dksJ10_min_0 2 rfl rfl)
theorem dJ10_min_5 : decode cJ10_min 5 = .ok (.iload_n 0, 1) := dk_26 (dk_at dksJ10_min_0 5 rfl rfl)
theorem dJ10_min_6 : decode cJ10_min 6 = .ok (.goto 4, 3) := dk_167 0 4 (dk_at dksJ10_min_0 6 rfl rfl)
theorem dJ10_min_9 : decode cJ10_min 9 = .ok (.iload_n 1, 1) := dk_27 (dk_at dksJ10_min_0 9 rfl rfl)
theorem dJ10_min_10 : decode cJ10_min 10 = .ok (.ireturn, 1) := dk_172 (dk_at dksJ10_min_0 10 rfl rfl)
def dkwJ11_init_1 : List UInt8 := [167, 0, 16, 42, 27, 184, 0, 26, 181, 0, 15, 42, 4, 181, 0, 22, 177]
abbrev dktJ11_init_1 : List UInt8 := dkwJ11_init_1 ++ []
def dkwJ11_init_0 : List UInt8 := [42, 183, 0, 3, 178, 0, 18, 153, 0, 18, 42, 27, 188, 8, 181, 0, 15, 42, 3, 181, 0, 22]
abbrev dktJ11_init_0 : List UInt8 := dkwJ11_init_0 ++ dktJ11_init_1
theorem dksJ11_init_0 : cJ11_init.data.toList.drop 0 = dktJ11_init_0 := by decide +kernel
theorem dksJ11_init_1 : cJ11_init.data.toList.drop 22 = dktJ11_init_1 := dk_seg dksJ11_init_0 22 rfl rfl
theorem dJ11_init_0 : decode cJ11_init 0 = .ok (.aload_n 0, 1) := dk_42 (dk_at dksJ11_init_0 0 rfl rfl)
theorem dJ11_init_1 : decode cJ11_init 1 = .ok (.invokespecial 3, 3) := dk_183 0 3 (dk_at dksJ11_init_0 1 rfl rfl)
theorem dJ11_init_4 : decode cJ11_init 4 = .ok (.getstatic 18, 3) := dk_178 0 18 (dk_at dksJ11_init_0 4 rfl rfl)
theorem dJ11_init_7 : decode cJ11_init 7 = .ok (.ifCond .eq 18, 3) := dk_153 0 18 (dk_at dksJ11_init_0 7 rfl rfl)
theorem dJ11_init_10 : decode cJ11_init 10 = .ok (.aload_n 0, 1) := dk_42 (dk_at dksJ11_init_0 10 rfl rfl)
theorem dJ11_init_11 : decode cJ11_init 11 = .ok (.iload_n 1, 1) := dk_27 (dk_at dksJ11_init_0 11 rfl rfl)
theorem dJ11_init_12 : decode cJ11_init 12 = .ok (.newarray .byte, 2) := dk_188_8 (dk_at dksJ11_init_0 12 rfl rfl)
theorem dJ11_init_14 : decode cJ11_init 14 = .ok (.putfield 15, 3) := dk_181 0 15 (dk_at dksJ11_init_0 14 rfl rfl)
theorem dJ11_init_17 : decode cJ11_init 17 = .ok (.aload_n 0, 1) := dk_42 (dk_at dksJ11_init_0 17 rfl rfl)
theorem dJ11_init_18 : decode cJ11_init 18 = .ok (.iconst 0, 1) := dk_3 (dk_at dksJ11_init_0 18 rfl rfl)
theorem dJ11_init_19 : decode cJ11_init 19 = .ok (.putfield 22, 3) := dk_181 0 22 (dk_at dksJ11_init_0 19 rfl rfl)
theorem dJ11_init_22 : decode cJ11_init 22 = .ok (.goto 16, 3) := dk_167 0 16 (dk_at dksJ11_init_1 0 rfl rfl)
theorem dJ11_init_25 : decode cJ11_init 25 = .ok (.aload_n 0, 1) := dk_42 (dk_at dksJ11_init_1 3 rfl rfl)
theorem dJ11_init_26 : decode cJ11_init 26 = .ok (.iload_n 1, 1) := dk_27 (dk_at dksJ11_init_1 4 rfl rfl)
theorem dJ11_init_27 : decode cJ11_init 27 = .ok (.invokestatic 26, 3) := dk_184 0 26 (dk_at dksJ11_init_1 5 rfl rfl)
theorem dJ11_init_30 : decode cJ11_init 30 = .ok (.putfield 15, 3) := dk_181 0 15 (dk_at dksJ11_init_1 8 rfl rfl)
theorem dJ11_init_33 : decode cJ11_init 33 = .ok (.aload_n 0, 1) := dk_42 (dk_at dksJ11_init_1 11 rfl rfl)
theorem dJ11_init_34 : decode cJ11_init 34 = .ok (.iconst 1, 1) := dk_4 (dk_at dksJ11_init_1 12 rfl rfl)
theorem dJ11_init_35 : decode cJ11_init 35 = .ok (.putfield 22, 3) := dk_181 0 22 (dk_at dksJ11_init_1 13 rfl rfl)
theorem dJ11_init_38 : decode cJ11_init 38 = .ok (.return_, 1) := dk_177 (dk_at dksJ11_init_1 16 rfl rfl)
def dkwJ11_append_3 : List UInt8 := [181, 0, 79, 27, 184, 0, 197, 42, 176]
abbrev dktJ11_append_3 : List UInt8 := dkwJ11_append_3 ++ []
def dkwJ11_append_2 : List UInt8 := [182, 0, 83, 153, 0, 7, 42, 182, 0, 195, 42, 180, 0, 15, 42, 89, 180, 0, 79, 90, 4, 96]
abbrev dktJ11_append_2 : List UInt8 := dkwJ11_append_2 ++ dktJ11_append_3
def dkwJ11_append_1 : List UInt8 := [42, 180, 0, 15, 42, 89, 180, 0, 79, 90, 4, 96, 181, 0, 79, 27, 145, 84, 167, 0, 33, 42]
abbrev dktJ11_append_1 : List UInt8 := dkwJ11_append_1 ++ dktJ11_append_2
def dkwJ11_append_0 : List UInt8 := [42, 42, 180, 0, 79, 4, 96, 182, 0, 100, 42, 182, 0, 83, 153, 0, 31, 27, 184, 0, 191, 153, 0, 24]
abbrev dktJ11_append_0 : List UInt8 := dkwJ11_append_0 ++ dktJ11_append_1
theorem dksJ11_append_0 : cJ11_append.data.toList.drop 0 = dktJ11_append_0 := by decide +kernel
theorem dksJ11_append_1 : cJ11_append.data.toList.drop 24 = dktJ11_append_1 := dk_seg dksJ11_append_0 24 rfl rfl
theorem dksJ11_append_2 : cJ11_append.data.toList.drop 46 = dktJ11_append_2 := dk_seg dksJ11_append_1 22 rfl rfl
theorem dksJ11_append_3 : cJ11_append.data.toList.drop 68 = dktJ11_append_3 := dk_seg dksJ11_append_2 22 rfl rfl
theorem dJ11_append_0 : decode cJ11_append 0 = .ok (.aload_n 0, 1) := dk_42 (dk_at dksJ11_append_0 0 rfl rfl)
theorem dJ11_append_1 : decode cJ11_append 1 = .ok (.aload_n 0, 1) := dk_42 (dk_at dksJ11_append_0 1 rfl rfl)
theorem dJ11_append_2 : decode cJ11_append 2 = .ok (.getfield 79, 3) := dk_180 0 79 (dk_at dksJ11_append_0 2 rfl rfl)
theorem dJ11_append_5 : decode cJ11_append 5 = .ok (.iconst 1, 1) := dk_4 (dk_at dksJ11_append_0 5 rfl rfl)
theorem dJ11_append_6 : decode cJ11_append 6 = .ok (.iadd, 1) := dk_96 (dk_at dksJ11_append_0 6 rfl rfl)
theorem dJ11_append_7 : decode cJ11_append 7 = .ok (.invokevirtual 100, 3) := dk_182 0 100 (dk_at dksJ11_append_0 7 rfl rfl)
theorem dJ11_append_10 : decode cJ11_append 10 = .ok (.aload_n 0, 1) := dk_42 (dk_at dksJ11_append_0 10 rfl rfl)
theorem dJ11_append_11 : decode cJ11_append 11 = .ok (.invokevirtual 83, 3) := dk_182 0 83 (dk_at dksJ11_append_0 11 rfl rfl)
theorem dJ11_append_14 : decode cJ11_append 14 = .ok (.ifCond .eq 31, 3) := dk_153 0 31 (dk_at dksJ11_append_0 14 rfl rfl)
theorem dJ11_append_17 : decode cJ11_append 17 = .ok (.iload_n 1, 1) := dk_27 (dk_at dksJ11_append_0 17 rfl rfl)
theorem dJ11_append_18 : decode cJ11_append 18 = .ok (.invokestatic 191, 3) := dk_184 0 191 (dk_at dksJ11_append_0 18 rfl rfl)
theorem dJ11_append_21 : decode cJ11_append 21 = .ok (.ifCond .eq 24, 3) := dk_153 0 24 (dk_at dksJ11_append_0 21 rfl rfl)
theorem dJ11_append_24 : decode cJ11_append 24 = .ok (.aload_n 0, 1) := dk_42 (dk_at dksJ11_append_1 0 rfl rfl)
theorem dJ11_append_25 : decode cJ11_append 25 = .ok (.getfield 15, 3) := dk_180 0 15 (dk_at dksJ11_append_1 1 rfl rfl)
theorem dJ11_append_28 : decode cJ11_append 28 = .ok (.aload_n 0, 1) := dk_42 (dk_at dksJ11_append_1 4 rfl rfl)
theorem dJ11_append_29 : decode cJ11_append 29 = .ok (.dup, 1) := dk_89 (dk_at dksJ11_append_1 5 rfl rfl)
theorem dJ11_append_30 : decode cJ11_append 30 = .ok (.getfield 79, 3) := dk_180 0 79 (dk_at dksJ11_append_1 6 rfl rfl)
theorem dJ11_append_33 : decode cJ11_append 33 = .ok (.dup_x1, 1) := dk_90 (dk_at dksJ11_append_1 9 rfl rfl)
theorem dJ11_append_34 : decode cJ11_append 34 = .ok (.iconst 1, 1) := dk_4 (dk_at dksJ11_append_1 10 rfl rfl)
theorem dJ11_append_35 : decode cJ11_append 35 = .ok (.iadd, 1) := dk_96 (dk_at dksJ11_append_1 11 rfl rfl)
theorem dJ11_append_36 : decode cJ11_append 36 = .ok (.putfield 79, 3) := dk_181 0 79 (dk_at dksJ11_append_1 12 rfl rfl)
theorem dJ11_append_39 : decode cJ11_append 39 = .ok (.iload_n 1, 1) := dk_27 (dk_at dksJ11_append_1 15 rfl rfl)
theorem dJ11_append_40 : decode cJ11_append 40 = .ok (.i2b, 1) := dk_145 (dk_at dksJ11_append_1 16 rfl rfl)
theorem dJ11_append_41 : decode cJ11_append 41 = .ok (.bastore, 1) := dk_84 (dk_at dksJ11_append_1 17 rfl rfl)
theorem dJ11_append_42 : decode cJ11_append 42 = .ok (.goto 33, 3) := dk_167 0 33 (dk_at dksJ11_append_1 18 rfl rfl)
theorem dJ11_append_45 : decode cJ11_append 45 = .ok (.aload_n 0, 1) := dk_42 (dk_at dksJ11_append_1 21 rfl rfl)
theorem dJ11_append_46 : decode cJ11_append 46 = .ok (.invokevirtual 83, 3) := dk_182 0 83 (dk_at dksJ11_append_2 0 rfl rfl)
theorem dJ11_append_49 : decode cJ11_append 49 = .ok (.ifCond .eq 7, 3) := dk_153 0 7 (dk_at dksJ11_append_2 3 rfl rfl)
theorem dJ11_append_52 : decode cJ11_append 52 = .ok (.aload_n 0, 1) := dk_42 (dk_at dksJ11_append_2 6 rfl rfl)
theorem dJ11_append_53 : decode cJ11_append 53 = .ok (.invokevirtual 195, 3) := dk_182 0 195 (dk_at dksJ11_append_2 7 rfl rfl)
theorem dJ11_append_56 : decode cJ11_append 56 = .ok (.aload_n 0, 1) := dk_42 (dk_at dksJ11_append_2 10 rfl rfl)
theorem dJ11_append_57 : decode cJ11_append 57 = .ok (.getfield 15, 3) := dk_180 0 15 (dk_at dksJ11_append_2 11 rfl rfl)
theorem dJ11_append_60 : decode cJ11_append 60 = .ok (.aload_n 0, 1) := dk_42 (dk_at dksJ11_append_2 14 rfl rfl)
theorem dJ11_append_61 : decode cJ11_append 61 = .ok (.dup, 1) := dk_89 (dk_at dksJ11_append_2 15 rfl rfl)
theorem dJ11_append_62 : decode cJ11_append 62 = .ok (.getfield 79, 3) := dk_180 0 79 (dk_at dksJ11_append_2 16 rfl rfl)
theorem dJ11_append_65 : decode cJ11_append 65 = .ok (.dup_x1, 1) := dk_90 (dk_at dksJ11_append_2 19 rfl rfl)
theorem dJ11_append_66 : decode cJ11_append 66 = .ok (.iconst 1, 1) := dk_4 (dk_at dksJ11_append_2 20 rfl rfl)
theorem dJ11_append_67 : decode cJ11_append 67 = .ok (.iadd, 1) := dk_96 (dk_at dksJ11_append_2 21 rfl rfl)
theorem dJ11_append_68 : decode cJ11_append 68 = .ok (.putfield 79, 3) := dk_181 0 79 (dk_at dksJ11_append_3 0 rfl rfl)
theorem dJ11_append_71 : decode cJ11_append 71 = .ok (.iload_n 1, 1) := dk_27 (dk_at dksJ11_append_3 3 rfl rfl)
theorem dJ11_append_72 : decode cJ11_append 72 = .ok (.invokestatic 197, 3) := dk_184 0 197 (dk_at dksJ11_append_3 4 rfl rfl)
theorem dJ11_append_75 : decode cJ11_append 75 = .ok (.aload_n 0, 1) := dk_42 (dk_at dksJ11_append_3 7 rfl rfl)
theorem dJ11_append_76 : decode cJ11_append 76 = .ok (.areturn, 1) := dk_176 (dk_at dksJ11_append_3 8 rfl rfl)
def dkwJ11_ensureCapacityInternal_1 : List UInt8 := [182, 0, 104, 42, 180, 0, 22, 120, 184, 0, 108, 181, 0, 15, 177]
abbrev dktJ11_ensureCapacityInternal_1 : List UInt8 := dkwJ11_ensureCapacityInternal_1 ++ []
def dkwJ11_ensureCapacityInternal_0 : List UInt8 := [42, 180, 0, 15, 190, 42, 180, 0, 22, 122, 61, 27, 28, 100, 158, 0, 24, 42, 42, 180, 0, 15, 42, 27]
abbrev dktJ11_ensureCapacityInternal_0 : List UInt8 := dkwJ11_ensureCapacityInternal_0 ++ dktJ11_ensureCapacityInternal_1
theorem dksJ11_ensureCapacityInternal_0 : cJ11_ensureCapacityInternal.data.toList.drop 0 = dktJ11_ensureCapacityInternal_0 := by decide +kernel
theorem dksJ11_ensureCapacityInternal_1 : cJ11_ensureCapacityInternal.data.toList.drop 24 = dktJ11_ensureCapacityInternal_1 := dk_seg dksJ11_ensureCapacityInternal_0 24 rfl rfl
theorem dJ11_ensureCapacityInternal_0 : decode cJ11_ensureCapacityInternal 0 = .ok (.aload_n 0, 1) := dk_42 (dk_at dksJ11_ensureCapacityInternal_0 0 rfl rfl)
theorem dJ11_ensureCapacityInternal_1 : decode cJ11_ensureCapacityInternal 1 = .ok (.getfield 15, 3) := dk_180 0 15 (dk_at dksJ11_ensureCapacityInternal_0 1 rfl rfl)
theorem dJ11_ensureCapacityInternal_4 : decode cJ11_ensureCapacityInternal 4 = .ok (.arraylength, 1) := dk_190 (dk_at dksJ11_ensureCapacityInternal_0 4 rfl rfl)
theorem dJ11_ensureCapacityInternal_5 : decode cJ11_ensureCapacityInternal 5 = .ok (.aload_n 0, 1) := dk_42 (dk_at dksJ11_ensureCapacityInternal_0 5 rfl rfl)
theorem dJ11_ensureCapacityInternal_6 : decode cJ11_ensureCapacityInternal 6 = .ok (.getfield 22, 3) := dk_180 0 22 (dk_at dksJ11_ensureCapacityInternal_0 6 rfl rfl)
theorem dJ11_ensureCapacityInternal_9 : decode cJ11_ensureCapacityInternal 9 = .ok (.ishr, 1) := dk_122 (dk_at dksJ11_ensureCapacityInternal_0 9 rfl rfl)
theorem dJ11_ensureCapacityInternal_10 : decode cJ11_ensureCapacityInternal 10 = .ok (.istore_n 2, 1) := dk_61 (dk_at dksJ11_ensureCapacityInternal_0 10 rfl rfl)
theorem dJ11_ensureCapacityInternal_11 : decode cJ11_ensureCapacityInternal 11 = .ok (.iload_n 1, 1) := dk_27 (dk_at dksJ11_ensureCapacityInternal_0 11 rfl rfl)
theorem dJ11_ensureCapacityInternal_12 : decode cJ11_ensureCapacityInternal 12 = .ok (.iload_n 2, 1) := dk_28 (dk_at dksJ11_ensureCapacityInternal_0 12 rfl rfl)
theorem dJ11_ensureCapacityInternal_13 : decode cJ11_ensureCapacityInternal 13 = .ok (.isub, 1) := dk_100 (dk_at dksJ11_ensureCapacityInternal_0 13 rfl rfl)
theorem dJ11_ensureCapacityInternal_14 : decode cJ11_ensureCapacityInternal 14 = .ok (.ifCond .le 24, 3) := dk_158 0 24 (dk_at dksJ11_ensureCapacityInternal_0 14 rfl rfl)
theorem dJ11_ensureCapacityInternal_17 : decode cJ11_ensureCapacityInternal 17 = .ok (.aload_n 0, 1) := dk_42 (dk_at dksJ11_ensureCapacityInternal_0 17 rfl rfl)
theorem dJ11_ensureCapacityInternal_18 : decode cJ11_ensureCapacityInternal 18 = .ok (.aload_n 0, 1) := dk_42 (dk_at dksJ11_ensureCapacityInternal_0 18 rfl rfl)
theorem dJ11_ensureCapacityInternal_19 : decode cJ11_ensureCapacityInternal 19 = .ok (.getfield 15, 3) := dk_180 0 15 (dk_at dksJ11_ensureCapacityInternal_0 19 rfl rfl)
theorem dJ11_ensureCapacityInternal_22 : decode cJ11_ensureCapacityInternal 22 = .ok (.aload_n 0, 1) := dk_42 (dk_at dksJ11_ensureCapacityInternal_0 22 rfl rfl)
theorem dJ11_ensureCapacityInternal_23 : decode cJ11_ensureCapacityInternal 23 = .ok (.iload_n 1, 1) := dk_27 (dk_at dksJ11_ensureCapacityInternal_0 23 rfl rfl)
theorem dJ11_ensureCapacityInternal_24 : decode cJ11_ensureCapacityInternal 24 = .ok (.invokevirtual 104, 3) := dk_182 0 104 (dk_at dksJ11_ensureCapacityInternal_1 0 rfl rfl)
theorem dJ11_ensureCapacityInternal_27 : decode cJ11_ensureCapacityInternal 27 = .ok (.aload_n 0, 1) := dk_42 (dk_at dksJ11_ensureCapacityInternal_1 3 rfl rfl)
theorem dJ11_ensureCapacityInternal_28 : decode cJ11_ensureCapacityInternal 28 = .ok (.getfield 22, 3) := dk_180 0 22 (dk_at dksJ11_ensureCapacityInternal_1 4 rfl rfl)
theorem dJ11_ensureCapacityInternal_31 : decode cJ11_ensureCapacityInternal 31 = .ok (.ishl, 1) := dk_120 (dk_at dksJ11_ensureCapacityInternal_1 7 rfl rfl)
theorem dJ11_ensureCapacityInternal_32 : decode cJ11_ensureCapacityInternal 32 = .ok (.invokestatic 108, 3) := dk_184 0 108 (dk_at dksJ11_ensureCapacityInternal_1 8 rfl rfl)
theorem dJ11_ensureCapacityInternal_35 : decode cJ11_ensureCapacityInternal 35 = .ok (.putfield 15, 3) := dk_181 0 15 (dk_at dksJ11_ensureCapacityInternal_1 11 rfl rfl)
theorem dJ11_ensureCapacityInternal_38 : decode cJ11_ensureCapacityInternal 38 = .ok (.return_, 1) := dk_177 (dk_at dksJ11_ensureCapacityInternal_1 14 rfl rfl)
def dkwJ11_newCapacity_2 : List UInt8 := [183, 0, 124, 191, 21, 5, 42, 180, 0, 22, 122, 172]
abbrev dktJ11_newCapacity_2 : List UInt8 := dkwJ11_newCapacity_2 ++ []
def dkwJ11_newCapacity_1 : List UInt8 := [180, 0, 22, 120, 96, 184, 0, 114, 54, 5, 21, 5, 18, 39, 160, 0, 13, 187, 0, 120, 89, 18, 122]
abbrev dktJ11_newCapacity_1 : List UInt8 := dkwJ11_newCapacity_1 ++ dktJ11_newCapacity_2
def dkwJ11_newCapacity_0 : List UInt8 := [42, 180, 0, 15, 190, 61, 27, 42, 180, 0, 22, 120, 62, 29, 28, 100, 54, 4, 28, 21, 4, 28, 5, 42]
abbrev dktJ11_newCapacity_0 : List UInt8 := dkwJ11_newCapacity_0 ++ dktJ11_newCapacity_1
theorem dksJ11_newCapacity_0 : cJ11_newCapacity.data.toList.drop 0 = dktJ11_newCapacity_0 := by decide +kernel
theorem dksJ11_newCapacity_1 : cJ11_newCapacity.data.toList.drop 24 = dktJ11_newCapacity_1 := dk_seg dksJ11_newCapacity_0 24 rfl rfl
theorem dksJ11_newCapacity_2 : cJ11_newCapacity.data.toList.drop 47 = dktJ11_newCapacity_2 := dk_seg dksJ11_newCapacity_1 23 rfl rfl
theorem dJ11_newCapacity_0 : decode cJ11_newCapacity 0 = .ok (.aload_n 0, 1) := dk_42 (dk_at dksJ11_newCapacity_0 0 rfl rfl)
theorem dJ11_newCapacity_1 : decode cJ11_newCapacity 1 = .ok (.getfield 15, 3) := dk_180 0 15 (dk_at dksJ11_newCapacity_0 1 rfl rfl)
theorem dJ11_newCapacity_4 : decode cJ11_newCapacity 4 = .ok (.arraylength, 1) := dk_190 (dk_at dksJ11_newCapacity_0 4 rfl rfl)
theorem dJ11_newCapacity_5 : decode cJ11_newCapacity 5 = .ok (.istore_n 2, 1) := dk_61 (dk_at dksJ11_newCapacity_0 5 rfl rfl)
theorem dJ11_newCapacity_6 : decode cJ11_newCapacity 6 = .ok (.iload_n 1, 1) := dk_27 (dk_at dksJ11_newCapacity_0 6 rfl rfl)
theorem dJ11_newCapacity_7 : decode cJ11_newCapacity 7 = .ok (.aload_n 0, 1) := dk_42 (dk_at dksJ11_newCapacity_0 7 rfl rfl)
theorem dJ11_newCapacity_8 : decode cJ11_newCapacity 8 = .ok (.getfield 22, 3) := dk_180 0 22 (dk_at dksJ11_newCapacity_0 8 rfl rfl)
theorem dJ11_newCapacity_11 : decode cJ11_newCapacity 11 = .ok (.ishl, 1) := dk_120 (dk_at dksJ11_newCapacity_0 11 rfl rfl)
theorem dJ11_newCapacity_12 : decode cJ11_newCapacity 12 = .ok (.istore_n 3, 1) := dk_62 (dk_at dksJ11_newCapacity_0 12 rfl rfl)
theorem dJ11_newCapacity_13 : decode cJ11_newCapacity 13 = .ok (.iload_n 3, 1) := dk_29 (dk_at dksJ11_newCapacity_0 13 rfl rfl)
theorem dJ11_newCapacity_14 : decode cJ11_newCapacity 14 = .ok (.iload_n 2, 1) := dk_28 (dk_at dksJ11_newCapacity_0 14 rfl rfl)
theorem dJ11_newCapacity_15 : decode cJ11_newCapacity 15 = .ok (.isub, 1) := dk_100 (dk_at dksJ11_newCapacity_0 15 rfl rfl)
theorem dJ11_newCapacity_16 : decode cJ11_newCapacity 16 = .ok (.istore 4, 2) := dk_54 4 (dk_at dksJ11_newCapacity_0 16 rfl rfl)
theorem dJ11_newCapacity_18 : decode cJ11_newCapacity 18 = .ok (.iload_n 2, 1) := dk_28 (dk_at dksJ11_newCapacity_0 18 rfl rfl)
theorem dJ11_newCapacity_19 : decode cJ11_newCapacity 19 = .ok (.iload 4, 2) := dk_21 4 (dk_at dksJ11_newCapacity_0 19 rfl rfl)
theorem dJ11_newCapacity_21 : decode cJ11_newCapacity 21 = .ok (.iload_n 2, 1) := dk_28 (dk_at dksJ11_newCapacity_0 21 rfl rfl)
theorem dJ11_newCapacity_22 : decode cJ11_newCapacity 22 = .ok (.iconst 2, 1) := dk_5 (dk_at dksJ11_newCapacity_0 22 rfl rfl)
theorem dJ11_newCapacity_23 : decode cJ11_newCapacity 23 = .ok (.aload_n 0, 1) := dk_42 (dk_at dksJ11_newCapacity_0 23 rfl rfl)
theorem dJ11_newCapacity_24 : decode cJ11_newCapacity 24 = .ok (.getfield 22, 3) := dk_180 0 22 (dk_at dksJ11_newCapacity_1 0 rfl rfl)
theorem dJ11_newCapacity_27 : decode cJ11_newCapacity 27 = .ok (.ishl, 1) := dk_120 (dk_at dksJ11_newCapacity_1 3 rfl rfl)
theorem dJ11_newCapacity_28 : decode cJ11_newCapacity 28 = .ok (.iadd, 1) := dk_96 (dk_at dksJ11_newCapacity_1 4 rfl rfl)
theorem dJ11_newCapacity_29 : decode cJ11_newCapacity 29 = .ok (.invokestatic 114, 3) := dk_184 0 114 (dk_at dksJ11_newCapacity_1 5 rfl rfl)
theorem dJ11_newCapacity_32 : decode cJ11_newCapacity 32 = .ok (.istore 5, 2) := dk_54 5 (dk_at dksJ11_newCapacity_1 8 rfl rfl)
theorem dJ11_newCapacity_34 : decode cJ11_newCapacity 34 = .ok (.iload 5, 2) := dk_21 5 (dk_at dksJ11_newCapacity_1 10 rfl rfl)
theorem dJ11_newCapacity_36 : decode cJ11_newCapacity 36 = .ok (.ldc 39, 2) := dk_18 39 (dk_at dksJ11_newCapacity_1 12 rfl rfl)
theorem dJ11_newCapacity_38 : decode cJ11_newCapacity 38 = .ok (.if_icmp .ne 13, 3) := dk_160 0 13 (dk_at dksJ11_newCapacity_1 14 rfl rfl)
theorem dJ11_newCapacity_41 : decode cJ11_newCapacity 41 = .ok (.new 120, 3) := dk_187 0 120 (dk_at dksJ11_newCapacity_1 17 rfl rfl)
theorem dJ11_newCapacity_44 : decode cJ11_newCapacity 44 = .ok (.dup, 1) := dk_89 (dk_at dksJ11_newCapacity_1 20 rfl rfl)
theorem dJ11_newCapacity_45 : decode cJ11_newCapacity 45 = .ok (.ldc 122, 2) := dk_18 122 (dk_at dksJ11_newCapacity_1 21 rfl rfl)
theorem dJ11_newCapacity_47 : decode cJ11_newCapacity 47 = .ok (.invokespecial 124, 3) := dk_183 0 124 (dk_at dksJ11_newCapacity_2 0 rfl rfl)
theorem dJ11_newCapacity_50 : decode cJ11_newCapacity 50 = .ok (.athrow, 1) := dk_191 (dk_at dksJ11_newCapacity_2 3 rfl rfl)
theorem dJ11_newCapacity_51 : decode cJ11_newCapacity 51 = .ok (.iload 5, 2) := dk_21 5 (dk_at dksJ11_newCapacity_2 4 rfl rfl)
theorem dJ11_newCapacity_53 : decode cJ11_newCapacity 53 = .ok (.aload_n 0, 1) := dk_42 (dk_at dksJ11_newCapacity_2 6 rfl rfl)
theorem dJ11_newCapacity_54 : decode cJ11_newCapacity 54 = .ok (.getfield 22, 3) := dk_180 0 22 (dk_at dksJ11_newCapacity_2 7 rfl rfl)
theorem dJ11_newCapacity_57 : decode cJ11_newCapacity 57 = .ok (.ishr, 1) := dk_122 (dk_at dksJ11_newCapacity_2 10 rfl rfl)
theorem dJ11_newCapacity_58 : decode cJ11_newCapacity 58 = .ok (.ireturn, 1) := dk_172 (dk_at dksJ11_newCapacity_2 11 rfl rfl)
def dkwJ11_isLatin1_0 : List UInt8 := [178, 0, 18, 153, 0, 14, 42, 180, 0, 22, 154, 0, 7, 4, 167, 0, 4, 3, 172]
abbrev dktJ11_isLatin1_0 : List UInt8 := dkwJ11_isLatin1_0 ++ []
theorem dksJ11_isLatin1_0 : cJ11_isLatin1.data.toList.drop 0 = dktJ11_isLatin1_0 := by decide +kernel
theorem dJ11_isLatin1_0 : decode cJ11_isLatin1 0 = .ok (.getstatic 18, 3) := dk_178 0 18 (dk_at dksJ11_isLatin1_0 0 rfl rfl)
theorem dJ11_isLatin1_3 : decode cJ11_isLatin1 3 = .ok (.ifCond .eq 14, 3) := dk_153 0 14 (dk_at dksJ11_isLatin1_0 3 rfl rfl)
theorem dJ11_isLatin1_6 : decode cJ11_isLatin1 6 = .ok (.aload_n 0, 1) := dk_42 (dk_at dksJ11_isLatin1_0 6 rfl rfl)
theorem dJ11_isLatin1_7 : decode cJ11_isLatin1 7 = .ok (.getfield 22, 3) := dk_180 0 22 (dk_at dksJ11_isLatin1_0 7 rfl rfl)
theorem dJ11_isLatin1_10 : decode cJ11_isLatin1 10 = .ok (.ifCond .ne 7, 3) := dk_154 0 7 (dk_at dksJ11_isLatin1_0 10 rfl rfl)
theorem dJ11_isLatin1_13 : decode cJ11_isLatin1 13 = .ok (.iconst 1, 1) := dk_4 (dk_at dksJ11_isLatin1_0 13 rfl rfl)
theorem dJ11_isLatin1_14 : decode cJ11_isLatin1 14 = .ok (.goto 4, 3) := dk_167 0 4 (dk_at dksJ11_isLatin1_0 14 rfl rfl)
theorem dJ11_isLatin1_17 : decode cJ11_isLatin1 17 = .ok (.iconst 0, 1) := dk_3 (dk_at dksJ11_isLatin1_0 17 rfl rfl)
theorem dJ11_isLatin1_18 : decode cJ11_isLatin1 18 = .ok (.ireturn, 1) := dk_172 (dk_at dksJ11_isLatin1_0 18 rfl rfl)
def dkwJ11_inflate_1 : List UInt8 := [42, 180, 0, 79, 184, 0, 125, 42, 43, 181, 0, 15, 42, 4, 181, 0, 22, 177]
abbrev dktJ11_inflate_1 : List UInt8 := dkwJ11_inflate_1 ++ []
def dkwJ11_inflate_0 : List UInt8 := [42, 182, 0, 83, 154, 0, 4, 177, 42, 180, 0, 15, 190, 184, 0, 26, 76, 42, 180, 0, 15, 3, 43, 3]
abbrev dktJ11_inflate_0 : List UInt8 := dkwJ11_inflate_0 ++ dktJ11_inflate_1
theorem dksJ11_inflate_0 : cJ11_inflate.data.toList.drop 0 = dktJ11_inflate_0 := by decide +kernel
theorem dksJ11_inflate_1 : cJ11_inflate.data.toList.drop 24 = dktJ11_inflate_1 := dk_seg dksJ11_inflate_0 24 rfl rfl
theorem dJ11_inflate_0 : decode cJ11_inflate 0 = .ok (.aload_n 0, 1) := dk_42 (dk_at dksJ11_inflate_0 0 rfl rfl)
theorem dJ11_inflate_1 : decode cJ11_inflate 1 = .ok (.invokevirtual 83, 3) := dk_182 0 83 (dk_at dksJ11_inflate_0 1 rfl rfl)
theorem dJ11_inflate_4 : decode cJ11_inflate 4 = .ok (.ifCond .ne 4, 3) := dk_154 0 4 (dk_at dksJ11_inflate_0 4 rfl rfl)
theorem dJ11_inflate_7 : decode cJ11_inflate 7 = .ok (.return_, 1) := dk_177 (dk_at dksJ11_inflate_0 7 rfl rfl)
theorem dJ11_inflate_8 : decode cJ11_inflate 8 = .ok (.aload_n 0, 1) := dk_42 (dk_at dksJ11_inflate_0 8 rfl rfl)
theorem dJ11_inflate_9 : decode cJ11_inflate 9 = .ok (.getfield 15, 3) := dk_180 0 15 (dk_at dksJ11_inflate_0 9 rfl rfl)
theorem dJ11_inflate_12 : decode cJ11_inflate 12 = .ok (.arraylength, 1) := dk_190 (dk_at dksJ11_inflate_0 12 rfl rfl)
theorem dJ11_inflate_13 : decode cJ11_inflate 13 = .ok (.invokestatic 26, 3) := dk_184 0 26 (dk_at dksJ11_inflate_0 13 rfl rfl)
theorem dJ11_inflate_16 : decode cJ11_inflate 16 = .ok (.astore_n 1, 1) := dk_76 (dk_at dksJ11_inflate_0 16 rfl rfl)
theorem dJ11_inflate_17 : decode cJ11_inflate 17 = .ok (.aload_n 0, 1) := dk_42 (dk_at dksJ11_inflate_0 17 rfl rfl)
theorem dJ11_inflate_18 : decode cJ11_inflate 18 = .ok (.getfield 15, 3) := dk_180 0 15 (dk_at dksJ11_inflate_0 18 rfl rfl)
theorem dJ11_inflate_21 : decode cJ11_inflate 21 = .ok (.iconst 0, 1) := dk_3 (dk_at dksJ11_inflate_0 21 rfl rfl)
theorem dJ11_inflate_22 : decode cJ11_inflate 22 = .ok (.aload_n 1, 1) := dk_43 (dk_at dksJ11_inflate_0 22 rfl rfl)
theorem dJ11_inflate_23 : decode cJ11_inflate 23 = .ok (.iconst 0, 1) := dk_3 (dk_at dksJ11_inflate_0 23 rfl rfl)
theorem dJ11_inflate_24 : decode cJ11_inflate 24 = .ok (.aload_n 0, 1) := dk_42 (dk_at dksJ11_inflate_1 0 rfl rfl)
theorem dJ11_inflate_25 : decode cJ11_inflate 25 = .ok (.getfield 79, 3) := dk_180 0 79 (dk_at dksJ11_inflate_1 1 rfl rfl)
theorem dJ11_inflate_28 : decode cJ11_inflate 28 = .ok (.invokestatic 125, 3) := dk_184 0 125 (dk_at dksJ11_inflate_1 4 rfl rfl)
theorem dJ11_inflate_31 : decode cJ11_inflate 31 = .ok (.aload_n 0, 1) := dk_42 (dk_at dksJ11_inflate_1 7 rfl rfl)
theorem dJ11_inflate_32 : decode cJ11_inflate 32 = .ok (.aload_n 1, 1) := dk_43 (dk_at dksJ11_inflate_1 8 rfl rfl)
theorem dJ11_inflate_33 : decode cJ11_inflate 33 = .ok (.putfield 15, 3) := dk_181 0 15 (dk_at dksJ11_inflate_1 9 rfl rfl)
theorem dJ11_inflate_36 : decode cJ11_inflate 36 = .ok (.aload_n 0, 1) := dk_42 (dk_at dksJ11_inflate_1 12 rfl rfl)
theorem dJ11_inflate_37 : decode cJ11_inflate 37 = .ok (.iconst 1, 1) := dk_4 (dk_at dksJ11_inflate_1 13 rfl rfl)
theorem dJ11_inflate_38 : decode cJ11_inflate 38 = .ok (.putfield 22, 3) := dk_181 0 22 (dk_at dksJ11_inflate_1 14 rfl rfl)
theorem dJ11_inflate_41 : decode cJ11_inflate 41 = .ok (.return_, 1) := dk_177 (dk_at dksJ11_inflate_1 17 rfl rfl)
theorem dJ11_getValue_0 : decode cJ11_getValue 0 = .ok (.aload_n 0, 1) := by decide +kernel
theorem dJ11_getValue_1 : decode cJ11_getValue 1 = .ok (.getfield 15, 3) := by decide +kernel
theorem dJ11_getValue_4 : decode cJ11_getValue 4 = .ok (.areturn, 1) := by decide +kernel
theorem dJ11_length_0 : decode cJ11_length 0 = .ok (.aload_n 0, 1) := by decide +kernel
theorem dJ11_length_1 : decode cJ11_length 1 = .ok (.getfield 79, 3) := by decide +kernel
theorem dJ11_length_4 : decode cJ11_length 4 = .ok (.ireturn, 1) := by decide +kernel
def dkwJ12_init_0 : List UInt8 := [42, 16, 16, 183, 0, 1, 177]
abbrev dktJ12_init_0 : List UInt8 := dkwJ12_init_0 ++ []
theorem dksJ12_init_0 : cJ12_init.data.toList.drop 0 = dktJ12_init_0 := by decide +kernel
theorem dJ12_init_0 : decode cJ12_init 0 = .ok (.aload_n 0, 1) := dk_42 (dk_at dksJ12_init_0 0 rfl rfl)
theorem dJ12_init_1 : decode cJ12_init 1 = .ok (.bipush 16, 2) := dk_16 16 (dk_at dksJ12_init_0 1 rfl rfl)
theorem dJ12_init_3 : decode cJ12_init 3 = .ok (.invokespecial 1, 3) := dk_183 0 1 (dk_at dksJ12_init_0 3 rfl rfl)
theorem dJ12_init_6 : decode cJ12_init 6 = .ok (.return_, 1) := dk_177 (dk_at dksJ12_init_0 6 rfl rfl)
def dkwJ12_append_0 : List UInt8 := [42, 27, 183, 0, 50, 87, 42, 176]
abbrev dktJ12_append_0 : List UInt8 := dkwJ12_append_0 ++ []
theorem dksJ12_append_0 : cJ12_append.data.toList.drop 0 = dktJ12_append_0 := by decide +kernel
theorem dJ12_append_0 : decode cJ12_append 0 = .ok (.aload_n 0, 1) := dk_42 (dk_at dksJ12_append_0 0 rfl rfl)
theorem dJ12_append_1 : decode cJ12_append 1 = .ok (.iload_n 1, 1) := dk_27 (dk_at dksJ12_append_0 1 rfl rfl)
theorem dJ12_append_2 : decode cJ12_append 2 = .ok (.invokespecial 50, 3) := dk_183 0 50 (dk_at dksJ12_append_0 2 rfl rfl)
theorem dJ12_append_5 : decode cJ12_append 5 = .ok (.pop, 1) := dk_87 (dk_at dksJ12_append_0 5 rfl rfl)
theorem dJ12_append_6 : decode cJ12_append 6 = .ok (.aload_n 0, 1) := dk_42 (dk_at dksJ12_append_0 6 rfl rfl)
theorem dJ12_append_7 : decode cJ12_append 7 = .ok (.areturn, 1) := dk_176 (dk_at dksJ12_append_0 7 rfl rfl)
def dkwJ12_toString_0 : List UInt8 := [187, 0, 18, 89, 42, 183, 0, 137, 176]
abbrev dktJ12_toString_0 : List UInt8 := dkwJ12_toString_0 ++ []
theorem dksJ12_toString_0 : cJ12_toString.data.toList.drop 0 = dktJ12_toString_0 := by decide +kernel
theorem dJ12_toString_0 : decode cJ12_toString 0 = .ok (.new 18, 3) := dk_187 0 18 (dk_at dksJ12_toString_0 0 rfl rfl)
theorem dJ12_toString_3 : decode cJ12_toString 3 = .ok (.dup, 1) := dk_89 (dk_at dksJ12_toString_0 3 rfl rfl)
theorem dJ12_toString_4 : decode cJ12_toString 4 = .ok (.aload_n 0, 1) := dk_42 (dk_at dksJ12_toString_0 4 rfl rfl)
theorem dJ12_toString_5 : decode cJ12_toString 5 = .ok (.invokespecial 137, 3) := dk_183 0 137 (dk_at dksJ12_toString_0 5 rfl rfl)
theorem dJ12_toString_8 : decode cJ12_toString 8 = .ok (.areturn, 1) := dk_176 (dk_at dksJ12_toString_0 8 rfl rfl)
theorem dJ12_length_0 : decode cJ12_length 0 = .ok (.aload_n 0, 1) := by decide +kernel
theorem dJ12_length_1 : decode cJ12_length 1 = .ok (.invokespecial 343, 3) := by decide +kernel
theorem dJ12_length_4 : decode cJ12_length 4 = .ok (.ireturn, 1) := by decide +kernel
def dkwJ13_newBytesFor_0 : List UInt8 := [26, 184, 0, 11, 188, 8, 176]
abbrev dktJ13_newBytesFor_0 : List UInt8 := dkwJ13_newBytesFor_0 ++ []
theorem dksJ13_newBytesFor_0 : cJ13_newBytesFor.data.toList.drop 0 = dktJ13_newBytesFor_0 := by decide +kernel
theorem dJ13_newBytesFor_0 : decode cJ13_newBytesFor 0 = .ok (.iload_n 0, 1) := dk_26 (dk_at dksJ13_newBytesFor_0 0 rfl rfl)
theorem dJ13_newBytesFor_1 : decode cJ13_newBytesFor 1 = .ok (.invokestatic 11, 3) := dk_184 0 11 (dk_at dksJ13_newBytesFor_0 1 rfl rfl)
theorem dJ13_newBytesFor_4 : decode cJ13_newBytesFor 4 = .ok (.newarray .byte, 2) := dk_188_8 (dk_at dksJ13_newBytesFor_0 4 rfl rfl)
theorem dJ13_newBytesFor_6 : decode cJ13_newBytesFor 6 = .ok (.areturn, 1) := dk_176 (dk_at dksJ13_newBytesFor_0 6 rfl rfl)
def dkwJ13_newBytesLength_2 : List UInt8 := [182, 0, 32, 182, 0, 37, 183, 0, 41, 191, 26, 4, 120, 172]
abbrev dktJ13_newBytesLength_2 : List UInt8 := dkwJ13_newBytesLength_2 ++ []
def dkwJ13_newBytesLength_1 : List UInt8 := [187, 0, 23, 89, 183, 0, 25, 18, 26, 182, 0, 28, 26, 182, 0, 32, 18, 35, 182, 0, 28, 18, 20]
abbrev dktJ13_newBytesLength_1 : List UInt8 := dkwJ13_newBytesLength_1 ++ dktJ13_newBytesLength_2
def dkwJ13_newBytesLength_0 : List UInt8 := [26, 156, 0, 11, 187, 0, 17, 89, 183, 0, 19, 191, 26, 18, 20, 161, 0, 40, 187, 0, 21, 89]
abbrev dktJ13_newBytesLength_0 : List UInt8 := dkwJ13_newBytesLength_0 ++ dktJ13_newBytesLength_1
theorem dksJ13_newBytesLength_0 : cJ13_newBytesLength.data.toList.drop 0 = dktJ13_newBytesLength_0 := by decide +kernel
theorem dksJ13_newBytesLength_1 : cJ13_newBytesLength.data.toList.drop 22 = dktJ13_newBytesLength_1 := dk_seg dksJ13_newBytesLength_0 22 rfl rfl
theorem dksJ13_newBytesLength_2 : cJ13_newBytesLength.data.toList.drop 45 = dktJ13_newBytesLength_2 := dk_seg dksJ13_newBytesLength_1 23 rfl rfl
theorem dJ13_newBytesLength_0 : decode cJ13_newBytesLength 0 = .ok (.iload_n 0, 1) := dk_26 (dk_at dksJ13_newBytesLength_0 0 rfl rfl)
theorem dJ13_newBytesLength_1 : decode cJ13_newBytesLength 1 = .ok (.ifCond .ge 11, 3) := dk_156 0 11 (dk_at dksJ13_newBytesLength_0 1 rfl rfl)
theorem dJ13_newBytesLength_4 : decode cJ13_newBytesLength 4 = .ok (.new 17, 3) := dk_187 0 17 (dk_at dksJ13_newBytesLength_0 4 rfl rfl)
theorem dJ13_newBytesLength_7 : decode cJ13_newBytesLength 7 = .ok (.dup, 1) := dk_89 (dk_at dksJ13_newBytesLength_0 7 rfl rfl)
theorem dJ13_newBytesLength_8 : decode cJ13_newBytesLength 8 = .ok (.invokespecial 19, 3) := dk_183 0 19 (dk_at dksJ13_newBytesLength_0 8 rfl rfl)
theorem dJ13_newBytesLength_11 : decode cJ13_newBytesLength 11 = .ok (.athrow, 1) := dk_191 (dk_at dksJ13_newBytesLength_0 11 rfl rfl)
theorem dJ13_newBytesLength_12 : decode cJ13_newBytesLength 12 = .ok (.iload_n 0, 1) := dk_26 (dk_at dksJ13_newBytesLength_0 12 rfl rfl)
theorem dJ13_newBytesLength_13 : decode cJ13_newBytesLength 13 = .ok (.ldc 20, 2) := dk_18 20 (dk_at dksJ13_newBytesLength_0 13 rfl rfl)
theorem dJ13_newBytesLength_15 : decode cJ13_newBytesLength 15 = .ok (.if_icmp .lt 40, 3) := dk_161 0 40 (dk_at dksJ13_newBytesLength_0 15 rfl rfl)
theorem dJ13_newBytesLength_18 : decode cJ13_newBytesLength 18 = .ok (.new 21, 3) := dk_187 0 21 (dk_at dksJ13_newBytesLength_0 18 rfl rfl)
theorem dJ13_newBytesLength_21 : decode cJ13_newBytesLength 21 = .ok (.dup, 1) := dk_89 (dk_at dksJ13_newBytesLength_0 21 rfl rfl)
theorem dJ13_newBytesLength_22 : decode cJ13_newBytesLength 22 = .ok (.new 23, 3) := dk_187 0 23 (dk_at dksJ13_newBytesLength_1 0 rfl rfl)
theorem dJ13_newBytesLength_25 : decode cJ13_newBytesLength 25 = .ok (.dup, 1) := dk_89 (dk_at dksJ13_newBytesLength_1 3 rfl rfl)
theorem dJ13_newBytesLength_26 : decode cJ13_newBytesLength 26 = .ok (.invokespecial 25, 3) := dk_183 0 25 (dk_at dksJ13_newBytesLength_1 4 rfl rfl)
theorem dJ13_newBytesLength_29 : decode cJ13_newBytesLength 29 = .ok (.ldc 26, 2) := dk_18 26 (dk_at dksJ13_newBytesLength_1 7 rfl rfl)
theorem dJ13_newBytesLength_31 : decode cJ13_newBytesLength 31 = .ok (.invokevirtual 28, 3) := dk_182 0 28 (dk_at dksJ13_newBytesLength_1 9 rfl rfl)
theorem dJ13_newBytesLength_34 : decode cJ13_newBytesLength 34 = .ok (.iload_n 0, 1) := dk_26 (dk_at dksJ13_newBytesLength_1 12 rfl rfl)
theorem dJ13_newBytesLength_35 : decode cJ13_newBytesLength 35 = .ok (.invokevirtual 32, 3) := dk_182 0 32 (dk_at dksJ13_newBytesLength_1 13 rfl rfl)
theorem dJ13_newBytesLength_38 : decode cJ13_newBytesLength 38 = .ok (.ldc 35, 2) := dk_18 35 (dk_at dksJ13_newBytesLength_1 16 rfl rfl)
theorem dJ13_newBytesLength_40 : decode cJ13_newBytesLength 40 = .ok (.invokevirtual 28, 3) := dk_182 0 28 (dk_at dksJ13_newBytesLength_1 18 rfl rfl)
theorem dJ13_newBytesLength_43 : decode cJ13_newBytesLength 43 = .ok (.ldc 20, 2) := dk_18 20 (dk_at dksJ13_newBytesLength_1 21 rfl rfl)
theorem dJ13_newBytesLength_45 : decode cJ13_newBytesLength 45 = .ok (.invokevirtual 32, 3) := dk_182 0 32 (dk_at dksJ13_newBytesLength_2 0 rfl rfl)
theorem dJ13_newBytesLength_48 : decode cJ13_newBytesLength 48 = .ok (.invokevirtual 37, 3) := dk_182 0 37 (dk_at dksJ13_newBytesLength_2 3 rfl rfl)
theorem dJ13_newBytesLength_51 : decode cJ13_newBytesLength 51 = .ok (.invokespecial 41, 3) := dk_183 0 41 (dk_at dksJ13_newBytesLength_2 6 rfl rfl)
theorem dJ13_newBytesLength_54 : decode cJ13_newBytesLength 54 = .ok (.athrow, 1) := dk_191 (dk_at dksJ13_newBytesLength_2 9 rfl rfl)
theorem dJ13_newBytesLength_55 : decode cJ13_newBytesLength 55 = .ok (.iload_n 0, 1) := dk_26 (dk_at dksJ13_newBytesLength_2 10 rfl rfl)
theorem dJ13_newBytesLength_56 : decode cJ13_newBytesLength 56 = .ok (.iconst 1, 1) := dk_4 (dk_at dksJ13_newBytesLength_2 11 rfl rfl)
theorem dJ13_newBytesLength_57 : decode cJ13_newBytesLength 57 = .ok (.ishl, 1) := dk_120 (dk_at dksJ13_newBytesLength_2 12 rfl rfl)
theorem dJ13_newBytesLength_58 : decode cJ13_newBytesLength 58 = .ok (.ireturn, 1) := dk_172 (dk_at dksJ13_newBytesLength_2 13 rfl rfl)
def dkwJ13_inflate_1 : List UInt8 := [132, 1, 1, 51, 17, 0, 255, 126, 184, 0, 111, 132, 5, 1, 167, 255, 228, 177]
abbrev dktJ13_inflate_1 : List UInt8 := dkwJ13_inflate_1 ++ []
def dkwJ13_inflate_0 : List UInt8 := [29, 21, 4, 44, 184, 0, 173, 3, 54, 5, 21, 5, 21, 4, 162, 0, 27, 44, 29, 132, 3, 1, 42, 27]
abbrev dktJ13_inflate_0 : List UInt8 := dkwJ13_inflate_0 ++ dktJ13_inflate_1
theorem dksJ13_inflate_0 : cJ13_inflate.data.toList.drop 0 = dktJ13_inflate_0 := by decide +kernel
theorem dksJ13_inflate_1 : cJ13_inflate.data.toList.drop 24 = dktJ13_inflate_1 := dk_seg dksJ13_inflate_0 24 rfl rfl
theorem dJ13_inflate_0 : decode cJ13_inflate 0 = .ok (.iload_n 3, 1) := dk_29 (dk_at dksJ13_inflate_0 0 rfl rfl)
theorem dJ13_inflate_1 : decode cJ13_inflate 1 = .ok (.iload 4, 2) := dk_21 4 (dk_at dksJ13_inflate_0 1 rfl rfl)
theorem dJ13_inflate_3 : decode cJ13_inflate 3 = .ok (.aload_n 2, 1) := dk_44 (dk_at dksJ13_inflate_0 3 rfl rfl)
theorem dJ13_inflate_4 : decode cJ13_inflate 4 = .ok (.invokestatic 173, 3) := dk_184 0 173 (dk_at dksJ13_inflate_0 4 rfl rfl)
theorem dJ13_inflate_7 : decode cJ13_inflate 7 = .ok (.iconst 0, 1) := dk_3 (dk_at dksJ13_inflate_0 7 rfl rfl)
theorem dJ13_inflate_8 : decode cJ13_inflate 8 = .ok (.istore 5, 2) := dk_54 5 (dk_at dksJ13_inflate_0 8 rfl rfl)
theorem dJ13_inflate_10 : decode cJ13_inflate 10 = .ok (.iload 5, 2) := dk_21 5 (dk_at dksJ13_inflate_0 10 rfl rfl)
theorem dJ13_inflate_12 : decode cJ13_inflate 12 = .ok (.iload 4, 2) := dk_21 4 (dk_at dksJ13_inflate_0 12 rfl rfl)
theorem dJ13_inflate_14 : decode cJ13_inflate 14 = .ok (.if_icmp .ge 27, 3) := dk_162 0 27 (dk_at dksJ13_inflate_0 14 rfl rfl)
theorem dJ13_inflate_17 : decode cJ13_inflate 17 = .ok (.aload_n 2, 1) := dk_44 (dk_at dksJ13_inflate_0 17 rfl rfl)
theorem dJ13_inflate_18 : decode cJ13_inflate 18 = .ok (.iload_n 3, 1) := dk_29 (dk_at dksJ13_inflate_0 18 rfl rfl)
theorem dJ13_inflate_19 : decode cJ13_inflate 19 = .ok (.iinc 3 1, 3) := dk_132 3 1 (dk_at dksJ13_inflate_0 19 rfl rfl)
theorem dJ13_inflate_22 : decode cJ13_inflate 22 = .ok (.aload_n 0, 1) := dk_42 (dk_at dksJ13_inflate_0 22 rfl rfl)
theorem dJ13_inflate_23 : decode cJ13_inflate 23 = .ok (.iload_n 1, 1) := dk_27 (dk_at dksJ13_inflate_0 23 rfl rfl)
theorem dJ13_inflate_24 : decode cJ13_inflate 24 = .ok (.iinc 1 1, 3) := dk_132 1 1 (dk_at dksJ13_inflate_1 0 rfl rfl)
theorem dJ13_inflate_27 : decode cJ13_inflate 27 = .ok (.baload, 1) := dk_51 (dk_at dksJ13_inflate_1 3 rfl rfl)
theorem dJ13_inflate_28 : decode cJ13_inflate 28 = .ok (.sipush 255, 3) := dk_17 0 255 (dk_at dksJ13_inflate_1 4 rfl rfl)
theorem dJ13_inflate_31 : decode cJ13_inflate 31 = .ok (.iand, 1) := dk_126 (dk_at dksJ13_inflate_1 7 rfl rfl)
theorem dJ13_inflate_32 : decode cJ13_inflate 32 = .ok (.invokestatic 111, 3) := dk_184 0 111 (dk_at dksJ13_inflate_1 8 rfl rfl)
theorem dJ13_inflate_35 : decode cJ13_inflate 35 = .ok (.iinc 5 1, 3) := dk_132 5 1 (dk_at dksJ13_inflate_1 11 rfl rfl)
theorem dJ13_inflate_38 : decode cJ13_inflate 38 = .ok (.goto (-28), 3) := dk_167 255 228 (dk_at dksJ13_inflate_1 14 rfl rfl)
theorem dJ13_inflate_41 : decode cJ13_inflate 41 = .ok (.return_, 1) := dk_177 (dk_at dksJ13_inflate_1 17 rfl rfl)
def dkwJ13_checkBoundsOffCount_0 : List UInt8 := [26, 27, 44, 184, 0, 48, 184, 1, 163, 87, 177]
abbrev dktJ13_checkBoundsOffCount_0 : List UInt8 := dkwJ13_checkBoundsOffCount_0 ++ []
theorem dksJ13_checkBoundsOffCount_0 : cJ13_checkBoundsOffCount.data.toList.drop 0 = dktJ13_checkBoundsOffCount_0 := by decide +kernel
theorem dJ13_checkBoundsOffCount_0 : decode cJ13_checkBoundsOffCount 0 = .ok (.iload_n 0, 1) := dk_26 (dk_at dksJ13_checkBoundsOffCount_0 0 rfl rfl)
theorem dJ13_checkBoundsOffCount_1 : decode cJ13_checkBoundsOffCount 1 = .ok (.iload_n 1, 1) := dk_27 (dk_at dksJ13_checkBoundsOffCount_0 1 rfl rfl)
theorem dJ13_checkBoundsOffCount_2 : decode cJ13_checkBoundsOffCount 2 = .ok (.aload_n 2, 1) := dk_44 (dk_at dksJ13_checkBoundsOffCount_0 2 rfl rfl)
theorem dJ13_checkBoundsOffCount_3 : decode cJ13_checkBoundsOffCount 3 = .ok (.invokestatic 48, 3) := dk_184 0 48 (dk_at dksJ13_checkBoundsOffCount_0 3 rfl rfl)
theorem dJ13_checkBoundsOffCount_6 : decode cJ13_checkBoundsOffCount 6 = .ok (.invokestatic 419, 3) := dk_184 1 163 (dk_at dksJ13_checkBoundsOffCount_0 6 rfl rfl)
theorem dJ13_checkBoundsOffCount_9 : decode cJ13_checkBoundsOffCount 9 = .ok (.pop, 1) := dk_87 (dk_at dksJ13_checkBoundsOffCount_0 9 rfl rfl)
theorem dJ13_checkBoundsOffCount_10 : decode cJ13_checkBoundsOffCount 10 = .ok (.return_, 1) := dk_177 (dk_at dksJ13_checkBoundsOffCount_0 10 rfl rfl)
def dkwJ13_length_0 : List UInt8 := [42, 190, 4, 122, 172]
abbrev dktJ13_length_0 : List UInt8 := dkwJ13_length_0 ++ []
theorem dksJ13_length_0 : cJ13_length.data.toList.drop 0 = dktJ13_length_0 := by decide +kernel
theorem dJ13_length_0 : decode cJ13_length 0 = .ok (.aload_n 0, 1) := dk_42 (dk_at dksJ13_length_0 0 rfl rfl)
theorem dJ13_length_1 : decode cJ13_length 1 = .ok (.arraylength, 1) := dk_190 (dk_at dksJ13_length_0 1 rfl rfl)
theorem dJ13_length_2 : decode cJ13_length 2 = .ok (.iconst 1, 1) := dk_4 (dk_at dksJ13_length_0 2 rfl rfl)
theorem dJ13_length_3 : decode cJ13_length 3 = .ok (.ishr, 1) := dk_122 (dk_at dksJ13_length_0 3 rfl rfl)
theorem dJ13_length_4 : decode cJ13_length 4 = .ok (.ireturn, 1) := dk_172 (dk_at dksJ13_length_0 4 rfl rfl)
def dkwJ13_putChar_2 : List UInt8 := [178, 0, 63, 122, 145, 84, 177]
abbrev dktJ13_putChar_2 : List UInt8 := dkwJ13_putChar_2 ++ []
def dkwJ13_putChar_1 : List UInt8 := [183, 0, 56, 191, 27, 4, 120, 60, 42, 27, 132, 1, 1, 28, 178, 0, 59, 122, 145, 84, 42, 27, 28]
abbrev dktJ13_putChar_1 : List UInt8 := dkwJ13_putChar_1 ++ dktJ13_putChar_2
def dkwJ13_putChar_0 : List UInt8 := [178, 0, 44, 154, 0, 25, 27, 155, 0, 11, 27, 42, 184, 0, 48, 161, 0, 13, 187, 0, 52, 89, 18, 54]
abbrev dktJ13_putChar_0 : List UInt8 := dkwJ13_putChar_0 ++ dktJ13_putChar_1
theorem dksJ13_putChar_0 : cJ13_putChar.data.toList.drop 0 = dktJ13_putChar_0 := by decide +kernel
theorem dksJ13_putChar_1 : cJ13_putChar.data.toList.drop 24 = dktJ13_putChar_1 := dk_seg dksJ13_putChar_0 24 rfl rfl
theorem dksJ13_putChar_2 : cJ13_putChar.data.toList.drop 47 = dktJ13_putChar_2 := dk_seg dksJ13_putChar_1 23 rfl rfl
theorem dJ13_putChar_0 : decode cJ13_putChar 0 = .ok (.getstatic 44, 3) := dk_178 0 44 (dk_at dksJ13_putChar_0 0 rfl rfl)
theorem dJ13_putChar_3 : decode cJ13_putChar 3 = .ok (.ifCond .ne 25, 3) := dk_154 0 25 (dk_at dksJ13_putChar_0 3 rfl rfl)
theorem dJ13_putChar_6 : decode cJ13_putChar 6 = .ok (.iload_n 1, 1) := dk_27 (dk_at dksJ13_putChar_0 6 rfl rfl)
theorem dJ13_putChar_7 : decode cJ13_putChar 7 = .ok (.ifCond .lt 11, 3) := dk_155 0 11 (dk_at dksJ13_putChar_0 7 rfl rfl)
theorem dJ13_putChar_10 : decode cJ13_putChar 10 = .ok (.iload_n 1, 1) := dk_27 (dk_at dksJ13_putChar_0 10 rfl rfl)
theorem dJ13_putChar_11 : decode cJ13_putChar 11 = .ok (.aload_n 0, 1) := dk_42 (dk_at dksJ13_putChar_0 11 rfl rfl)
theorem dJ13_putChar_12 : decode cJ13_putChar 12 = .ok (.invokestatic 48, 3) := dk_184 0 48 (dk_at dksJ13_putChar_0 12 rfl rfl)
theorem dJ13_putChar_15 : decode cJ13_putChar 15 = .ok (.if_icmp .lt 13, 3) := dk_161 0 13 (dk_at dksJ13_putChar_0 15 rfl rfl)
theorem dJ13_putChar_18 : decode cJ13_putChar 18 = .ok (.new 52, 3) := dk_187 0 52 (dk_at dksJ13_putChar_0 18 rfl rfl)
theorem dJ13_putChar_21 : decode cJ13_putChar 21 = .ok (.dup, 1) := dk_89 (dk_at dksJ13_putChar_0 21 rfl rfl)
theorem dJ13_putChar_22 : decode cJ13_putChar 22 = .ok (.ldc 54, 2) := dk_18 54 (dk_at dksJ13_putChar_0 22 rfl rfl)
theorem dJ13_putChar_24 : decode cJ13_putChar 24 = .ok (.invokespecial 56, 3) := dk_183 0 56 (dk_at dksJ13_putChar_1 0 rfl rfl)
theorem dJ13_putChar_27 : decode cJ13_putChar 27 = .ok (.athrow, 1) := dk_191 (dk_at dksJ13_putChar_1 3 rfl rfl)
theorem dJ13_putChar_28 : decode cJ13_putChar 28 = .ok (.iload_n 1, 1) := dk_27 (dk_at dksJ13_putChar_1 4 rfl rfl)
theorem dJ13_putChar_29 : decode cJ13_putChar 29 = .ok (.iconst 1, 1) := dk_4 (dk_at dksJ13_putChar_1 5 rfl rfl)
theorem dJ13_putChar_30 : decode cJ13_putChar 30 = .ok (.ishl, 1) := dk_120 (dk_at dksJ13_putChar_1 6 rfl rfl)
theorem dJ13_putChar_31 : decode cJ13_putChar 31 = .ok (.istore_n 1, 1) := dk_60 (dk_at dksJ13_putChar_1 7 rfl rfl)
theorem dJ13_putChar_32 : decode cJ13_putChar 32 = .ok (.aload_n 0, 1) := dk_42 (dk_at dksJ13_putChar_1 8 rfl rfl)
theorem dJ13_putChar_33 : decode cJ13_putChar 33 = .ok (.iload_n 1, 1) := dk_27 (dk_at dksJ13_putChar_1 9 rfl rfl)
theorem dJ13_putChar_34 : decode cJ13_putChar 34 = .ok (.iinc 1 1, 3) := dk_132 1 1 (dk_at dksJ13_putChar_1 10 rfl rfl)
theorem dJ13_putChar_37 : decode cJ13_putChar 37 = .ok (.iload_n 2, 1) := dk_28 (dk_at dksJ13_putChar_1 13 rfl rfl)
theorem dJ13_putChar_38 : decode cJ13_putChar 38 = .ok (.getstatic 59, 3) := dk_178 0 59 (dk_at dksJ13_putChar_1 14 rfl rfl)
theorem dJ13_putChar_41 : decode cJ13_putChar 41 = .ok (.ishr, 1) := dk_122 (dk_at dksJ13_putChar_1 17 rfl rfl)
theorem dJ13_putChar_42 : decode cJ13_putChar 42 = .ok (.i2b, 1) := dk_145 (dk_at dksJ13_putChar_1 18 rfl rfl)
theorem dJ13_putChar_43 : decode cJ13_putChar 43 = .ok (.bastore, 1) := dk_84 (dk_at dksJ13_putChar_1 19 rfl rfl)
theorem dJ13_putChar_44 : decode cJ13_putChar 44 = .ok (.aload_n 0, 1) := dk_42 (dk_at dksJ13_putChar_1 20 rfl rfl)
theorem dJ13_putChar_45 : decode cJ13_putChar 45 = .ok (.iload_n 1, 1) := dk_27 (dk_at dksJ13_putChar_1 21 rfl rfl)
theorem dJ13_putChar_46 : decode cJ13_putChar 46 = .ok (.iload_n 2, 1) := dk_28 (dk_at dksJ13_putChar_1 22 rfl rfl)
theorem dJ13_putChar_47 : decode cJ13_putChar 47 = .ok (.getstatic 63, 3) := dk_178 0 63 (dk_at dksJ13_putChar_2 0 rfl rfl)
theorem dJ13_putChar_50 : decode cJ13_putChar 50 = .ok (.ishr, 1) := dk_122 (dk_at dksJ13_putChar_2 3 rfl rfl)
theorem dJ13_putChar_51 : decode cJ13_putChar 51 = .ok (.i2b, 1) := dk_145 (dk_at dksJ13_putChar_2 4 rfl rfl)
theorem dJ13_putChar_52 : decode cJ13_putChar 52 = .ok (.bastore, 1) := dk_84 (dk_at dksJ13_putChar_2 5 rfl rfl)
theorem dJ13_putChar_53 : decode cJ13_putChar 53 = .ok (.return_, 1) := dk_177 (dk_at dksJ13_putChar_2 6 rfl rfl)
def dkwJ13_putCharSB_0 : List UInt8 := [27, 42, 184, 0, 67, 42, 27, 28, 184, 0, 111, 177]
abbrev dktJ13_putCharSB_0 : List UInt8 := dkwJ13_putCharSB_0 ++ []
theorem dksJ13_putCharSB_0 : cJ13_putCharSB.data.toList.drop 0 = dktJ13_putCharSB_0 := by decide +kernel
theorem dJ13_putCharSB_0 : decode cJ13_putCharSB 0 = .ok (.iload_n 1, 1) := dk_27 (dk_at dksJ13_putCharSB_0 0 rfl rfl)
theorem dJ13_putCharSB_1 : decode cJ13_putCharSB 1 = .ok (.aload_n 0, 1) := dk_42 (dk_at dksJ13_putCharSB_0 1 rfl rfl)
theorem dJ13_putCharSB_2 : decode cJ13_putCharSB 2 = .ok (.invokestatic 67, 3) := dk_184 0 67 (dk_at dksJ13_putCharSB_0 2 rfl rfl)
theorem dJ13_putCharSB_5 : decode cJ13_putCharSB 5 = .ok (.aload_n 0, 1) := dk_42 (dk_at dksJ13_putCharSB_0 5 rfl rfl)
theorem dJ13_putCharSB_6 : decode cJ13_putCharSB 6 = .ok (.iload_n 1, 1) := dk_27 (dk_at dksJ13_putCharSB_0 6 rfl rfl)
theorem dJ13_putCharSB_7 : decode cJ13_putCharSB 7 = .ok (.iload_n 2, 1) := dk_28 (dk_at dksJ13_putCharSB_0 7 rfl rfl)
theorem dJ13_putCharSB_8 : decode cJ13_putCharSB 8 = .ok (.invokestatic 111, 3) := dk_184 0 111 (dk_at dksJ13_putCharSB_0 8 rfl rfl)
theorem dJ13_putCharSB_11 : decode cJ13_putCharSB 11 = .ok (.return_, 1) := dk_177 (dk_at dksJ13_putCharSB_0 11 rfl rfl)
def dkwJ13_checkIndex_0 : List UInt8 := [26, 43, 184, 0, 48, 184, 1, 158, 177]
abbrev dktJ13_checkIndex_0 : List UInt8 := dkwJ13_checkIndex_0 ++ []
theorem dksJ13_checkIndex_0 : cJ13_checkIndex.data.toList.drop 0 = dktJ13_checkIndex_0 := by decide +kernel
theorem dJ13_checkIndex_0 : decode cJ13_checkIndex 0 = .ok (.iload_n 0, 1) := dk_26 (dk_at dksJ13_checkIndex_0 0 rfl rfl)
theorem dJ13_checkIndex_1 : decode cJ13_checkIndex 1 = .ok (.aload_n 1, 1) := dk_43 (dk_at dksJ13_checkIndex_0 1 rfl rfl)
theorem dJ13_checkIndex_2 : decode cJ13_checkIndex 2 = .ok (.invokestatic 48, 3) := dk_184 0 48 (dk_at dksJ13_checkIndex_0 2 rfl rfl)
theorem dJ13_checkIndex_5 : decode cJ13_checkIndex 5 = .ok (.invokestatic 414, 3) := dk_184 1 158 (dk_at dksJ13_checkIndex_0 5 rfl rfl)
theorem dJ13_checkIndex_8 : decode cJ13_checkIndex 8 = .ok (.return_, 1) := dk_177 (dk_at dksJ13_checkIndex_0 8 rfl rfl)
def dkwJ13_compress_2 : List UInt8 := [25, 5, 3, 45, 3, 28, 184, 0, 123, 28, 159, 0, 6, 25, 5, 176, 45, 176]
abbrev dktJ13_compress_2 : List UInt8 := dkwJ13_compress_2 ++ []
def dkwJ13_compress_1 : List UInt8 := [27, 28, 96, 184, 0, 11, 184, 0, 126, 58, 5, 25, 5, 21, 4, 184, 0, 71, 17, 0, 255, 163, 0, 16]
abbrev dktJ13_compress_1 : List UInt8 := dkwJ13_compress_1 ++ dktJ13_compress_2
def dkwJ13_compress_0 : List UInt8 := [28, 188, 8, 78, 42, 27, 45, 3, 28, 184, 0, 123, 54, 4, 21, 4, 28, 159, 0, 47, 42, 27, 4, 120]
abbrev dktJ13_compress_0 : List UInt8 := dkwJ13_compress_0 ++ dktJ13_compress_1
theorem dksJ13_compress_0 : cJ13_compress.data.toList.drop 0 = dktJ13_compress_0 := by decide +kernel
theorem dksJ13_compress_1 : cJ13_compress.data.toList.drop 24 = dktJ13_compress_1 := dk_seg dksJ13_compress_0 24 rfl rfl
theorem dksJ13_compress_2 : cJ13_compress.data.toList.drop 48 = dktJ13_compress_2 := dk_seg dksJ13_compress_1 24 rfl rfl
theorem dJ13_compress_0 : decode cJ13_compress 0 = .ok (.iload_n 2, 1) := dk_28 (dk_at dksJ13_compress_0 0 rfl rfl)
theorem dJ13_compress_1 : decode cJ13_compress 1 = .ok (.newarray .byte, 2) := dk_188_8 (dk_at dksJ13_compress_0 1 rfl rfl)
theorem dJ13_compress_3 : decode cJ13_compress 3 = .ok (.astore_n 3, 1) := dk_78 (dk_at dksJ13_compress_0 3 rfl rfl)
theorem dJ13_compress_4 : decode cJ13_compress 4 = .ok (.aload_n 0, 1) := dk_42 (dk_at dksJ13_compress_0 4 rfl rfl)
theorem dJ13_compress_5 : decode cJ13_compress 5 = .ok (.iload_n 1, 1) := dk_27 (dk_at dksJ13_compress_0 5 rfl rfl)
theorem dJ13_compress_6 : decode cJ13_compress 6 = .ok (.aload_n 3, 1) := dk_45 (dk_at dksJ13_compress_0 6 rfl rfl)
theorem dJ13_compress_7 : decode cJ13_compress 7 = .ok (.iconst 0, 1) := dk_3 (dk_at dksJ13_compress_0 7 rfl rfl)
theorem dJ13_compress_8 : decode cJ13_compress 8 = .ok (.iload_n 2, 1) := dk_28 (dk_at dksJ13_compress_0 8 rfl rfl)
theorem dJ13_compress_9 : decode cJ13_compress 9 = .ok (.invokestatic 123, 3) := dk_184 0 123 (dk_at dksJ13_compress_0 9 rfl rfl)
theorem dJ13_compress_12 : decode cJ13_compress 12 = .ok (.istore 4, 2) := dk_54 4 (dk_at dksJ13_compress_0 12 rfl rfl)
theorem dJ13_compress_14 : decode cJ13_compress 14 = .ok (.iload 4, 2) := dk_21 4 (dk_at dksJ13_compress_0 14 rfl rfl)
theorem dJ13_compress_16 : decode cJ13_compress 16 = .ok (.iload_n 2, 1) := dk_28 (dk_at dksJ13_compress_0 16 rfl rfl)
theorem dJ13_compress_17 : decode cJ13_compress 17 = .ok (.if_icmp .eq 47, 3) := dk_159 0 47 (dk_at dksJ13_compress_0 17 rfl rfl)
theorem dJ13_compress_20 : decode cJ13_compress 20 = .ok (.aload_n 0, 1) := dk_42 (dk_at dksJ13_compress_0 20 rfl rfl)
theorem dJ13_compress_21 : decode cJ13_compress 21 = .ok (.iload_n 1, 1) := dk_27 (dk_at dksJ13_compress_0 21 rfl rfl)
theorem dJ13_compress_22 : decode cJ13_compress 22 = .ok (.iconst 1, 1) := dk_4 (dk_at dksJ13_compress_0 22 rfl rfl)
theorem dJ13_compress_23 : decode cJ13_compress 23 = .ok (.ishl, 1) := dk_120 (dk_at dksJ13_compress_0 23 rfl rfl)
theorem dJ13_compress_24 : decode cJ13_compress 24 = .ok (.iload_n 1, 1) := dk_27 (dk_at dksJ13_compress_1 0 rfl rfl)
theorem dJ13_compress_25 : decode cJ13_compress 25 = .ok (.iload_n 2, 1) := dk_28 (dk_at dksJ13_compress_1 1 rfl rfl)
theorem dJ13_compress_26 : decode cJ13_compress 26 = .ok (.iadd, 1) := dk_96 (dk_at dksJ13_compress_1 2 rfl rfl)
theorem dJ13_compress_27 : decode cJ13_compress 27 = .ok (.invokestatic 11, 3) := dk_184 0 11 (dk_at dksJ13_compress_1 3 rfl rfl)
theorem dJ13_compress_30 : decode cJ13_compress 30 = .ok (.invokestatic 126, 3) := dk_184 0 126 (dk_at dksJ13_compress_1 6 rfl rfl)
theorem dJ13_compress_33 : decode cJ13_compress 33 = .ok (.astore 5, 2) := dk_58 5 (dk_at dksJ13_compress_1 9 rfl rfl)
theorem dJ13_compress_35 : decode cJ13_compress 35 = .ok (.aload 5, 2) := dk_25 5 (dk_at dksJ13_compress_1 11 rfl rfl)
theorem dJ13_compress_37 : decode cJ13_compress 37 = .ok (.iload 4, 2) := dk_21 4 (dk_at dksJ13_compress_1 13 rfl rfl)
theorem dJ13_compress_39 : decode cJ13_compress 39 = .ok (.invokestatic 71, 3) := dk_184 0 71 (dk_at dksJ13_compress_1 15 rfl rfl)
theorem dJ13_compress_42 : decode cJ13_compress 42 = .ok (.sipush 255, 3) := dk_17 0 255 (dk_at dksJ13_compress_1 18 rfl rfl)
theorem dJ13_compress_45 : decode cJ13_compress 45 = .ok (.if_icmp .gt 16, 3) := dk_163 0 16 (dk_at dksJ13_compress_1 21 rfl rfl)
theorem dJ13_compress_48 : decode cJ13_compress 48 = .ok (.aload 5, 2) := dk_25 5 (dk_at dksJ13_compress_2 0 rfl rfl)
theorem dJ13_compress_50 : decode cJ13_compress 50 = .ok (.iconst 0, 1) := dk_3 (dk_at dksJ13_compress_2 2 rfl rfl)
theorem dJ13_compress_51 : decode cJ13_compress 51 = .ok (.aload_n 3, 1) := dk_45 (dk_at dksJ13_compress_2 3 rfl rfl)
theorem dJ13_compress_52 : decode cJ13_compress 52 = .ok (.iconst 0, 1) := dk_3 (dk_at dksJ13_compress_2 4 rfl rfl)
theorem dJ13_compress_53 : decode cJ13_compress 53 = .ok (.iload_n 2, 1) := dk_28 (dk_at dksJ13_compress_2 5 rfl rfl)
theorem dJ13_compress_54 : decode cJ13_compress 54 = .ok (.invokestatic 123, 3) := dk_184 0 123 (dk_at dksJ13_compress_2 6 rfl rfl)
theorem dJ13_compress_57 : decode cJ13_compress 57 = .ok (.iload_n 2, 1) := dk_28 (dk_at dksJ13_compress_2 9 rfl rfl)
theorem dJ13_compress_58 : decode cJ13_compress 58 = .ok (.if_icmp .eq 6, 3) := dk_159 0 6 (dk_at dksJ13_compress_2 10 rfl rfl)
theorem dJ13_compress_61 : decode cJ13_compress 61 = .ok (.aload 5, 2) := dk_25 5 (dk_at dksJ13_compress_2 13 rfl rfl)
theorem dJ13_compress_63 : decode cJ13_compress 63 = .ok (.areturn, 1) := dk_176 (dk_at dksJ13_compress_2 15 rfl rfl)
theorem dJ13_compress_64 : decode cJ13_compress 64 = .ok (.aload_n 3, 1) := dk_45 (dk_at dksJ13_compress_2 16 rfl rfl)
theorem dJ13_compress_65 : decode cJ13_compress 65 = .ok (.areturn, 1) := dk_176 (dk_at dksJ13_compress_2 17 rfl rfl)
def dkwJ13_compress_2_2 : List UInt8 := [132, 5, 1, 167, 255, 216, 21, 4, 172]
abbrev dktJ13_compress_2_2 : List UInt8 := dkwJ13_compress_2_2 ++ []
def dkwJ13_compress_2_1 : List UInt8 := [21, 6, 17, 0, 255, 164, 0, 6, 21, 5, 172, 44, 29, 21, 6, 145, 84, 132, 1, 1, 132, 3, 1]
abbrev dktJ13_compress_2_1 : List UInt8 := dkwJ13_compress_2_1 ++ dktJ13_compress_2_2
def dkwJ13_compress_2_0 : List UInt8 := [27, 21, 4, 42, 184, 0, 173, 3, 54, 5, 21, 5, 21, 4, 162, 0, 39, 42, 27, 184, 0, 71, 54, 6]
abbrev dktJ13_compress_2_0 : List UInt8 := dkwJ13_compress_2_0 ++ dktJ13_compress_2_1
theorem dksJ13_compress_2_0 : cJ13_compress_2.data.toList.drop 0 = dktJ13_compress_2_0 := by decide +kernel
theorem dksJ13_compress_2_1 : cJ13_compress_2.data.toList.drop 24 = dktJ13_compress_2_1 := dk_seg dksJ13_compress_2_0 24 rfl rfl
theorem dksJ13_compress_2_2 : cJ13_compress_2.data.toList.drop 47 = dktJ13_compress_2_2 := dk_seg dksJ13_compress_2_1 23 rfl rfl
theorem dJ13_compress_2_0 : decode cJ13_compress_2 0 = .ok (.iload_n 1, 1) := dk_27 (dk_at dksJ13_compress_2_0 0 rfl rfl)
theorem dJ13_compress_2_1 : decode cJ13_compress_2 1 = .ok (.iload 4, 2) := dk_21 4 (dk_at dksJ13_compress_2_0 1 rfl rfl)
theorem dJ13_compress_2_3 : decode cJ13_compress_2 3 = .ok (.aload_n 0, 1) := dk_42 (dk_at dksJ13_compress_2_0 3 rfl rfl)
theorem dJ13_compress_2_4 : decode cJ13_compress_2 4 = .ok (.invokestatic 173, 3) := dk_184 0 173 (dk_at dksJ13_compress_2_0 4 rfl rfl)
theorem dJ13_compress_2_7 : decode cJ13_compress_2 7 = .ok (.iconst 0, 1) := dk_3 (dk_at dksJ13_compress_2_0 7 rfl rfl)
theorem dJ13_compress_2_8 : decode cJ13_compress_2 8 = .ok (.istore 5, 2) := dk_54 5 (dk_at dksJ13_compress_2_0 8 rfl rfl)
theorem dJ13_compress_2_10 : decode cJ13_compress_2 10 = .ok (.iload 5, 2) := dk_21 5 (dk_at dksJ13_compress_2_0 10 rfl rfl)
theorem dJ13_compress_2_12 : decode cJ13_compress_2 12 = .ok (.iload 4, 2) := dk_21 4 (dk_at dksJ13_compress_2_0 12 rfl rfl)
theorem dJ13_compress_2_14 : decode cJ13_compress_2 14 = .ok (.if_icmp .ge 39, 3) := dk_162 0 39 (dk_at dksJ13_compress_2_0 14 rfl rfl)
theorem dJ13_compress_2_17 : decode cJ13_compress_2 17 = .ok (.aload_n 0, 1) := dk_42 (dk_at dksJ13_compress_2_0 17 rfl rfl)
theorem dJ13_compress_2_18 : decode cJ13_compress_2 18 = .ok (.iload_n 1, 1) := dk_27 (dk_at dksJ13_compress_2_0 18 rfl rfl)
theorem dJ13_compress_2_19 : decode cJ13_compress_2 19 = .ok (.invokestatic 71, 3) := dk_184 0 71 (dk_at dksJ13_compress_2_0 19 rfl rfl)
theorem dJ13_compress_2_22 : decode cJ13_compress_2 22 = .ok (.istore 6, 2) := dk_54 6 (dk_at dksJ13_compress_2_0 22 rfl rfl)
theorem dJ13_compress_2_24 : decode cJ13_compress_2 24 = .ok (.iload 6, 2) := dk_21 6 (dk_at dksJ13_compress_2_1 0 rfl rfl)
theorem dJ13_compress_2_26 : decode cJ13_compress_2 26 = .ok (.sipush 255, 3) := dk_17 0 255 (dk_at dksJ13_compress_2_1 2 rfl rfl)
theorem dJ13_compress_2_29 : decode cJ13_compress_2 29 = .ok (.if_icmp .le 6, 3) := dk_164 0 6 (dk_at dksJ13_compress_2_1 5 rfl rfl)
theorem dJ13_compress_2_32 : decode cJ13_compress_2 32 = .ok (.iload 5, 2) := dk_21 5 (dk_at dksJ13_compress_2_1 8 rfl rfl)
theorem dJ13_compress_2_34 : decode cJ13_compress_2 34 = .ok (.ireturn, 1) := dk_172 (dk_at dksJ13_compress_2_1 10 rfl rfl)
theorem dJ13_compress_2_35 : decode cJ13_compress_2 35 = .ok (.aload_n 2, 1) := dk_44 (dk_at dksJ13_compress_2_1 11 rfl rfl)
theorem dJ13_compress_2_36 : decode cJ13_compress_2 36 = .ok (.iload_n 3, 1) := dk_29 (dk_at dksJ13_compress_2_1 12 rfl rfl)
theorem dJ13_compress_2_37 : decode cJ13_compress_2 37 = .ok (.iload 6, 2) := dk_21 6 (dk_at dksJ13_compress_2_1 13 rfl rfl)
theorem dJ13_compress_2_39 : decode cJ13_compress_2 39 = .ok (.i2b, 1) := dk_145 (dk_at dksJ13_compress_2_1 15 rfl rfl)
theorem dJ13_compress_2_40 : decode cJ13_compress_2 40 = .ok (.bastore, 1) := dk_84 (dk_at dksJ13_compress_2_1 16 rfl rfl)
theorem dJ13_compress_2_41 : decode cJ13_compress_2 41 = .ok (.iinc 1 1, 3) := dk_132 1 1 (dk_at dksJ13_compress_2_1 17 rfl rfl)
theorem dJ13_compress_2_44 : decode cJ13_compress_2 44 = .ok (.iinc 3 1, 3) := dk_132 3 1 (dk_at dksJ13_compress_2_1 20 rfl rfl)
theorem dJ13_compress_2_47 : decode cJ13_compress_2 47 = .ok (.iinc 5 1, 3) := dk_132 5 1 (dk_at dksJ13_compress_2_2 0 rfl rfl)
theorem dJ13_compress_2_50 : decode cJ13_compress_2 50 = .ok (.goto (-40), 3) := dk_167 255 216 (dk_at dksJ13_compress_2_2 3 rfl rfl)
theorem dJ13_compress_2_53 : decode cJ13_compress_2 53 = .ok (.iload 4, 2) := dk_21 4 (dk_at dksJ13_compress_2_2 6 rfl rfl)
theorem dJ13_compress_2_55 : decode cJ13_compress_2 55 = .ok (.ireturn, 1) := dk_172 (dk_at dksJ13_compress_2_2 8 rfl rfl)
def dkwJ13_getChar_2 : List UInt8 := [51, 17, 0, 255, 126, 178, 0, 63, 120, 128, 146, 172]
abbrev dktJ13_getChar_2 : List UInt8 := dkwJ13_getChar_2 ++ []
def dkwJ13_getChar_1 : List UInt8 := [183, 0, 56, 191, 27, 4, 120, 60, 42, 27, 132, 1, 1, 51, 17, 0, 255, 126, 178, 0, 59, 120, 42, 27]
abbrev dktJ13_getChar_1 : List UInt8 := dkwJ13_getChar_1 ++ dktJ13_getChar_2
def dkwJ13_getChar_0 : List UInt8 := [178, 0, 44, 154, 0, 25, 27, 155, 0, 11, 27, 42, 184, 0, 48, 161, 0, 13, 187, 0, 52, 89, 18, 54]
abbrev dktJ13_getChar_0 : List UInt8 := dkwJ13_getChar_0 ++ dktJ13_getChar_1
theorem dksJ13_getChar_0 : cJ13_getChar.data.toList.drop 0 = dktJ13_getChar_0 := by decide +kernel
theorem dksJ13_getChar_1 : cJ13_getChar.data.toList.drop 24 = dktJ13_getChar_1 := dk_seg dksJ13_getChar_0 24 rfl rfl
theorem dksJ13_getChar_2 : cJ13_getChar.data.toList.drop 48 = dktJ13_getChar_2 := dk_seg dksJ13_getChar_1 24 rfl rfl
theorem dJ13_getChar_0 : decode cJ13_getChar 0 = .ok (.getstatic 44, 3) := dk_178 0 44 (dk_at dksJ13_getChar_0 0 rfl rfl)
theorem dJ13_getChar_3 : decode cJ13_getChar 3 = .ok (.ifCond .ne 25, 3) := dk_154 0 25 (dk_at dksJ13_getChar_0 3 rfl rfl)
theorem dJ13_getChar_6 : decode cJ13_getChar 6 = .ok (.iload_n 1, 1) := dk_27 (dk_at dksJ13_getChar_0 6 rfl rfl)
theorem dJ13_getChar_7 : decode cJ13_getChar 7 = .ok (.ifCond .lt 11, 3) := dk_155 0 11 (dk_at dksJ13_getChar_0 7 rfl rfl)
theorem dJ13_getChar_10 : decode cJ13_getChar 10 = .ok (.iload_n 1, 1) := dk_27 (dk_at dksJ13_getChar_0 10 rfl rfl)
theorem dJ13_getChar_11 : decode cJ13_getChar 11 = .ok (.aload_n 0, 1) := dk_42 (dk_at dksJ13_getChar_0 11 rfl rfl)
theorem dJ13_getChar_12 : decode cJ13_getChar 12 = .ok (.invokestatic 48, 3) := dk_184 0 48 (dk_at dksJ13_getChar_0 12 rfl rfl)
theorem dJ13_getChar_15 : decode cJ13_getChar 15 = .ok (.if_icmp .lt 13, 3) := dk_161 0 13 (dk_at dksJ13_getChar_0 15 rfl rfl)
theorem dJ13_getChar_18 : decode cJ13_getChar 18 = .ok (.new 52, 3) := dk_187 0 52 (dk_at dksJ13_getChar_0 18 rfl rfl)
theorem dJ13_getChar_21 : decode cJ13_getChar 21 = .ok (.dup, 1) := dk_89 (dk_at dksJ13_getChar_0 21 rfl rfl)
theorem dJ13_getChar_22 : decode cJ13_getChar 22 = .ok (.ldc 54, 2) := dk_18 54 (dk_at dksJ13_getChar_0 22 rfl rfl)
theorem dJ13_getChar_24 : decode cJ13_getChar 24 = .ok (.invokespecial 56, 3) := dk_183 0 56 (dk_at dksJ13_getChar_1 0 rfl rfl)
theorem dJ13_getChar_27 : decode cJ13_getChar 27 = .ok (.athrow, 1) := dk_191 (dk_at dksJ13_getChar_1 3 rfl rfl)
theorem dJ13_getChar_28 : decode cJ13_getChar 28 = .ok (.iload_n 1, 1) := dk_27 (dk_at dksJ13_getChar_1 4 rfl rfl)
theorem dJ13_getChar_29 : decode cJ13_getChar 29 = .ok (.iconst 1, 1) := dk_4 (dk_at dksJ13_getChar_1 5 rfl rfl)
theorem dJ13_getChar_30 : decode cJ13_getChar 30 = .ok (.ishl, 1) := dk_120 (dk_at dksJ13_getChar_1 6 rfl rfl)
theorem dJ13_getChar_31 : decode cJ13_getChar 31 = .ok (.istore_n 1, 1) := dk_60 (dk_at dksJ13_getChar_1 7 rfl rfl)
theorem dJ13_getChar_32 : decode cJ13_getChar 32 = .ok (.aload_n 0, 1) := dk_42 (dk_at dksJ13_getChar_1 8 rfl rfl)
theorem dJ13_getChar_33 : decode cJ13_getChar 33 = .ok (.iload_n 1, 1) := dk_27 (dk_at dksJ13_getChar_1 9 rfl rfl)
theorem dJ13_getChar_34 : decode cJ13_getChar 34 = .ok (.iinc 1 1, 3) := dk_132 1 1 (dk_at dksJ13_getChar_1 10 rfl rfl)
theorem dJ13_getChar_37 : decode cJ13_getChar 37 = .ok (.baload, 1) := dk_51 (dk_at dksJ13_getChar_1 13 rfl rfl)
theorem dJ13_getChar_38 : decode cJ13_getChar 38 = .ok (.sipush 255, 3) := dk_17 0 255 (dk_at dksJ13_getChar_1 14 rfl rfl)
theorem dJ13_getChar_41 : decode cJ13_getChar 41 = .ok (.iand, 1) := dk_126 (dk_at dksJ13_getChar_1 17 rfl rfl)
theorem dJ13_getChar_42 : decode cJ13_getChar 42 = .ok (.getstatic 59, 3) := dk_178 0 59 (dk_at dksJ13_getChar_1 18 rfl rfl)
theorem dJ13_getChar_45 : decode cJ13_getChar 45 = .ok (.ishl, 1) := dk_120 (dk_at dksJ13_getChar_1 21 rfl rfl)
theorem dJ13_getChar_46 : decode cJ13_getChar 46 = .ok (.aload_n 0, 1) := dk_42 (dk_at dksJ13_getChar_1 22 rfl rfl)
theorem dJ13_getChar_47 : decode cJ13_getChar 47 = .ok (.iload_n 1, 1) := dk_27 (dk_at dksJ13_getChar_1 23 rfl rfl)
theorem dJ13_getChar_48 : decode cJ13_getChar 48 = .ok (.baload, 1) := dk_51 (dk_at dksJ13_getChar_2 0 rfl rfl)
theorem dJ13_getChar_49 : decode cJ13_getChar 49 = .ok (.sipush 255, 3) := dk_17 0 255 (dk_at dksJ13_getChar_2 1 rfl rfl)
theorem dJ13_getChar_52 : decode cJ13_getChar 52 = .ok (.iand, 1) := dk_126 (dk_at dksJ13_getChar_2 4 rfl rfl)
theorem dJ13_getChar_53 : decode cJ13_getChar 53 = .ok (.getstatic 63, 3) := dk_178 0 63 (dk_at dksJ13_getChar_2 5 rfl rfl)
theorem dJ13_getChar_56 : decode cJ13_getChar 56 = .ok (.ishl, 1) := dk_120 (dk_at dksJ13_getChar_2 8 rfl rfl)
theorem dJ13_getChar_57 : decode cJ13_getChar 57 = .ok (.ior, 1) := dk_128 (dk_at dksJ13_getChar_2 9 rfl rfl)
theorem dJ13_getChar_58 : decode cJ13_getChar 58 = .ok (.i2c, 1) := dk_146 (dk_at dksJ13_getChar_2 10 rfl rfl)
theorem dJ13_getChar_59 : decode cJ13_getChar 59 = .ok (.ireturn, 1) := dk_172 (dk_at dksJ13_getChar_2 11 rfl rfl)
def dkwJ13_coderFromArrayLen_0 : List UInt8 := [27, 42, 190, 100, 16, 31, 124, 145, 172]
abbrev dktJ13_coderFromArrayLen_0 : List UInt8 := dkwJ13_coderFromArrayLen_0 ++ []
theorem dksJ13_coderFromArrayLen_0 : cJ13_coderFromArrayLen.data.toList.drop 0 = dktJ13_coderFromArrayLen_0 := by decide +kernel
theorem dJ13_coderFromArrayLen_0 : decode cJ13_coderFromArrayLen 0 = .ok (.iload_n 1, 1) := dk_27 (dk_at dksJ13_coderFromArrayLen_0 0 rfl rfl)
theorem dJ13_coderFromArrayLen_1 : decode cJ13_coderFromArrayLen 1 = .ok (.aload_n 0, 1) := dk_42 (dk_at dksJ13_coderFromArrayLen_0 1 rfl rfl)
theorem dJ13_coderFromArrayLen_2 : decode cJ13_coderFromArrayLen 2 = .ok (.arraylength, 1) := dk_190 (dk_at dksJ13_coderFromArrayLen_0 2 rfl rfl)
theorem dJ13_coderFromArrayLen_3 : decode cJ13_coderFromArrayLen 3 = .ok (.isub, 1) := dk_100 (dk_at dksJ13_coderFromArrayLen_0 3 rfl rfl)
theorem dJ13_coderFromArrayLen_4 : decode cJ13_coderFromArrayLen 4 = .ok (.bipush 31, 2) := dk_16 31 (dk_at dksJ13_coderFromArrayLen_0 4 rfl rfl)
theorem dJ13_coderFromArrayLen_6 : decode cJ13_coderFromArrayLen 6 = .ok (.iushr, 1) := dk_124 (dk_at dksJ13_coderFromArrayLen_0 6 rfl rfl)
theorem dJ13_coderFromArrayLen_7 : decode cJ13_coderFromArrayLen 7 = .ok (.i2b, 1) := dk_145 (dk_at dksJ13_coderFromArrayLen_0 7 rfl rfl)
theorem dJ13_coderFromArrayLen_8 : decode cJ13_coderFromArrayLen 8 = .ok (.ireturn, 1) := dk_172 (dk_at dksJ13_coderFromArrayLen_0 8 rfl rfl)
def dkwJ13_hashCode_2 : List UInt8 := [3, 167, 0, 22, 42, 3, 184, 0, 71, 167, 0, 14, 42, 3, 42, 190, 4, 122, 3, 8, 184, 0, 220, 172]
abbrev dktJ13_hashCode_2 : List UInt8 := dkwJ13_hashCode_2 ++ []
def dkwJ13_hashCode_1 : List UInt8 := [171, 0, 0, 0, 0, 38, 0, 0, 0, 2, 0, 0, 0, 0, 0, 0, 0, 26, 0, 0, 0, 2, 0, 0, 0, 30]
abbrev dktJ13_hashCode_1 : List UInt8 := dkwJ13_hashCode_1 ++ dktJ13_hashCode_2
def dkwJ13_hashCode_0 : List UInt8 := [42, 190]
abbrev dktJ13_hashCode_0 : List UInt8 := dkwJ13_hashCode_0 ++ dktJ13_hashCode_1
theorem dksJ13_hashCode_0 : cJ13_hashCode.data.toList.drop 0 = dktJ13_hashCode_0 := by decide +kernel
theorem dksJ13_hashCode_1 : cJ13_hashCode.data.toList.drop 2 = dktJ13_hashCode_1 := dk_seg dksJ13_hashCode_0 2 rfl rfl
theorem dksJ13_hashCode_2 : cJ13_hashCode.data.toList.drop 28 = dktJ13_hashCode_2 := dk_seg dksJ13_hashCode_1 26 rfl rfl
theorem dJ13_hashCode_0 : decode cJ13_hashCode 0 = .ok (.aload_n 0, 1) := dk_42 (dk_at dksJ13_hashCode_0 0 rfl rfl)
theorem dJ13_hashCode_1 : decode cJ13_hashCode 1 = .ok (.arraylength, 1) := dk_190 (dk_at dksJ13_hashCode_0 1 rfl rfl)
theorem dJ13_hashCode_2 : decode cJ13_hashCode 2 = .ok (.lookupswitch 38 #[(0, 26), (2, 30)], 26) := by decide +kernel
theorem dJ13_hashCode_28 : decode cJ13_hashCode 28 = .ok (.iconst 0, 1) := dk_3 (dk_at dksJ13_hashCode_2 0 rfl rfl)
theorem dJ13_hashCode_29 : decode cJ13_hashCode 29 = .ok (.goto 22, 3) := dk_167 0 22 (dk_at dksJ13_hashCode_2 1 rfl rfl)
theorem dJ13_hashCode_32 : decode cJ13_hashCode 32 = .ok (.aload_n 0, 1) := dk_42 (dk_at dksJ13_hashCode_2 4 rfl rfl)
theorem dJ13_hashCode_33 : decode cJ13_hashCode 33 = .ok (.iconst 0, 1) := dk_3 (dk_at dksJ13_hashCode_2 5 rfl rfl)
theorem dJ13_hashCode_34 : decode cJ13_hashCode 34 = .ok (.invokestatic 71, 3) := dk_184 0 71 (dk_at dksJ13_hashCode_2 6 rfl rfl)
theorem dJ13_hashCode_37 : decode cJ13_hashCode 37 = .ok (.goto 14, 3) := dk_167 0 14 (dk_at dksJ13_hashCode_2 9 rfl rfl)
theorem dJ13_hashCode_40 : decode cJ13_hashCode 40 = .ok (.aload_n 0, 1) := dk_42 (dk_at dksJ13_hashCode_2 12 rfl rfl)
theorem dJ13_hashCode_41 : decode cJ13_hashCode 41 = .ok (.iconst 0, 1) := dk_3 (dk_at dksJ13_hashCode_2 13 rfl rfl)
theorem dJ13_hashCode_42 : decode cJ13_hashCode 42 = .ok (.aload_n 0, 1) := dk_42 (dk_at dksJ13_hashCode_2 14 rfl rfl)
theorem dJ13_hashCode_43 : decode cJ13_hashCode 43 = .ok (.arraylength, 1) := dk_190 (dk_at dksJ13_hashCode_2 15 rfl rfl)
theorem dJ13_hashCode_44 : decode cJ13_hashCode 44 = .ok (.iconst 1, 1) := dk_4 (dk_at dksJ13_hashCode_2 16 rfl rfl)
theorem dJ13_hashCode_45 : decode cJ13_hashCode 45 = .ok (.ishr, 1) := dk_122 (dk_at dksJ13_hashCode_2 17 rfl rfl)
theorem dJ13_hashCode_46 : decode cJ13_hashCode 46 = .ok (.iconst 0, 1) := dk_3 (dk_at dksJ13_hashCode_2 18 rfl rfl)
theorem dJ13_hashCode_47 : decode cJ13_hashCode 47 = .ok (.iconst 5, 1) := dk_8 (dk_at dksJ13_hashCode_2 19 rfl rfl)
theorem dJ13_hashCode_48 : decode cJ13_hashCode 48 = .ok (.invokestatic 220, 3) := dk_184 0 220 (dk_at dksJ13_hashCode_2 20 rfl rfl)
theorem dJ13_hashCode_51 : decode cJ13_hashCode 51 = .ok (.ireturn, 1) := dk_172 (dk_at dksJ13_hashCode_2 23 rfl rfl)
def dkwJ13_charAt_0 : List UInt8 := [27, 42, 184, 0, 67, 42, 27, 184, 0, 71, 172]
abbrev dktJ13_charAt_0 : List UInt8 := dkwJ13_charAt_0 ++ []
theorem dksJ13_charAt_0 : cJ13_charAt.data.toList.drop 0 = dktJ13_charAt_0 := by decide +kernel
theorem dJ13_charAt_0 : decode cJ13_charAt 0 = .ok (.iload_n 1, 1) := dk_27 (dk_at dksJ13_charAt_0 0 rfl rfl)
theorem dJ13_charAt_1 : decode cJ13_charAt 1 = .ok (.aload_n 0, 1) := dk_42 (dk_at dksJ13_charAt_0 1 rfl rfl)
theorem dJ13_charAt_2 : decode cJ13_charAt 2 = .ok (.invokestatic 67, 3) := dk_184 0 67 (dk_at dksJ13_charAt_0 2 rfl rfl)
theorem dJ13_charAt_5 : decode cJ13_charAt 5 = .ok (.aload_n 0, 1) := dk_42 (dk_at dksJ13_charAt_0 5 rfl rfl)
theorem dJ13_charAt_6 : decode cJ13_charAt 6 = .ok (.iload_n 1, 1) := dk_27 (dk_at dksJ13_charAt_0 6 rfl rfl)
theorem dJ13_charAt_7 : decode cJ13_charAt 7 = .ok (.invokestatic 71, 3) := dk_184 0 71 (dk_at dksJ13_charAt_0 7 rfl rfl)
theorem dJ13_charAt_10 : decode cJ13_charAt 10 = .ok (.ireturn, 1) := dk_172 (dk_at dksJ13_charAt_0 10 rfl rfl)
def dkwJ14_newLength_1 : List UInt8 := [184, 0, 201, 172]
abbrev dktJ14_newLength_1 : List UInt8 := dkwJ14_newLength_1 ++ []
def dkwJ14_newLength_0 : List UInt8 := [26, 27, 28, 184, 0, 194, 96, 62, 3, 29, 162, 0, 11, 29, 18, 200, 163, 0, 5, 29, 172, 26, 27]
abbrev dktJ14_newLength_0 : List UInt8 := dkwJ14_newLength_0 ++ dktJ14_newLength_1
theorem dksJ14_newLength_0 : cJ14_newLength.data.toList.drop 0 = dktJ14_newLength_0 := by decide +kernel
theorem dksJ14_newLength_1 : cJ14_newLength.data.toList.drop 23 = dktJ14_newLength_1 := dk_seg dksJ14_newLength_0 23 rfl rfl
theorem dJ14_newLength_0 : decode cJ14_newLength 0 = .ok (.iload_n 0, 1) := dk_26 (dk_at dksJ14_newLength_0 0 rfl rfl)
theorem dJ14_newLength_1 : decode cJ14_newLength 1 = .ok (.iload_n 1, 1) := dk_27 (dk_at dksJ14_newLength_0 1 rfl rfl)
theorem dJ14_newLength_2 : decode cJ14_newLength 2 = .ok (.iload_n 2, 1) := dk_28 (dk_at dksJ14_newLength_0 2 rfl rfl)
theorem dJ14_newLength_3 : decode cJ14_newLength 3 = .ok (.invokestatic 194, 3) := dk_184 0 194 (dk_at dksJ14_newLength_0 3 rfl rfl)
theorem dJ14_newLength_6 : decode cJ14_newLength 6 = .ok (.iadd, 1) := dk_96 (dk_at dksJ14_newLength_0 6 rfl rfl)
theorem dJ14_newLength_7 : decode cJ14_newLength 7 = .ok (.istore_n 3, 1) := dk_62 (dk_at dksJ14_newLength_0 7 rfl rfl)
theorem dJ14_newLength_8 : decode cJ14_newLength 8 = .ok (.iconst 0, 1) := dk_3 (dk_at dksJ14_newLength_0 8 rfl rfl)
theorem dJ14_newLength_9 : decode cJ14_newLength 9 = .ok (.iload_n 3, 1) := dk_29 (dk_at dksJ14_newLength_0 9 rfl rfl)
theorem dJ14_newLength_10 : decode cJ14_newLength 10 = .ok (.if_icmp .ge 11, 3) := dk_162 0 11 (dk_at dksJ14_newLength_0 10 rfl rfl)
theorem dJ14_newLength_13 : decode cJ14_newLength 13 = .ok (.iload_n 3, 1) := dk_29 (dk_at dksJ14_newLength_0 13 rfl rfl)
theorem dJ14_newLength_14 : decode cJ14_newLength 14 = .ok (.ldc 200, 2) := dk_18 200 (dk_at dksJ14_newLength_0 14 rfl rfl)
theorem dJ14_newLength_16 : decode cJ14_newLength 16 = .ok (.if_icmp .gt 5, 3) := dk_163 0 5 (dk_at dksJ14_newLength_0 16 rfl rfl)
theorem dJ14_newLength_19 : decode cJ14_newLength 19 = .ok (.iload_n 3, 1) := dk_29 (dk_at dksJ14_newLength_0 19 rfl rfl)
theorem dJ14_newLength_20 : decode cJ14_newLength 20 = .ok (.ireturn, 1) := dk_172 (dk_at dksJ14_newLength_0 20 rfl rfl)
theorem dJ14_newLength_21 : decode cJ14_newLength 21 = .ok (.iload_n 0, 1) := dk_26 (dk_at dksJ14_newLength_0 21 rfl rfl)
theorem dJ14_newLength_22 : decode cJ14_newLength 22 = .ok (.iload_n 1, 1) := dk_27 (dk_at dksJ14_newLength_0 22 rfl rfl)
theorem dJ14_newLength_23 : decode cJ14_newLength 23 = .ok (.invokestatic 201, 3) := dk_184 0 201 (dk_at dksJ14_newLength_1 0 rfl rfl)
theorem dJ14_newLength_26 : decode cJ14_newLength 26 = .ok (.ireturn, 1) := dk_172 (dk_at dksJ14_newLength_1 3 rfl rfl)
def dkwJ14_hugeLength_2 : List UInt8 := [191, 28, 18, 200, 163, 0, 6, 18, 200, 172, 28, 172]
abbrev dktJ14_hugeLength_2 : List UInt8 := dkwJ14_hugeLength_2 ++ []
def dkwJ14_hugeLength_1 : List UInt8 := [26, 182, 0, 98, 18, 208, 182, 0, 94, 27, 182, 0, 98, 18, 210, 182, 0, 94, 182, 0, 101, 183, 0, 212]
abbrev dktJ14_hugeLength_1 : List UInt8 := dkwJ14_hugeLength_1 ++ dktJ14_hugeLength_2
def dkwJ14_hugeLength_0 : List UInt8 := [26, 27, 96, 61, 28, 156, 0, 44, 187, 0, 204, 89, 187, 0, 89, 89, 183, 0, 91, 18, 206, 182, 0, 94]
abbrev dktJ14_hugeLength_0 : List UInt8 := dkwJ14_hugeLength_0 ++ dktJ14_hugeLength_1
theorem dksJ14_hugeLength_0 : cJ14_hugeLength.data.toList.drop 0 = dktJ14_hugeLength_0 := by decide +kernel
theorem dksJ14_hugeLength_1 : cJ14_hugeLength.data.toList.drop 24 = dktJ14_hugeLength_1 := dk_seg dksJ14_hugeLength_0 24 rfl rfl
theorem dksJ14_hugeLength_2 : cJ14_hugeLength.data.toList.drop 48 = dktJ14_hugeLength_2 := dk_seg dksJ14_hugeLength_1 24 rfl rfl
theorem dJ14_hugeLength_0 : decode cJ14_hugeLength 0 = .ok (.iload_n 0, 1) := dk_26 (dk_at dksJ14_hugeLength_0 0 rfl rfl)
theorem dJ14_hugeLength_1 : decode cJ14_hugeLength 1 = .ok (.iload_n 1, 1) := dk_27 (dk_at dksJ14_hugeLength_0 1 rfl rfl)
theorem dJ14_hugeLength_2 : decode cJ14_hugeLength 2 = .ok (.iadd, 1) := dk_96 (dk_at dksJ14_hugeLength_0 2 rfl rfl)
theorem dJ14_hugeLength_3 : decode cJ14_hugeLength 3 = .ok (.istore_n 2, 1) := dk_61 (dk_at dksJ14_hugeLength_0 3 rfl rfl)
theorem dJ14_hugeLength_4 : decode cJ14_hugeLength 4 = .ok (.iload_n 2, 1) := dk_28 (dk_at dksJ14_hugeLength_0 4 rfl rfl)
theorem dJ14_hugeLength_5 : decode cJ14_hugeLength 5 = .ok (.ifCond .ge 44, 3) := dk_156 0 44 (dk_at dksJ14_hugeLength_0 5 rfl rfl)
theorem dJ14_hugeLength_8 : decode cJ14_hugeLength 8 = .ok (.new 204, 3) := dk_187 0 204 (dk_at dksJ14_hugeLength_0 8 rfl rfl)
theorem dJ14_hugeLength_11 : decode cJ14_hugeLength 11 = .ok (.dup, 1) := dk_89 (dk_at dksJ14_hugeLength_0 11 rfl rfl)
theorem dJ14_hugeLength_12 : decode cJ14_hugeLength 12 = .ok (.new 89, 3) := dk_187 0 89 (dk_at dksJ14_hugeLength_0 12 rfl rfl)
theorem dJ14_hugeLength_15 : decode cJ14_hugeLength 15 = .ok (.dup, 1) := dk_89 (dk_at dksJ14_hugeLength_0 15 rfl rfl)
theorem dJ14_hugeLength_16 : decode cJ14_hugeLength 16 = .ok (.invokespecial 91, 3) := dk_183 0 91 (dk_at dksJ14_hugeLength_0 16 rfl rfl)
theorem dJ14_hugeLength_19 : decode cJ14_hugeLength 19 = .ok (.ldc 206, 2) := dk_18 206 (dk_at dksJ14_hugeLength_0 19 rfl rfl)
theorem dJ14_hugeLength_21 : decode cJ14_hugeLength 21 = .ok (.invokevirtual 94, 3) := dk_182 0 94 (dk_at dksJ14_hugeLength_0 21 rfl rfl)
theorem dJ14_hugeLength_24 : decode cJ14_hugeLength 24 = .ok (.iload_n 0, 1) := dk_26 (dk_at dksJ14_hugeLength_1 0 rfl rfl)
theorem dJ14_hugeLength_25 : decode cJ14_hugeLength 25 = .ok (.invokevirtual 98, 3) := dk_182 0 98 (dk_at dksJ14_hugeLength_1 1 rfl rfl)
theorem dJ14_hugeLength_28 : decode cJ14_hugeLength 28 = .ok (.ldc 208, 2) := dk_18 208 (dk_at dksJ14_hugeLength_1 4 rfl rfl)
theorem dJ14_hugeLength_30 : decode cJ14_hugeLength 30 = .ok (.invokevirtual 94, 3) := dk_182 0 94 (dk_at dksJ14_hugeLength_1 6 rfl rfl)
theorem dJ14_hugeLength_33 : decode cJ14_hugeLength 33 = .ok (.iload_n 1, 1) := dk_27 (dk_at dksJ14_hugeLength_1 9 rfl rfl)
theorem dJ14_hugeLength_34 : decode cJ14_hugeLength 34 = .ok (.invokevirtual 98, 3) := dk_182 0 98 (dk_at dksJ14_hugeLength_1 10 rfl rfl)
theorem dJ14_hugeLength_37 : decode cJ14_hugeLength 37 = .ok (.ldc 210, 2) := dk_18 210 (dk_at dksJ14_hugeLength_1 13 rfl rfl)
theorem dJ14_hugeLength_39 : decode cJ14_hugeLength 39 = .ok (.invokevirtual 94, 3) := dk_182 0 94 (dk_at dksJ14_hugeLength_1 15 rfl rfl)
theorem dJ14_hugeLength_42 : decode cJ14_hugeLength 42 = .ok (.invokevirtual 101, 3) := dk_182 0 101 (dk_at dksJ14_hugeLength_1 18 rfl rfl)
theorem dJ14_hugeLength_45 : decode cJ14_hugeLength 45 = .ok (.invokespecial 212, 3) := dk_183 0 212 (dk_at dksJ14_hugeLength_1 21 rfl rfl)
theorem dJ14_hugeLength_48 : decode cJ14_hugeLength 48 = .ok (.athrow, 1) := dk_191 (dk_at dksJ14_hugeLength_2 0 rfl rfl)
theorem dJ14_hugeLength_49 : decode cJ14_hugeLength 49 = .ok (.iload_n 2, 1) := dk_28 (dk_at dksJ14_hugeLength_2 1 rfl rfl)
theorem dJ14_hugeLength_50 : decode cJ14_hugeLength 50 = .ok (.ldc 200, 2) := dk_18 200 (dk_at dksJ14_hugeLength_2 2 rfl rfl)
theorem dJ14_hugeLength_52 : decode cJ14_hugeLength 52 = .ok (.if_icmp .gt 6, 3) := dk_163 0 6 (dk_at dksJ14_hugeLength_2 4 rfl rfl)
theorem dJ14_hugeLength_55 : decode cJ14_hugeLength 55 = .ok (.ldc 200, 2) := dk_18 200 (dk_at dksJ14_hugeLength_2 7 rfl rfl)
theorem dJ14_hugeLength_57 : decode cJ14_hugeLength 57 = .ok (.ireturn, 1) := dk_172 (dk_at dksJ14_hugeLength_2 9 rfl rfl)
theorem dJ14_hugeLength_58 : decode cJ14_hugeLength 58 = .ok (.iload_n 2, 1) := dk_28 (dk_at dksJ14_hugeLength_2 10 rfl rfl)
theorem dJ14_hugeLength_59 : decode cJ14_hugeLength 59 = .ok (.ireturn, 1) := dk_172 (dk_at dksJ14_hugeLength_2 11 rfl rfl)
def dkwJ14_vectorizedHashCode_6 : List UInt8 := [183, 0, 91, 18, 92, 182, 0, 94, 21, 4, 182, 0, 98, 182, 0, 101, 183, 0, 105, 191, 172]
abbrev dktJ14_vectorizedHashCode_6 : List UInt8 := dkwJ14_vectorizedHashCode_6 ++ []
def dkwJ14_vectorizedHashCode_5 : List UInt8 := [167, 0, 44, 29, 42, 192, 0, 82, 27, 28, 184, 0, 84, 167, 0, 31, 187, 0, 87, 89, 187, 0, 89, 89]
abbrev dktJ14_vectorizedHashCode_5 : List UInt8 := dkwJ14_vectorizedHashCode_5 ++ dktJ14_vectorizedHashCode_6
def dkwJ14_vectorizedHashCode_4 : List UInt8 := [29, 42, 192, 0, 60, 27, 28, 184, 0, 75, 167, 0, 57, 29, 42, 192, 0, 77, 27, 28, 184, 0, 79]
abbrev dktJ14_vectorizedHashCode_4 : List UInt8 := dkwJ14_vectorizedHashCode_4 ++ dktJ14_vectorizedHashCode_5
def dkwJ14_vectorizedHashCode_3 : List UInt8 := [192, 0, 60, 27, 28, 184, 0, 66, 167, 0, 83, 29, 42, 192, 0, 69, 27, 28, 184, 0, 71, 167, 0, 70]
abbrev dktJ14_vectorizedHashCode_3 : List UInt8 := dkwJ14_vectorizedHashCode_3 ++ dktJ14_vectorizedHashCode_4
def dkwJ14_vectorizedHashCode_2 : List UInt8 := [29, 42, 192, 0, 60, 27, 28, 184, 0, 62, 167, 0, 103, 42, 193, 0, 60, 153, 0, 16, 29, 42]
abbrev dktJ14_vectorizedHashCode_2 : List UInt8 := dkwJ14_vectorizedHashCode_2 ++ dktJ14_vectorizedHashCode_3
def dkwJ14_vectorizedHashCode_1 : List UInt8 := [170, 0, 0, 0, 0, 127, 0, 0, 0, 4, 0, 0, 0, 10, 0, 0, 0, 42, 0, 0, 0, 55, 0, 0, 0, 127, 0, 0, 0, 127, 0, 0, 0, 88, 0, 0, 0, 101, 0, 0, 0, 114]
abbrev dktJ14_vectorizedHashCode_1 : List UInt8 := dkwJ14_vectorizedHashCode_1 ++ dktJ14_vectorizedHashCode_2
def dkwJ14_vectorizedHashCode_0 : List UInt8 := [21, 4]
abbrev dktJ14_vectorizedHashCode_0 : List UInt8 := dkwJ14_vectorizedHashCode_0 ++ dktJ14_vectorizedHashCode_1
theorem dksJ14_vectorizedHashCode_0 : cJ14_vectorizedHashCode.data.toList.drop 0 = dktJ14_vectorizedHashCode_0 := by decide +kernel
theorem dksJ14_vectorizedHashCode_1 : cJ14_vectorizedHashCode.data.toList.drop 2 = dktJ14_vectorizedHashCode_1 := dk_seg dksJ14_vectorizedHashCode_0 2 rfl rfl
theorem dksJ14_vectorizedHashCode_2 : cJ14_vectorizedHashCode.data.toList.drop 44 = dktJ14_vectorizedHashCode_2 := dk_seg dksJ14_vectorizedHashCode_1 42 rfl rfl
theorem dksJ14_vectorizedHashCode_3 : cJ14_vectorizedHashCode.data.toList.drop 66 = dktJ14_vectorizedHashCode_3 := dk_seg dksJ14_vectorizedHashCode_2 22 rfl rfl
theorem dksJ14_vectorizedHashCode_4 : cJ14_vectorizedHashCode.data.toList.drop 90 = dktJ14_vectorizedHashCode_4 := dk_seg dksJ14_vectorizedHashCode_3 24 rfl rfl
theorem dksJ14_vectorizedHashCode_5 : cJ14_vectorizedHashCode.data.toList.drop 113 = dktJ14_vectorizedHashCode_5 := dk_seg dksJ14_vectorizedHashCode_4 23 rfl rfl
theorem dksJ14_vectorizedHashCode_6 : cJ14_vectorizedHashCode.data.toList.drop 137 = dktJ14_vectorizedHashCode_6 := dk_seg dksJ14_vectorizedHashCode_5 24 rfl rfl
theorem dJ14_vectorizedHashCode_0 : decode cJ14_vectorizedHashCode 0 = .ok (.iload 4, 2) := dk_21 4 (dk_at dksJ14_vectorizedHashCode_0 0 rfl rfl)
theorem dJ14_vectorizedHashCode_2 : decode cJ14_vectorizedHashCode 2 = .ok (.tableswitch 127 4 10 #[42, 55, 127, 127, 88, 101, 114], 42) := by decide +kernel
theorem dJ14_vectorizedHashCode_44 : decode cJ14_vectorizedHashCode 44 = .ok (.iload_n 3, 1) := dk_29 (dk_at dksJ14_vectorizedHashCode_2 0 rfl rfl)
theorem dJ14_vectorizedHashCode_45 : decode cJ14_vectorizedHashCode 45 = .ok (.aload_n 0, 1) := dk_42 (dk_at dksJ14_vectorizedHashCode_2 1 rfl rfl)
theorem dJ14_vectorizedHashCode_46 : decode cJ14_vectorizedHashCode 46 = .ok (.checkcast 60, 3) := dk_192 0 60 (dk_at dksJ14_vectorizedHashCode_2 2 rfl rfl)
theorem dJ14_vectorizedHashCode_49 : decode cJ14_vectorizedHashCode 49 = .ok (.iload_n 1, 1) := dk_27 (dk_at dksJ14_vectorizedHashCode_2 5 rfl rfl)
theorem dJ14_vectorizedHashCode_50 : decode cJ14_vectorizedHashCode 50 = .ok (.iload_n 2, 1) := dk_28 (dk_at dksJ14_vectorizedHashCode_2 6 rfl rfl)
theorem dJ14_vectorizedHashCode_51 : decode cJ14_vectorizedHashCode 51 = .ok (.invokestatic 62, 3) := dk_184 0 62 (dk_at dksJ14_vectorizedHashCode_2 7 rfl rfl)
theorem dJ14_vectorizedHashCode_54 : decode cJ14_vectorizedHashCode 54 = .ok (.goto 103, 3) := dk_167 0 103 (dk_at dksJ14_vectorizedHashCode_2 10 rfl rfl)
theorem dJ14_vectorizedHashCode_57 : decode cJ14_vectorizedHashCode 57 = .ok (.aload_n 0, 1) := dk_42 (dk_at dksJ14_vectorizedHashCode_2 13 rfl rfl)
theorem dJ14_vectorizedHashCode_58 : decode cJ14_vectorizedHashCode 58 = .ok (.instanceof 60, 3) := dk_193 0 60 (dk_at dksJ14_vectorizedHashCode_2 14 rfl rfl)
theorem dJ14_vectorizedHashCode_61 : decode cJ14_vectorizedHashCode 61 = .ok (.ifCond .eq 16, 3) := dk_153 0 16 (dk_at dksJ14_vectorizedHashCode_2 17 rfl rfl)
theorem dJ14_vectorizedHashCode_64 : decode cJ14_vectorizedHashCode 64 = .ok (.iload_n 3, 1) := dk_29 (dk_at dksJ14_vectorizedHashCode_2 20 rfl rfl)
theorem dJ14_vectorizedHashCode_65 : decode cJ14_vectorizedHashCode 65 = .ok (.aload_n 0, 1) := dk_42 (dk_at dksJ14_vectorizedHashCode_2 21 rfl rfl)
theorem dJ14_vectorizedHashCode_66 : decode cJ14_vectorizedHashCode 66 = .ok (.checkcast 60, 3) := dk_192 0 60 (dk_at dksJ14_vectorizedHashCode_3 0 rfl rfl)
theorem dJ14_vectorizedHashCode_69 : decode cJ14_vectorizedHashCode 69 = .ok (.iload_n 1, 1) := dk_27 (dk_at dksJ14_vectorizedHashCode_3 3 rfl rfl)
theorem dJ14_vectorizedHashCode_70 : decode cJ14_vectorizedHashCode 70 = .ok (.iload_n 2, 1) := dk_28 (dk_at dksJ14_vectorizedHashCode_3 4 rfl rfl)
theorem dJ14_vectorizedHashCode_71 : decode cJ14_vectorizedHashCode 71 = .ok (.invokestatic 66, 3) := dk_184 0 66 (dk_at dksJ14_vectorizedHashCode_3 5 rfl rfl)
theorem dJ14_vectorizedHashCode_74 : decode cJ14_vectorizedHashCode 74 = .ok (.goto 83, 3) := dk_167 0 83 (dk_at dksJ14_vectorizedHashCode_3 8 rfl rfl)
theorem dJ14_vectorizedHashCode_77 : decode cJ14_vectorizedHashCode 77 = .ok (.iload_n 3, 1) := dk_29 (dk_at dksJ14_vectorizedHashCode_3 11 rfl rfl)
theorem dJ14_vectorizedHashCode_78 : decode cJ14_vectorizedHashCode 78 = .ok (.aload_n 0, 1) := dk_42 (dk_at dksJ14_vectorizedHashCode_3 12 rfl rfl)
theorem dJ14_vectorizedHashCode_79 : decode cJ14_vectorizedHashCode 79 = .ok (.checkcast 69, 3) := dk_192 0 69 (dk_at dksJ14_vectorizedHashCode_3 13 rfl rfl)
theorem dJ14_vectorizedHashCode_82 : decode cJ14_vectorizedHashCode 82 = .ok (.iload_n 1, 1) := dk_27 (dk_at dksJ14_vectorizedHashCode_3 16 rfl rfl)
theorem dJ14_vectorizedHashCode_83 : decode cJ14_vectorizedHashCode 83 = .ok (.iload_n 2, 1) := dk_28 (dk_at dksJ14_vectorizedHashCode_3 17 rfl rfl)
theorem dJ14_vectorizedHashCode_84 : decode cJ14_vectorizedHashCode 84 = .ok (.invokestatic 71, 3) := dk_184 0 71 (dk_at dksJ14_vectorizedHashCode_3 18 rfl rfl)
theorem dJ14_vectorizedHashCode_87 : decode cJ14_vectorizedHashCode 87 = .ok (.goto 70, 3) := dk_167 0 70 (dk_at dksJ14_vectorizedHashCode_3 21 rfl rfl)
theorem dJ14_vectorizedHashCode_90 : decode cJ14_vectorizedHashCode 90 = .ok (.iload_n 3, 1) := dk_29 (dk_at dksJ14_vectorizedHashCode_4 0 rfl rfl)
theorem dJ14_vectorizedHashCode_91 : decode cJ14_vectorizedHashCode 91 = .ok (.aload_n 0, 1) := dk_42 (dk_at dksJ14_vectorizedHashCode_4 1 rfl rfl)
theorem dJ14_vectorizedHashCode_92 : decode cJ14_vectorizedHashCode 92 = .ok (.checkcast 60, 3) := dk_192 0 60 (dk_at dksJ14_vectorizedHashCode_4 2 rfl rfl)
theorem dJ14_vectorizedHashCode_95 : decode cJ14_vectorizedHashCode 95 = .ok (.iload_n 1, 1) := dk_27 (dk_at dksJ14_vectorizedHashCode_4 5 rfl rfl)
theorem dJ14_vectorizedHashCode_96 : decode cJ14_vectorizedHashCode 96 = .ok (.iload_n 2, 1) := dk_28 (dk_at dksJ14_vectorizedHashCode_4 6 rfl rfl)
theorem dJ14_vectorizedHashCode_97 : decode cJ14_vectorizedHashCode 97 = .ok (.invokestatic 75, 3) := dk_184 0 75 (dk_at dksJ14_vectorizedHashCode_4 7 rfl rfl)
theorem dJ14_vectorizedHashCode_100 : decode cJ14_vectorizedHashCode 100 = .ok (.goto 57, 3) := dk_167 0 57 (dk_at dksJ14_vectorizedHashCode_4 10 rfl rfl)
theorem dJ14_vectorizedHashCode_103 : decode cJ14_vectorizedHashCode 103 = .ok (.iload_n 3, 1) := dk_29 (dk_at dksJ14_vectorizedHashCode_4 13 rfl rfl)
theorem dJ14_vectorizedHashCode_104 : decode cJ14_vectorizedHashCode 104 = .ok (.aload_n 0, 1) := dk_42 (dk_at dksJ14_vectorizedHashCode_4 14 rfl rfl)
theorem dJ14_vectorizedHashCode_105 : decode cJ14_vectorizedHashCode 105 = .ok (.checkcast 77, 3) := dk_192 0 77 (dk_at dksJ14_vectorizedHashCode_4 15 rfl rfl)
theorem dJ14_vectorizedHashCode_108 : decode cJ14_vectorizedHashCode 108 = .ok (.iload_n 1, 1) := dk_27 (dk_at dksJ14_vectorizedHashCode_4 18 rfl rfl)
theorem dJ14_vectorizedHashCode_109 : decode cJ14_vectorizedHashCode 109 = .ok (.iload_n 2, 1) := dk_28 (dk_at dksJ14_vectorizedHashCode_4 19 rfl rfl)
theorem dJ14_vectorizedHashCode_110 : decode cJ14_vectorizedHashCode 110 = .ok (.invokestatic 79, 3) := dk_184 0 79 (dk_at dksJ14_vectorizedHashCode_4 20 rfl rfl)
theorem dJ14_vectorizedHashCode_113 : decode cJ14_vectorizedHashCode 113 = .ok (.goto 44, 3) := dk_167 0 44 (dk_at dksJ14_vectorizedHashCode_5 0 rfl rfl)
theorem dJ14_vectorizedHashCode_116 : decode cJ14_vectorizedHashCode 116 = .ok (.iload_n 3, 1) := dk_29 (dk_at dksJ14_vectorizedHashCode_5 3 rfl rfl)
theorem dJ14_vectorizedHashCode_117 : decode cJ14_vectorizedHashCode 117 = .ok (.aload_n 0, 1) := dk_42 (dk_at dksJ14_vectorizedHashCode_5 4 rfl rfl)
theorem dJ14_vectorizedHashCode_118 : decode cJ14_vectorizedHashCode 118 = .ok (.checkcast 82, 3) := dk_192 0 82 (dk_at dksJ14_vectorizedHashCode_5 5 rfl rfl)
theorem dJ14_vectorizedHashCode_121 : decode cJ14_vectorizedHashCode 121 = .ok (.iload_n 1, 1) := dk_27 (dk_at dksJ14_vectorizedHashCode_5 8 rfl rfl)
theorem dJ14_vectorizedHashCode_122 : decode cJ14_vectorizedHashCode 122 = .ok (.iload_n 2, 1) := dk_28 (dk_at dksJ14_vectorizedHashCode_5 9 rfl rfl)
theorem dJ14_vectorizedHashCode_123 : decode cJ14_vectorizedHashCode 123 = .ok (.invokestatic 84, 3) := dk_184 0 84 (dk_at dksJ14_vectorizedHashCode_5 10 rfl rfl)
theorem dJ14_vectorizedHashCode_126 : decode cJ14_vectorizedHashCode 126 = .ok (.goto 31, 3) := dk_167 0 31 (dk_at dksJ14_vectorizedHashCode_5 13 rfl rfl)
theorem dJ14_vectorizedHashCode_129 : decode cJ14_vectorizedHashCode 129 = .ok (.new 87, 3) := dk_187 0 87 (dk_at dksJ14_vectorizedHashCode_5 16 rfl rfl)
theorem dJ14_vectorizedHashCode_132 : decode cJ14_vectorizedHashCode 132 = .ok (.dup, 1) := dk_89 (dk_at dksJ14_vectorizedHashCode_5 19 rfl rfl)
theorem dJ14_vectorizedHashCode_133 : decode cJ14_vectorizedHashCode 133 = .ok (.new 89, 3) := dk_187 0 89 (dk_at dksJ14_vectorizedHashCode_5 20 rfl rfl)
theorem dJ14_vectorizedHashCode_136 : decode cJ14_vectorizedHashCode 136 = .ok (.dup, 1) := dk_89 (dk_at dksJ14_vectorizedHashCode_5 23 rfl rfl)
theorem dJ14_vectorizedHashCode_137 : decode cJ14_vectorizedHashCode 137 = .ok (.invokespecial 91, 3) := dk_183 0 91 (dk_at dksJ14_vectorizedHashCode_6 0 rfl rfl)
theorem dJ14_vectorizedHashCode_140 : decode cJ14_vectorizedHashCode 140 = .ok (.ldc 92, 2) := dk_18 92 (dk_at dksJ14_vectorizedHashCode_6 3 rfl rfl)
theorem dJ14_vectorizedHashCode_142 : decode cJ14_vectorizedHashCode 142 = .ok (.invokevirtual 94, 3) := dk_182 0 94 (dk_at dksJ14_vectorizedHashCode_6 5 rfl rfl)
theorem dJ14_vectorizedHashCode_145 : decode cJ14_vectorizedHashCode 145 = .ok (.iload 4, 2) := dk_21 4 (dk_at dksJ14_vectorizedHashCode_6 8 rfl rfl)
theorem dJ14_vectorizedHashCode_147 : decode cJ14_vectorizedHashCode 147 = .ok (.invokevirtual 98, 3) := dk_182 0 98 (dk_at dksJ14_vectorizedHashCode_6 10 rfl rfl)
theorem dJ14_vectorizedHashCode_150 : decode cJ14_vectorizedHashCode 150 = .ok (.invokevirtual 101, 3) := dk_182 0 101 (dk_at dksJ14_vectorizedHashCode_6 13 rfl rfl)
theorem dJ14_vectorizedHashCode_153 : decode cJ14_vectorizedHashCode 153 = .ok (.invokespecial 105, 3) := dk_183 0 105 (dk_at dksJ14_vectorizedHashCode_6 16 rfl rfl)
theorem dJ14_vectorizedHashCode_156 : decode cJ14_vectorizedHashCode 156 = .ok (.athrow, 1) := dk_191 (dk_at dksJ14_vectorizedHashCode_6 19 rfl rfl)
theorem dJ14_vectorizedHashCode_157 : decode cJ14_vectorizedHashCode 157 = .ok (.ireturn, 1) := dk_172 (dk_at dksJ14_vectorizedHashCode_6 20 rfl rfl)
def dkwJ14_signedHashCode_1 : List UInt8 := [17, 0, 255, 126, 96, 59, 132, 5, 1, 167, 255, 232, 26, 172]
abbrev dktJ14_signedHashCode_1 : List UInt8 := dkwJ14_signedHashCode_1 ++ []
def dkwJ14_signedHashCode_0 : List UInt8 := [28, 29, 96, 54, 4, 28, 54, 5, 21, 5, 21, 4, 162, 0, 23, 16, 31, 26, 104, 43, 21, 5, 51]
abbrev dktJ14_signedHashCode_0 : List UInt8 := dkwJ14_signedHashCode_0 ++ dktJ14_signedHashCode_1
theorem dksJ14_signedHashCode_0 : cJ14_signedHashCode.data.toList.drop 0 = dktJ14_signedHashCode_0 := by decide +kernel
theorem dksJ14_signedHashCode_1 : cJ14_signedHashCode.data.toList.drop 23 = dktJ14_signedHashCode_1 := dk_seg dksJ14_signedHashCode_0 23 rfl rfl
theorem dJ14_signedHashCode_0 : decode cJ14_signedHashCode 0 = .ok (.iload_n 2, 1) := dk_28 (dk_at dksJ14_signedHashCode_0 0 rfl rfl)
theorem dJ14_signedHashCode_1 : decode cJ14_signedHashCode 1 = .ok (.iload_n 3, 1) := dk_29 (dk_at dksJ14_signedHashCode_0 1 rfl rfl)
theorem dJ14_signedHashCode_2 : decode cJ14_signedHashCode 2 = .ok (.iadd, 1) := dk_96 (dk_at dksJ14_signedHashCode_0 2 rfl rfl)
theorem dJ14_signedHashCode_3 : decode cJ14_signedHashCode 3 = .ok (.istore 4, 2) := dk_54 4 (dk_at dksJ14_signedHashCode_0 3 rfl rfl)
theorem dJ14_signedHashCode_5 : decode cJ14_signedHashCode 5 = .ok (.iload_n 2, 1) := dk_28 (dk_at dksJ14_signedHashCode_0 5 rfl rfl)
theorem dJ14_signedHashCode_6 : decode cJ14_signedHashCode 6 = .ok (.istore 5, 2) := dk_54 5 (dk_at dksJ14_signedHashCode_0 6 rfl rfl)
theorem dJ14_signedHashCode_8 : decode cJ14_signedHashCode 8 = .ok (.iload 5, 2) := dk_21 5 (dk_at dksJ14_signedHashCode_0 8 rfl rfl)
theorem dJ14_signedHashCode_10 : decode cJ14_signedHashCode 10 = .ok (.iload 4, 2) := dk_21 4 (dk_at dksJ14_signedHashCode_0 10 rfl rfl)
theorem dJ14_signedHashCode_12 : decode cJ14_signedHashCode 12 = .ok (.if_icmp .ge 23, 3) := dk_162 0 23 (dk_at dksJ14_signedHashCode_0 12 rfl rfl)
theorem dJ14_signedHashCode_15 : decode cJ14_signedHashCode 15 = .ok (.bipush 31, 2) := dk_16 31 (dk_at dksJ14_signedHashCode_0 15 rfl rfl)
theorem dJ14_signedHashCode_17 : decode cJ14_signedHashCode 17 = .ok (.iload_n 0, 1) := dk_26 (dk_at dksJ14_signedHashCode_0 17 rfl rfl)
theorem dJ14_signedHashCode_18 : decode cJ14_signedHashCode 18 = .ok (.imul, 1) := dk_104 (dk_at dksJ14_signedHashCode_0 18 rfl rfl)
theorem dJ14_signedHashCode_19 : decode cJ14_signedHashCode 19 = .ok (.aload_n 1, 1) := dk_43 (dk_at dksJ14_signedHashCode_0 19 rfl rfl)
theorem dJ14_signedHashCode_20 : decode cJ14_signedHashCode 20 = .ok (.iload 5, 2) := dk_21 5 (dk_at dksJ14_signedHashCode_0 20 rfl rfl)
theorem dJ14_signedHashCode_22 : decode cJ14_signedHashCode 22 = .ok (.baload, 1) := dk_51 (dk_at dksJ14_signedHashCode_0 22 rfl rfl)
theorem dJ14_signedHashCode_23 : decode cJ14_signedHashCode 23 = .ok (.sipush 255, 3) := dk_17 0 255 (dk_at dksJ14_signedHashCode_1 0 rfl rfl)
theorem dJ14_signedHashCode_26 : decode cJ14_signedHashCode 26 = .ok (.iand, 1) := dk_126 (dk_at dksJ14_signedHashCode_1 3 rfl rfl)
theorem dJ14_signedHashCode_27 : decode cJ14_signedHashCode 27 = .ok (.iadd, 1) := dk_96 (dk_at dksJ14_signedHashCode_1 4 rfl rfl)
theorem dJ14_signedHashCode_28 : decode cJ14_signedHashCode 28 = .ok (.istore_n 0, 1) := dk_59 (dk_at dksJ14_signedHashCode_1 5 rfl rfl)
theorem dJ14_signedHashCode_29 : decode cJ14_signedHashCode 29 = .ok (.iinc 5 1, 3) := dk_132 5 1 (dk_at dksJ14_signedHashCode_1 6 rfl rfl)
theorem dJ14_signedHashCode_32 : decode cJ14_signedHashCode 32 = .ok (.goto (-24), 3) := dk_167 255 232 (dk_at dksJ14_signedHashCode_1 9 rfl rfl)
theorem dJ14_signedHashCode_35 : decode cJ14_signedHashCode 35 = .ok (.iload_n 0, 1) := dk_26 (dk_at dksJ14_signedHashCode_1 12 rfl rfl)
theorem dJ14_signedHashCode_36 : decode cJ14_signedHashCode 36 = .ok (.ireturn, 1) := dk_172 (dk_at dksJ14_signedHashCode_1 13 rfl rfl)
def dkwJ14_utf16hashCode_1 : List UInt8 := [21, 5, 185, 0, 110, 3, 0, 96, 59, 132, 5, 1, 167, 255, 229, 26, 172]
abbrev dktJ14_utf16hashCode_1 : List UInt8 := dkwJ14_utf16hashCode_1 ++ []
def dkwJ14_utf16hashCode_0 : List UInt8 := [28, 29, 96, 54, 4, 28, 54, 5, 21, 5, 21, 4, 162, 0, 26, 16, 31, 26, 104, 178, 0, 106, 43]
abbrev dktJ14_utf16hashCode_0 : List UInt8 := dkwJ14_utf16hashCode_0 ++ dktJ14_utf16hashCode_1
theorem dksJ14_utf16hashCode_0 : cJ14_utf16hashCode.data.toList.drop 0 = dktJ14_utf16hashCode_0 := by decide +kernel
theorem dksJ14_utf16hashCode_1 : cJ14_utf16hashCode.data.toList.drop 23 = dktJ14_utf16hashCode_1 := dk_seg dksJ14_utf16hashCode_0 23 rfl rfl
theorem dJ14_utf16hashCode_0 : decode cJ14_utf16hashCode 0 = .ok (.iload_n 2, 1) := dk_28 (dk_at dksJ14_utf16hashCode_0 0 rfl rfl)
theorem dJ14_utf16hashCode_1 : decode cJ14_utf16hashCode 1 = .ok (.iload_n 3, 1) := dk_29 (dk_at dksJ14_utf16hashCode_0 1 rfl rfl)
theorem dJ14_utf16hashCode_2 : decode cJ14_utf16hashCode 2 = .ok (.iadd, 1) := dk_96 (dk_at dksJ14_utf16hashCode_0 2 rfl rfl)
theorem dJ14_utf16hashCode_3 : decode cJ14_utf16hashCode 3 = .ok (.istore 4, 2) := dk_54 4 (dk_at dksJ14_utf16hashCode_0 3 rfl rfl)
theorem dJ14_utf16hashCode_5 : decode cJ14_utf16hashCode 5 = .ok (.iload_n 2, 1) := dk_28 (dk_at dksJ14_utf16hashCode_0 5 rfl rfl)
theorem dJ14_utf16hashCode_6 : decode cJ14_utf16hashCode 6 = .ok (.istore 5, 2) := dk_54 5 (dk_at dksJ14_utf16hashCode_0 6 rfl rfl)
theorem dJ14_utf16hashCode_8 : decode cJ14_utf16hashCode 8 = .ok (.iload 5, 2) := dk_21 5 (dk_at dksJ14_utf16hashCode_0 8 rfl rfl)
theorem dJ14_utf16hashCode_10 : decode cJ14_utf16hashCode 10 = .ok (.iload 4, 2) := dk_21 4 (dk_at dksJ14_utf16hashCode_0 10 rfl rfl)
theorem dJ14_utf16hashCode_12 : decode cJ14_utf16hashCode 12 = .ok (.if_icmp .ge 26, 3) := dk_162 0 26 (dk_at dksJ14_utf16hashCode_0 12 rfl rfl)
theorem dJ14_utf16hashCode_15 : decode cJ14_utf16hashCode 15 = .ok (.bipush 31, 2) := dk_16 31 (dk_at dksJ14_utf16hashCode_0 15 rfl rfl)
theorem dJ14_utf16hashCode_17 : decode cJ14_utf16hashCode 17 = .ok (.iload_n 0, 1) := dk_26 (dk_at dksJ14_utf16hashCode_0 17 rfl rfl)
theorem dJ14_utf16hashCode_18 : decode cJ14_utf16hashCode 18 = .ok (.imul, 1) := dk_104 (dk_at dksJ14_utf16hashCode_0 18 rfl rfl)
theorem dJ14_utf16hashCode_19 : decode cJ14_utf16hashCode 19 = .ok (.getstatic 106, 3) := dk_178 0 106 (dk_at dksJ14_utf16hashCode_0 19 rfl rfl)
theorem dJ14_utf16hashCode_22 : decode cJ14_utf16hashCode 22 = .ok (.aload_n 1, 1) := dk_43 (dk_at dksJ14_utf16hashCode_0 22 rfl rfl)
theorem dJ14_utf16hashCode_23 : decode cJ14_utf16hashCode 23 = .ok (.iload 5, 2) := dk_21 5 (dk_at dksJ14_utf16hashCode_1 0 rfl rfl)
theorem dJ14_utf16hashCode_25 : decode cJ14_utf16hashCode 25 = .ok (.invokeinterface 110 3, 5) := by decide +kernel
theorem dJ14_utf16hashCode_30 : decode cJ14_utf16hashCode 30 = .ok (.iadd, 1) := dk_96 (dk_at dksJ14_utf16hashCode_1 7 rfl rfl)
theorem dJ14_utf16hashCode_31 : decode cJ14_utf16hashCode 31 = .ok (.istore_n 0, 1) := dk_59 (dk_at dksJ14_utf16hashCode_1 8 rfl rfl)
theorem dJ14_utf16hashCode_32 : decode cJ14_utf16hashCode 32 = .ok (.iinc 5 1, 3) := dk_132 5 1 (dk_at dksJ14_utf16hashCode_1 9 rfl rfl)
theorem dJ14_utf16hashCode_35 : decode cJ14_utf16hashCode 35 = .ok (.goto (-27), 3) := dk_167 255 229 (dk_at dksJ14_utf16hashCode_1 12 rfl rfl)
theorem dJ14_utf16hashCode_38 : decode cJ14_utf16hashCode 38 = .ok (.iload_n 0, 1) := dk_26 (dk_at dksJ14_utf16hashCode_1 15 rfl rfl)
theorem dJ14_utf16hashCode_39 : decode cJ14_utf16hashCode 39 = .ok (.ireturn, 1) := dk_172 (dk_at dksJ14_utf16hashCode_1 16 rfl rfl)
def dkwJ14_hashCode_1 : List UInt8 := [59, 132, 5, 1, 167, 255, 236, 26, 172]
abbrev dktJ14_hashCode_1 : List UInt8 := dkwJ14_hashCode_1 ++ []
def dkwJ14_hashCode_0 : List UInt8 := [28, 29, 96, 54, 4, 28, 54, 5, 21, 5, 21, 4, 162, 0, 19, 16, 31, 26, 104, 43, 21, 5, 52, 96]
abbrev dktJ14_hashCode_0 : List UInt8 := dkwJ14_hashCode_0 ++ dktJ14_hashCode_1
theorem dksJ14_hashCode_0 : cJ14_hashCode.data.toList.drop 0 = dktJ14_hashCode_0 := by decide +kernel
theorem dksJ14_hashCode_1 : cJ14_hashCode.data.toList.drop 24 = dktJ14_hashCode_1 := dk_seg dksJ14_hashCode_0 24 rfl rfl
theorem dJ14_hashCode_0 : decode cJ14_hashCode 0 = .ok (.iload_n 2, 1) := dk_28 (dk_at dksJ14_hashCode_0 0 rfl rfl)
theorem dJ14_hashCode_1 : decode cJ14_hashCode 1 = .ok (.iload_n 3, 1) := dk_29 (dk_at dksJ14_hashCode_0 1 rfl rfl)
theorem dJ14_hashCode_2 : decode cJ14_hashCode 2 = .ok (.iadd, 1) := dk_96 (dk_at dksJ14_hashCode_0 2 rfl rfl)
theorem dJ14_hashCode_3 : decode cJ14_hashCode 3 = .ok (.istore 4, 2) := dk_54 4 (dk_at dksJ14_hashCode_0 3 rfl rfl)
theorem dJ14_hashCode_5 : decode cJ14_hashCode 5 = .ok (.iload_n 2, 1) := dk_28 (dk_at dksJ14_hashCode_0 5 rfl rfl)
theorem dJ14_hashCode_6 : decode cJ14_hashCode 6 = .ok (.istore 5, 2) := dk_54 5 (dk_at dksJ14_hashCode_0 6 rfl rfl)
theorem dJ14_hashCode_8 : decode cJ14_hashCode 8 = .ok (.iload 5, 2) := dk_21 5 (dk_at dksJ14_hashCode_0 8 rfl rfl)
theorem dJ14_hashCode_10 : decode cJ14_hashCode 10 = .ok (.iload 4, 2) := dk_21 4 (dk_at dksJ14_hashCode_0 10 rfl rfl)
theorem dJ14_hashCode_12 : decode cJ14_hashCode 12 = .ok (.if_icmp .ge 19, 3) := dk_162 0 19 (dk_at dksJ14_hashCode_0 12 rfl rfl)
theorem dJ14_hashCode_15 : decode cJ14_hashCode 15 = .ok (.bipush 31, 2) := dk_16 31 (dk_at dksJ14_hashCode_0 15 rfl rfl)
theorem dJ14_hashCode_17 : decode cJ14_hashCode 17 = .ok (.iload_n 0, 1) := dk_26 (dk_at dksJ14_hashCode_0 17 rfl rfl)
theorem dJ14_hashCode_18 : decode cJ14_hashCode 18 = .ok (.imul, 1) := dk_104 (dk_at dksJ14_hashCode_0 18 rfl rfl)
theorem dJ14_hashCode_19 : decode cJ14_hashCode 19 = .ok (.aload_n 1, 1) := dk_43 (dk_at dksJ14_hashCode_0 19 rfl rfl)
theorem dJ14_hashCode_20 : decode cJ14_hashCode 20 = .ok (.iload 5, 2) := dk_21 5 (dk_at dksJ14_hashCode_0 20 rfl rfl)
theorem dJ14_hashCode_22 : decode cJ14_hashCode 22 = .ok (.caload, 1) := dk_52 (dk_at dksJ14_hashCode_0 22 rfl rfl)
theorem dJ14_hashCode_23 : decode cJ14_hashCode 23 = .ok (.iadd, 1) := dk_96 (dk_at dksJ14_hashCode_0 23 rfl rfl)
theorem dJ14_hashCode_24 : decode cJ14_hashCode 24 = .ok (.istore_n 0, 1) := dk_59 (dk_at dksJ14_hashCode_1 0 rfl rfl)
theorem dJ14_hashCode_25 : decode cJ14_hashCode 25 = .ok (.iinc 5 1, 3) := dk_132 5 1 (dk_at dksJ14_hashCode_1 1 rfl rfl)
theorem dJ14_hashCode_28 : decode cJ14_hashCode 28 = .ok (.goto (-20), 3) := dk_167 255 236 (dk_at dksJ14_hashCode_1 4 rfl rfl)
theorem dJ14_hashCode_31 : decode cJ14_hashCode 31 = .ok (.iload_n 0, 1) := dk_26 (dk_at dksJ14_hashCode_1 7 rfl rfl)
theorem dJ14_hashCode_32 : decode cJ14_hashCode 32 = .ok (.ireturn, 1) := dk_172 (dk_at dksJ14_hashCode_1 8 rfl rfl)
def dkwJ14_hashCode_2_1 : List UInt8 := [59, 132, 5, 1, 167, 255, 236, 26, 172]
abbrev dktJ14_hashCode_2_1 : List UInt8 := dkwJ14_hashCode_2_1 ++ []
def dkwJ14_hashCode_2_0 : List UInt8 := [28, 29, 96, 54, 4, 28, 54, 5, 21, 5, 21, 4, 162, 0, 19, 16, 31, 26, 104, 43, 21, 5, 51, 96]
abbrev dktJ14_hashCode_2_0 : List UInt8 := dkwJ14_hashCode_2_0 ++ dktJ14_hashCode_2_1
theorem dksJ14_hashCode_2_0 : cJ14_hashCode_2.data.toList.drop 0 = dktJ14_hashCode_2_0 := by decide +kernel
theorem dksJ14_hashCode_2_1 : cJ14_hashCode_2.data.toList.drop 24 = dktJ14_hashCode_2_1 := dk_seg dksJ14_hashCode_2_0 24 rfl rfl
theorem dJ14_hashCode_2_0 : decode cJ14_hashCode_2 0 = .ok (.iload_n 2, 1) := dk_28 (dk_at dksJ14_hashCode_2_0 0 rfl rfl)
theorem dJ14_hashCode_2_1 : decode cJ14_hashCode_2 1 = .ok (.iload_n 3, 1) := dk_29 (dk_at dksJ14_hashCode_2_0 1 rfl rfl)
theorem dJ14_hashCode_2_2 : decode cJ14_hashCode_2 2 = .ok (.iadd, 1) := dk_96 (dk_at dksJ14_hashCode_2_0 2 rfl rfl)
theorem dJ14_hashCode_2_3 : decode cJ14_hashCode_2 3 = .ok (.istore 4, 2) := dk_54 4 (dk_at dksJ14_hashCode_2_0 3 rfl rfl)
theorem dJ14_hashCode_2_5 : decode cJ14_hashCode_2 5 = .ok (.iload_n 2, 1) := dk_28 (dk_at dksJ14_hashCode_2_0 5 rfl rfl)
theorem dJ14_hashCode_2_6 : decode cJ14_hashCode_2 6 = .ok (.istore 5, 2) := dk_54 5 (dk_at dksJ14_hashCode_2_0 6 rfl rfl)
theorem dJ14_hashCode_2_8 : decode cJ14_hashCode_2 8 = .ok (.iload 5, 2) := dk_21 5 (dk_at dksJ14_hashCode_2_0 8 rfl rfl)
theorem dJ14_hashCode_2_10 : decode cJ14_hashCode_2 10 = .ok (.iload 4, 2) := dk_21 4 (dk_at dksJ14_hashCode_2_0 10 rfl rfl)
theorem dJ14_hashCode_2_12 : decode cJ14_hashCode_2 12 = .ok (.if_icmp .ge 19, 3) := dk_162 0 19 (dk_at dksJ14_hashCode_2_0 12 rfl rfl)
theorem dJ14_hashCode_2_15 : decode cJ14_hashCode_2 15 = .ok (.bipush 31, 2) := dk_16 31 (dk_at dksJ14_hashCode_2_0 15 rfl rfl)
theorem dJ14_hashCode_2_17 : decode cJ14_hashCode_2 17 = .ok (.iload_n 0, 1) := dk_26 (dk_at dksJ14_hashCode_2_0 17 rfl rfl)
theorem dJ14_hashCode_2_18 : decode cJ14_hashCode_2 18 = .ok (.imul, 1) := dk_104 (dk_at dksJ14_hashCode_2_0 18 rfl rfl)
theorem dJ14_hashCode_2_19 : decode cJ14_hashCode_2 19 = .ok (.aload_n 1, 1) := dk_43 (dk_at dksJ14_hashCode_2_0 19 rfl rfl)
theorem dJ14_hashCode_2_20 : decode cJ14_hashCode_2 20 = .ok (.iload 5, 2) := dk_21 5 (dk_at dksJ14_hashCode_2_0 20 rfl rfl)
theorem dJ14_hashCode_2_22 : decode cJ14_hashCode_2 22 = .ok (.baload, 1) := dk_51 (dk_at dksJ14_hashCode_2_0 22 rfl rfl)
theorem dJ14_hashCode_2_23 : decode cJ14_hashCode_2 23 = .ok (.iadd, 1) := dk_96 (dk_at dksJ14_hashCode_2_0 23 rfl rfl)
theorem dJ14_hashCode_2_24 : decode cJ14_hashCode_2 24 = .ok (.istore_n 0, 1) := dk_59 (dk_at dksJ14_hashCode_2_1 0 rfl rfl)
theorem dJ14_hashCode_2_25 : decode cJ14_hashCode_2 25 = .ok (.iinc 5 1, 3) := dk_132 5 1 (dk_at dksJ14_hashCode_2_1 1 rfl rfl)
theorem dJ14_hashCode_2_28 : decode cJ14_hashCode_2 28 = .ok (.goto (-20), 3) := dk_167 255 236 (dk_at dksJ14_hashCode_2_1 4 rfl rfl)
theorem dJ14_hashCode_2_31 : decode cJ14_hashCode_2 31 = .ok (.iload_n 0, 1) := dk_26 (dk_at dksJ14_hashCode_2_1 7 rfl rfl)
theorem dJ14_hashCode_2_32 : decode cJ14_hashCode_2 32 = .ok (.ireturn, 1) := dk_172 (dk_at dksJ14_hashCode_2_1 8 rfl rfl)
def dkwJ14_hashCode_3_1 : List UInt8 := [59, 132, 5, 1, 167, 255, 236, 26, 172]
abbrev dktJ14_hashCode_3_1 : List UInt8 := dkwJ14_hashCode_3_1 ++ []
def dkwJ14_hashCode_3_0 : List UInt8 := [28, 29, 96, 54, 4, 28, 54, 5, 21, 5, 21, 4, 162, 0, 19, 16, 31, 26, 104, 43, 21, 5, 53, 96]
abbrev dktJ14_hashCode_3_0 : List UInt8 := dkwJ14_hashCode_3_0 ++ dktJ14_hashCode_3_1
theorem dksJ14_hashCode_3_0 : cJ14_hashCode_3.data.toList.drop 0 = dktJ14_hashCode_3_0 := by decide +kernel
theorem dksJ14_hashCode_3_1 : cJ14_hashCode_3.data.toList.drop 24 = dktJ14_hashCode_3_1 := dk_seg dksJ14_hashCode_3_0 24 rfl rfl
theorem dJ14_hashCode_3_0 : decode cJ14_hashCode_3 0 = .ok (.iload_n 2, 1) := dk_28 (dk_at dksJ14_hashCode_3_0 0 rfl rfl)
theorem dJ14_hashCode_3_1 : decode cJ14_hashCode_3 1 = .ok (.iload_n 3, 1) := dk_29 (dk_at dksJ14_hashCode_3_0 1 rfl rfl)
theorem dJ14_hashCode_3_2 : decode cJ14_hashCode_3 2 = .ok (.iadd, 1) := dk_96 (dk_at dksJ14_hashCode_3_0 2 rfl rfl)
theorem dJ14_hashCode_3_3 : decode cJ14_hashCode_3 3 = .ok (.istore 4, 2) := dk_54 4 (dk_at dksJ14_hashCode_3_0 3 rfl rfl)
theorem dJ14_hashCode_3_5 : decode cJ14_hashCode_3 5 = .ok (.iload_n 2, 1) := dk_28 (dk_at dksJ14_hashCode_3_0 5 rfl rfl)
theorem dJ14_hashCode_3_6 : decode cJ14_hashCode_3 6 = .ok (.istore 5, 2) := dk_54 5 (dk_at dksJ14_hashCode_3_0 6 rfl rfl)
theorem dJ14_hashCode_3_8 : decode cJ14_hashCode_3 8 = .ok (.iload 5, 2) := dk_21 5 (dk_at dksJ14_hashCode_3_0 8 rfl rfl)
theorem dJ14_hashCode_3_10 : decode cJ14_hashCode_3 10 = .ok (.iload 4, 2) := dk_21 4 (dk_at dksJ14_hashCode_3_0 10 rfl rfl)
theorem dJ14_hashCode_3_12 : decode cJ14_hashCode_3 12 = .ok (.if_icmp .ge 19, 3) := dk_162 0 19 (dk_at dksJ14_hashCode_3_0 12 rfl rfl)
theorem dJ14_hashCode_3_15 : decode cJ14_hashCode_3 15 = .ok (.bipush 31, 2) := dk_16 31 (dk_at dksJ14_hashCode_3_0 15 rfl rfl)
theorem dJ14_hashCode_3_17 : decode cJ14_hashCode_3 17 = .ok (.iload_n 0, 1) := dk_26 (dk_at dksJ14_hashCode_3_0 17 rfl rfl)
theorem dJ14_hashCode_3_18 : decode cJ14_hashCode_3 18 = .ok (.imul, 1) := dk_104 (dk_at dksJ14_hashCode_3_0 18 rfl rfl)
theorem dJ14_hashCode_3_19 : decode cJ14_hashCode_3 19 = .ok (.aload_n 1, 1) := dk_43 (dk_at dksJ14_hashCode_3_0 19 rfl rfl)
theorem dJ14_hashCode_3_20 : decode cJ14_hashCode_3 20 = .ok (.iload 5, 2) := dk_21 5 (dk_at dksJ14_hashCode_3_0 20 rfl rfl)
theorem dJ14_hashCode_3_22 : decode cJ14_hashCode_3 22 = .ok (.saload, 1) := dk_53 (dk_at dksJ14_hashCode_3_0 22 rfl rfl)
theorem dJ14_hashCode_3_23 : decode cJ14_hashCode_3 23 = .ok (.iadd, 1) := dk_96 (dk_at dksJ14_hashCode_3_0 23 rfl rfl)
theorem dJ14_hashCode_3_24 : decode cJ14_hashCode_3 24 = .ok (.istore_n 0, 1) := dk_59 (dk_at dksJ14_hashCode_3_1 0 rfl rfl)
theorem dJ14_hashCode_3_25 : decode cJ14_hashCode_3 25 = .ok (.iinc 5 1, 3) := dk_132 5 1 (dk_at dksJ14_hashCode_3_1 1 rfl rfl)
theorem dJ14_hashCode_3_28 : decode cJ14_hashCode_3 28 = .ok (.goto (-20), 3) := dk_167 255 236 (dk_at dksJ14_hashCode_3_1 4 rfl rfl)
theorem dJ14_hashCode_3_31 : decode cJ14_hashCode_3 31 = .ok (.iload_n 0, 1) := dk_26 (dk_at dksJ14_hashCode_3_1 7 rfl rfl)
theorem dJ14_hashCode_3_32 : decode cJ14_hashCode_3 32 = .ok (.ireturn, 1) := dk_172 (dk_at dksJ14_hashCode_3_1 8 rfl rfl)
def dkwJ14_hashCode_4_1 : List UInt8 := [59, 132, 5, 1, 167, 255, 236, 26, 172]
abbrev dktJ14_hashCode_4_1 : List UInt8 := dkwJ14_hashCode_4_1 ++ []
def dkwJ14_hashCode_4_0 : List UInt8 := [28, 29, 96, 54, 4, 28, 54, 5, 21, 5, 21, 4, 162, 0, 19, 16, 31, 26, 104, 43, 21, 5, 46, 96]
abbrev dktJ14_hashCode_4_0 : List UInt8 := dkwJ14_hashCode_4_0 ++ dktJ14_hashCode_4_1
theorem dksJ14_hashCode_4_0 : cJ14_hashCode_4.data.toList.drop 0 = dktJ14_hashCode_4_0 := by decide +kernel
theorem dksJ14_hashCode_4_1 : cJ14_hashCode_4.data.toList.drop 24 = dktJ14_hashCode_4_1 := dk_seg dksJ14_hashCode_4_0 24 rfl rfl
theorem dJ14_hashCode_4_0 : decode cJ14_hashCode_4 0 = .ok (.iload_n 2, 1) := dk_28 (dk_at dksJ14_hashCode_4_0 0 rfl rfl)
theorem dJ14_hashCode_4_1 : decode cJ14_hashCode_4 1 = .ok (.iload_n 3, 1) := dk_29 (dk_at dksJ14_hashCode_4_0 1 rfl rfl)
theorem dJ14_hashCode_4_2 : decode cJ14_hashCode_4 2 = .ok (.iadd, 1) := dk_96 (dk_at dksJ14_hashCode_4_0 2 rfl rfl)
theorem dJ14_hashCode_4_3 : decode cJ14_hashCode_4 3 = .ok (.istore 4, 2) := dk_54 4 (dk_at dksJ14_hashCode_4_0 3 rfl rfl)
theorem dJ14_hashCode_4_5 : decode cJ14_hashCode_4 5 = .ok (.iload_n 2, 1) := dk_28 (dk_at dksJ14_hashCode_4_0 5 rfl rfl)
theorem dJ14_hashCode_4_6 : decode cJ14_hashCode_4 6 = .ok (.istore 5, 2) := dk_54 5 (dk_at dksJ14_hashCode_4_0 6 rfl rfl)
theorem dJ14_hashCode_4_8 : decode cJ14_hashCode_4 8 = .ok (.iload 5, 2) := dk_21 5 (dk_at dksJ14_hashCode_4_0 8 rfl rfl)
theorem dJ14_hashCode_4_10 : decode cJ14_hashCode_4 10 = .ok (.iload 4, 2) := dk_21 4 (dk_at dksJ14_hashCode_4_0 10 rfl rfl)
theorem dJ14_hashCode_4_12 : decode cJ14_hashCode_4 12 = .ok (.if_icmp .ge 19, 3) := dk_162 0 19 (dk_at dksJ14_hashCode_4_0 12 rfl rfl)
theorem dJ14_hashCode_4_15 : decode cJ14_hashCode_4 15 = .ok (.bipush 31, 2) := dk_16 31 (dk_at dksJ14_hashCode_4_0 15 rfl rfl)
theorem dJ14_hashCode_4_17 : decode cJ14_hashCode_4 17 = .ok (.iload_n 0, 1) := dk_26 (dk_at dksJ14_hashCode_4_0 17 rfl rfl)
theorem dJ14_hashCode_4_18 : decode cJ14_hashCode_4 18 = .ok (.imul, 1) := dk_104 (dk_at dksJ14_hashCode_4_0 18 rfl rfl)
theorem dJ14_hashCode_4_19 : decode cJ14_hashCode_4 19 = .ok (.aload_n 1, 1) := dk_43 (dk_at dksJ14_hashCode_4_0 19 rfl rfl)
theorem dJ14_hashCode_4_20 : decode cJ14_hashCode_4 20 = .ok (.iload 5, 2) := dk_21 5 (dk_at dksJ14_hashCode_4_0 20 rfl rfl)
theorem dJ14_hashCode_4_22 : decode cJ14_hashCode_4 22 = .ok (.iaload, 1) := dk_46 (dk_at dksJ14_hashCode_4_0 22 rfl rfl)
theorem dJ14_hashCode_4_23 : decode cJ14_hashCode_4 23 = .ok (.iadd, 1) := dk_96 (dk_at dksJ14_hashCode_4_0 23 rfl rfl)
theorem dJ14_hashCode_4_24 : decode cJ14_hashCode_4 24 = .ok (.istore_n 0, 1) := dk_59 (dk_at dksJ14_hashCode_4_1 0 rfl rfl)
theorem dJ14_hashCode_4_25 : decode cJ14_hashCode_4 25 = .ok (.iinc 5 1, 3) := dk_132 5 1 (dk_at dksJ14_hashCode_4_1 1 rfl rfl)
theorem dJ14_hashCode_4_28 : decode cJ14_hashCode_4 28 = .ok (.goto (-20), 3) := dk_167 255 236 (dk_at dksJ14_hashCode_4_1 4 rfl rfl)
theorem dJ14_hashCode_4_31 : decode cJ14_hashCode_4 31 = .ok (.iload_n 0, 1) := dk_26 (dk_at dksJ14_hashCode_4_1 7 rfl rfl)
theorem dJ14_hashCode_4_32 : decode cJ14_hashCode_4 32 = .ok (.ireturn, 1) := dk_172 (dk_at dksJ14_hashCode_4_1 8 rfl rfl)
def dkwJ15_copyOf_1 : List UInt8 := [27, 184, 1, 48, 184, 0, 150, 44, 176]
abbrev dktJ15_copyOf_1 : List UInt8 := dkwJ15_copyOf_1 ++ []
def dkwJ15_copyOf_0 : List UInt8 := [27, 42, 190, 160, 0, 11, 42, 182, 1, 54, 192, 1, 55, 176, 27, 188, 8, 77, 42, 3, 44, 3, 42, 190]
abbrev dktJ15_copyOf_0 : List UInt8 := dkwJ15_copyOf_0 ++ dktJ15_copyOf_1
theorem dksJ15_copyOf_0 : cJ15_copyOf.data.toList.drop 0 = dktJ15_copyOf_0 := by decide +kernel
theorem dksJ15_copyOf_1 : cJ15_copyOf.data.toList.drop 24 = dktJ15_copyOf_1 := dk_seg dksJ15_copyOf_0 24 rfl rfl
theorem dJ15_copyOf_0 : decode cJ15_copyOf 0 = .ok (.iload_n 1, 1) := dk_27 (dk_at dksJ15_copyOf_0 0 rfl rfl)
theorem dJ15_copyOf_1 : decode cJ15_copyOf 1 = .ok (.aload_n 0, 1) := dk_42 (dk_at dksJ15_copyOf_0 1 rfl rfl)
theorem dJ15_copyOf_2 : decode cJ15_copyOf 2 = .ok (.arraylength, 1) := dk_190 (dk_at dksJ15_copyOf_0 2 rfl rfl)
theorem dJ15_copyOf_3 : decode cJ15_copyOf 3 = .ok (.if_icmp .ne 11, 3) := dk_160 0 11 (dk_at dksJ15_copyOf_0 3 rfl rfl)
theorem dJ15_copyOf_6 : decode cJ15_copyOf 6 = .ok (.aload_n 0, 1) := dk_42 (dk_at dksJ15_copyOf_0 6 rfl rfl)
theorem dJ15_copyOf_7 : decode cJ15_copyOf 7 = .ok (.invokevirtual 310, 3) := dk_182 1 54 (dk_at dksJ15_copyOf_0 7 rfl rfl)
theorem dJ15_copyOf_10 : decode cJ15_copyOf 10 = .ok (.checkcast 311, 3) := dk_192 1 55 (dk_at dksJ15_copyOf_0 10 rfl rfl)
theorem dJ15_copyOf_13 : decode cJ15_copyOf 13 = .ok (.areturn, 1) := dk_176 (dk_at dksJ15_copyOf_0 13 rfl rfl)
theorem dJ15_copyOf_14 : decode cJ15_copyOf 14 = .ok (.iload_n 1, 1) := dk_27 (dk_at dksJ15_copyOf_0 14 rfl rfl)
theorem dJ15_copyOf_15 : decode cJ15_copyOf 15 = .ok (.newarray .byte, 2) := dk_188_8 (dk_at dksJ15_copyOf_0 15 rfl rfl)
theorem dJ15_copyOf_17 : decode cJ15_copyOf 17 = .ok (.astore_n 2, 1) := dk_77 (dk_at dksJ15_copyOf_0 17 rfl rfl)
theorem dJ15_copyOf_18 : decode cJ15_copyOf 18 = .ok (.aload_n 0, 1) := dk_42 (dk_at dksJ15_copyOf_0 18 rfl rfl)
theorem dJ15_copyOf_19 : decode cJ15_copyOf 19 = .ok (.iconst 0, 1) := dk_3 (dk_at dksJ15_copyOf_0 19 rfl rfl)
theorem dJ15_copyOf_20 : decode cJ15_copyOf 20 = .ok (.aload_n 2, 1) := dk_44 (dk_at dksJ15_copyOf_0 20 rfl rfl)
theorem dJ15_copyOf_21 : decode cJ15_copyOf 21 = .ok (.iconst 0, 1) := dk_3 (dk_at dksJ15_copyOf_0 21 rfl rfl)
theorem dJ15_copyOf_22 : decode cJ15_copyOf 22 = .ok (.aload_n 0, 1) := dk_42 (dk_at dksJ15_copyOf_0 22 rfl rfl)
theorem dJ15_copyOf_23 : decode cJ15_copyOf 23 = .ok (.arraylength, 1) := dk_190 (dk_at dksJ15_copyOf_0 23 rfl rfl)
theorem dJ15_copyOf_24 : decode cJ15_copyOf 24 = .ok (.iload_n 1, 1) := dk_27 (dk_at dksJ15_copyOf_1 0 rfl rfl)
theorem dJ15_copyOf_25 : decode cJ15_copyOf 25 = .ok (.invokestatic 304, 3) := dk_184 1 48 (dk_at dksJ15_copyOf_1 1 rfl rfl)
theorem dJ15_copyOf_28 : decode cJ15_copyOf 28 = .ok (.invokestatic 150, 3) := dk_184 0 150 (dk_at dksJ15_copyOf_1 4 rfl rfl)
theorem dJ15_copyOf_31 : decode cJ15_copyOf 31 = .ok (.aload_n 2, 1) := dk_44 (dk_at dksJ15_copyOf_1 7 rfl rfl)
theorem dJ15_copyOf_32 : decode cJ15_copyOf 32 = .ok (.areturn, 1) := dk_176 (dk_at dksJ15_copyOf_1 8 rfl rfl)
def dkwJ15_copyOfRange_1 : List UInt8 := [176]
abbrev dktJ15_copyOfRange_1 : List UInt8 := dkwJ15_copyOfRange_1 ++ []
def dkwJ15_copyOfRange_0 : List UInt8 := [27, 154, 0, 9, 28, 42, 190, 159, 0, 10, 42, 27, 28, 184, 1, 83, 176, 42, 182, 1, 54, 192, 1, 55]
abbrev dktJ15_copyOfRange_0 : List UInt8 := dkwJ15_copyOfRange_0 ++ dktJ15_copyOfRange_1
theorem dksJ15_copyOfRange_0 : cJ15_copyOfRange.data.toList.drop 0 = dktJ15_copyOfRange_0 := by decide +kernel
theorem dksJ15_copyOfRange_1 : cJ15_copyOfRange.data.toList.drop 24 = dktJ15_copyOfRange_1 := dk_seg dksJ15_copyOfRange_0 24 rfl rfl
theorem dJ15_copyOfRange_0 : decode cJ15_copyOfRange 0 = .ok (.iload_n 1, 1) := dk_27 (dk_at dksJ15_copyOfRange_0 0 rfl rfl)
theorem dJ15_copyOfRange_1 : decode cJ15_copyOfRange 1 = .ok (.ifCond .ne 9, 3) := dk_154 0 9 (dk_at dksJ15_copyOfRange_0 1 rfl rfl)
theorem dJ15_copyOfRange_4 : decode cJ15_copyOfRange 4 = .ok (.iload_n 2, 1) := dk_28 (dk_at dksJ15_copyOfRange_0 4 rfl rfl)
theorem dJ15_copyOfRange_5 : decode cJ15_copyOfRange 5 = .ok (.aload_n 0, 1) := dk_42 (dk_at dksJ15_copyOfRange_0 5 rfl rfl)
theorem dJ15_copyOfRange_6 : decode cJ15_copyOfRange 6 = .ok (.arraylength, 1) := dk_190 (dk_at dksJ15_copyOfRange_0 6 rfl rfl)
theorem dJ15_copyOfRange_7 : decode cJ15_copyOfRange 7 = .ok (.if_icmp .eq 10, 3) := dk_159 0 10 (dk_at dksJ15_copyOfRange_0 7 rfl rfl)
theorem dJ15_copyOfRange_10 : decode cJ15_copyOfRange 10 = .ok (.aload_n 0, 1) := dk_42 (dk_at dksJ15_copyOfRange_0 10 rfl rfl)
theorem dJ15_copyOfRange_11 : decode cJ15_copyOfRange 11 = .ok (.iload_n 1, 1) := dk_27 (dk_at dksJ15_copyOfRange_0 11 rfl rfl)
theorem dJ15_copyOfRange_12 : decode cJ15_copyOfRange 12 = .ok (.iload_n 2, 1) := dk_28 (dk_at dksJ15_copyOfRange_0 12 rfl rfl)
theorem dJ15_copyOfRange_13 : decode cJ15_copyOfRange 13 = .ok (.invokestatic 339, 3) := dk_184 1 83 (dk_at dksJ15_copyOfRange_0 13 rfl rfl)
theorem dJ15_copyOfRange_16 : decode cJ15_copyOfRange 16 = .ok (.areturn, 1) := dk_176 (dk_at dksJ15_copyOfRange_0 16 rfl rfl)
theorem dJ15_copyOfRange_17 : decode cJ15_copyOfRange 17 = .ok (.aload_n 0, 1) := dk_42 (dk_at dksJ15_copyOfRange_0 17 rfl rfl)
theorem dJ15_copyOfRange_18 : decode cJ15_copyOfRange 18 = .ok (.invokevirtual 310, 3) := dk_182 1 54 (dk_at dksJ15_copyOfRange_0 18 rfl rfl)
theorem dJ15_copyOfRange_21 : decode cJ15_copyOfRange 21 = .ok (.checkcast 311, 3) := dk_192 1 55 (dk_at dksJ15_copyOfRange_0 21 rfl rfl)
theorem dJ15_copyOfRange_24 : decode cJ15_copyOfRange 24 = .ok (.areturn, 1) := dk_176 (dk_at dksJ15_copyOfRange_1 0 rfl rfl)
def dkwJ15_copyOfRangeByte_1 : List UInt8 := [184, 1, 48, 184, 0, 150, 25, 4, 176]
abbrev dktJ15_copyOfRangeByte_1 : List UInt8 := dkwJ15_copyOfRangeByte_1 ++ []
def dkwJ15_copyOfRangeByte_0 : List UInt8 := [27, 28, 184, 1, 87, 28, 27, 100, 62, 29, 188, 8, 58, 4, 42, 27, 25, 4, 3, 42, 190, 27, 100, 29]
abbrev dktJ15_copyOfRangeByte_0 : List UInt8 := dkwJ15_copyOfRangeByte_0 ++ dktJ15_copyOfRangeByte_1
theorem dksJ15_copyOfRangeByte_0 : cJ15_copyOfRangeByte.data.toList.drop 0 = dktJ15_copyOfRangeByte_0 := by decide +kernel
theorem dksJ15_copyOfRangeByte_1 : cJ15_copyOfRangeByte.data.toList.drop 24 = dktJ15_copyOfRangeByte_1 := dk_seg dksJ15_copyOfRangeByte_0 24 rfl rfl
theorem dJ15_copyOfRangeByte_0 : decode cJ15_copyOfRangeByte 0 = .ok (.iload_n 1, 1) := dk_27 (dk_at dksJ15_copyOfRangeByte_0 0 rfl rfl)
theorem dJ15_copyOfRangeByte_1 : decode cJ15_copyOfRangeByte 1 = .ok (.iload_n 2, 1) := dk_28 (dk_at dksJ15_copyOfRangeByte_0 1 rfl rfl)
theorem dJ15_copyOfRangeByte_2 : decode cJ15_copyOfRangeByte 2 = .ok (.invokestatic 343, 3) := dk_184 1 87 (dk_at dksJ15_copyOfRangeByte_0 2 rfl rfl)
theorem dJ15_copyOfRangeByte_5 : decode cJ15_copyOfRangeByte 5 = .ok (.iload_n 2, 1) := dk_28 (dk_at dksJ15_copyOfRangeByte_0 5 rfl rfl)
theorem dJ15_copyOfRangeByte_6 : decode cJ15_copyOfRangeByte 6 = .ok (.iload_n 1, 1) := dk_27 (dk_at dksJ15_copyOfRangeByte_0 6 rfl rfl)
theorem dJ15_copyOfRangeByte_7 : decode cJ15_copyOfRangeByte 7 = .ok (.isub, 1) := dk_100 (dk_at dksJ15_copyOfRangeByte_0 7 rfl rfl)
theorem dJ15_copyOfRangeByte_8 : decode cJ15_copyOfRangeByte 8 = .ok (.istore_n 3, 1) := dk_62 (dk_at dksJ15_copyOfRangeByte_0 8 rfl rfl)
theorem dJ15_copyOfRangeByte_9 : decode cJ15_copyOfRangeByte 9 = .ok (.iload_n 3, 1) := dk_29 (dk_at dksJ15_copyOfRangeByte_0 9 rfl rfl)
theorem dJ15_copyOfRangeByte_10 : decode cJ15_copyOfRangeByte 10 = .ok (.newarray .byte, 2) := dk_188_8 (dk_at dksJ15_copyOfRangeByte_0 10 rfl rfl)
theorem dJ15_copyOfRangeByte_12 : decode cJ15_copyOfRangeByte 12 = .ok (.astore 4, 2) := dk_58 4 (dk_at dksJ15_copyOfRangeByte_0 12 rfl rfl)
theorem dJ15_copyOfRangeByte_14 : decode cJ15_copyOfRangeByte 14 = .ok (.aload_n 0, 1) := dk_42 (dk_at dksJ15_copyOfRangeByte_0 14 rfl rfl)
theorem dJ15_copyOfRangeByte_15 : decode cJ15_copyOfRangeByte 15 = .ok (.iload_n 1, 1) := dk_27 (dk_at dksJ15_copyOfRangeByte_0 15 rfl rfl)
theorem dJ15_copyOfRangeByte_16 : decode cJ15_copyOfRangeByte 16 = .ok (.aload 4, 2) := dk_25 4 (dk_at dksJ15_copyOfRangeByte_0 16 rfl rfl)
theorem dJ15_copyOfRangeByte_18 : decode cJ15_copyOfRangeByte 18 = .ok (.iconst 0, 1) := dk_3 (dk_at dksJ15_copyOfRangeByte_0 18 rfl rfl)
theorem dJ15_copyOfRangeByte_19 : decode cJ15_copyOfRangeByte 19 = .ok (.aload_n 0, 1) := dk_42 (dk_at dksJ15_copyOfRangeByte_0 19 rfl rfl)
theorem dJ15_copyOfRangeByte_20 : decode cJ15_copyOfRangeByte 20 = .ok (.arraylength, 1) := dk_190 (dk_at dksJ15_copyOfRangeByte_0 20 rfl rfl)
theorem dJ15_copyOfRangeByte_21 : decode cJ15_copyOfRangeByte 21 = .ok (.iload_n 1, 1) := dk_27 (dk_at dksJ15_copyOfRangeByte_0 21 rfl rfl)
theorem dJ15_copyOfRangeByte_22 : decode cJ15_copyOfRangeByte 22 = .ok (.isub, 1) := dk_100 (dk_at dksJ15_copyOfRangeByte_0 22 rfl rfl)
theorem dJ15_copyOfRangeByte_23 : decode cJ15_copyOfRangeByte 23 = .ok (.iload_n 3, 1) := dk_29 (dk_at dksJ15_copyOfRangeByte_0 23 rfl rfl)
theorem dJ15_copyOfRangeByte_24 : decode cJ15_copyOfRangeByte 24 = .ok (.invokestatic 304, 3) := dk_184 1 48 (dk_at dksJ15_copyOfRangeByte_1 0 rfl rfl)
theorem dJ15_copyOfRangeByte_27 : decode cJ15_copyOfRangeByte 27 = .ok (.invokestatic 150, 3) := dk_184 0 150 (dk_at dksJ15_copyOfRangeByte_1 3 rfl rfl)
theorem dJ15_copyOfRangeByte_30 : decode cJ15_copyOfRangeByte 30 = .ok (.aload 4, 2) := dk_25 4 (dk_at dksJ15_copyOfRangeByte_1 6 rfl rfl)
theorem dJ15_copyOfRangeByte_32 : decode cJ15_copyOfRangeByte 32 = .ok (.areturn, 1) := dk_176 (dk_at dksJ15_copyOfRangeByte_1 8 rfl rfl)
def dkwJ15_checkLength_1 : List UInt8 := [182, 0, 50, 27, 182, 0, 54, 182, 0, 61, 183, 0, 65, 191, 177]
abbrev dktJ15_checkLength_1 : List UInt8 := dkwJ15_checkLength_1 ++ []
def dkwJ15_checkLength_0 : List UInt8 := [27, 26, 162, 0, 35, 187, 0, 43, 89, 187, 0, 45, 89, 183, 0, 47, 26, 182, 0, 54, 19, 1, 81]
abbrev dktJ15_checkLength_0 : List UInt8 := dkwJ15_checkLength_0 ++ dktJ15_checkLength_1
theorem dksJ15_checkLength_0 : cJ15_checkLength.data.toList.drop 0 = dktJ15_checkLength_0 := by decide +kernel
theorem dksJ15_checkLength_1 : cJ15_checkLength.data.toList.drop 23 = dktJ15_checkLength_1 := dk_seg dksJ15_checkLength_0 23 rfl rfl
theorem dJ15_checkLength_0 : decode cJ15_checkLength 0 = .ok (.iload_n 1, 1) := dk_27 (dk_at dksJ15_checkLength_0 0 rfl rfl)
theorem dJ15_checkLength_1 : decode cJ15_checkLength 1 = .ok (.iload_n 0, 1) := dk_26 (dk_at dksJ15_checkLength_0 1 rfl rfl)
theorem dJ15_checkLength_2 : decode cJ15_checkLength 2 = .ok (.if_icmp .ge 35, 3) := dk_162 0 35 (dk_at dksJ15_checkLength_0 2 rfl rfl)
theorem dJ15_checkLength_5 : decode cJ15_checkLength 5 = .ok (.new 43, 3) := dk_187 0 43 (dk_at dksJ15_checkLength_0 5 rfl rfl)
theorem dJ15_checkLength_8 : decode cJ15_checkLength 8 = .ok (.dup, 1) := dk_89 (dk_at dksJ15_checkLength_0 8 rfl rfl)
theorem dJ15_checkLength_9 : decode cJ15_checkLength 9 = .ok (.new 45, 3) := dk_187 0 45 (dk_at dksJ15_checkLength_0 9 rfl rfl)
theorem dJ15_checkLength_12 : decode cJ15_checkLength 12 = .ok (.dup, 1) := dk_89 (dk_at dksJ15_checkLength_0 12 rfl rfl)
theorem dJ15_checkLength_13 : decode cJ15_checkLength 13 = .ok (.invokespecial 47, 3) := dk_183 0 47 (dk_at dksJ15_checkLength_0 13 rfl rfl)
theorem dJ15_checkLength_16 : decode cJ15_checkLength 16 = .ok (.iload_n 0, 1) := dk_26 (dk_at dksJ15_checkLength_0 16 rfl rfl)
theorem dJ15_checkLength_17 : decode cJ15_checkLength 17 = .ok (.invokevirtual 54, 3) := dk_182 0 54 (dk_at dksJ15_checkLength_0 17 rfl rfl)
theorem dJ15_checkLength_20 : decode cJ15_checkLength 20 = .ok (.ldc_w 337, 3) := dk_19 1 81 (dk_at dksJ15_checkLength_0 20 rfl rfl)
theorem dJ15_checkLength_23 : decode cJ15_checkLength 23 = .ok (.invokevirtual 50, 3) := dk_182 0 50 (dk_at dksJ15_checkLength_1 0 rfl rfl)
theorem dJ15_checkLength_26 : decode cJ15_checkLength 26 = .ok (.iload_n 1, 1) := dk_27 (dk_at dksJ15_checkLength_1 3 rfl rfl)
theorem dJ15_checkLength_27 : decode cJ15_checkLength 27 = .ok (.invokevirtual 54, 3) := dk_182 0 54 (dk_at dksJ15_checkLength_1 4 rfl rfl)
theorem dJ15_checkLength_30 : decode cJ15_checkLength 30 = .ok (.invokevirtual 61, 3) := dk_182 0 61 (dk_at dksJ15_checkLength_1 7 rfl rfl)
theorem dJ15_checkLength_33 : decode cJ15_checkLength 33 = .ok (.invokespecial 65, 3) := dk_183 0 65 (dk_at dksJ15_checkLength_1 10 rfl rfl)
theorem dJ15_checkLength_36 : decode cJ15_checkLength 36 = .ok (.athrow, 1) := dk_191 (dk_at dksJ15_checkLength_1 13 rfl rfl)
theorem dJ15_checkLength_37 : decode cJ15_checkLength 37 = .ok (.return_, 1) := dk_177 (dk_at dksJ15_checkLength_1 14 rfl rfl)
def dkwJ15_fill_0 : List UInt8 := [3, 61, 42, 190, 62, 28, 29, 162, 0, 13, 42, 28, 27, 79, 132, 2, 1, 167, 255, 244, 177]
abbrev dktJ15_fill_0 : List UInt8 := dkwJ15_fill_0 ++ []
theorem dksJ15_fill_0 : cJ15_fill.data.toList.drop 0 = dktJ15_fill_0 := by decide +kernel
theorem dJ15_fill_0 : decode cJ15_fill 0 = .ok (.iconst 0, 1) := dk_3 (dk_at dksJ15_fill_0 0 rfl rfl)
theorem dJ15_fill_1 : decode cJ15_fill 1 = .ok (.istore_n 2, 1) := dk_61 (dk_at dksJ15_fill_0 1 rfl rfl)
theorem dJ15_fill_2 : decode cJ15_fill 2 = .ok (.aload_n 0, 1) := dk_42 (dk_at dksJ15_fill_0 2 rfl rfl)
theorem dJ15_fill_3 : decode cJ15_fill 3 = .ok (.arraylength, 1) := dk_190 (dk_at dksJ15_fill_0 3 rfl rfl)
theorem dJ15_fill_4 : decode cJ15_fill 4 = .ok (.istore_n 3, 1) := dk_62 (dk_at dksJ15_fill_0 4 rfl rfl)
theorem dJ15_fill_5 : decode cJ15_fill 5 = .ok (.iload_n 2, 1) := dk_28 (dk_at dksJ15_fill_0 5 rfl rfl)
theorem dJ15_fill_6 : decode cJ15_fill 6 = .ok (.iload_n 3, 1) := dk_29 (dk_at dksJ15_fill_0 6 rfl rfl)
theorem dJ15_fill_7 : decode cJ15_fill 7 = .ok (.if_icmp .ge 13, 3) := dk_162 0 13 (dk_at dksJ15_fill_0 7 rfl rfl)
theorem dJ15_fill_10 : decode cJ15_fill 10 = .ok (.aload_n 0, 1) := dk_42 (dk_at dksJ15_fill_0 10 rfl rfl)
theorem dJ15_fill_11 : decode cJ15_fill 11 = .ok (.iload_n 2, 1) := dk_28 (dk_at dksJ15_fill_0 11 rfl rfl)
theorem dJ15_fill_12 : decode cJ15_fill 12 = .ok (.iload_n 1, 1) := dk_27 (dk_at dksJ15_fill_0 12 rfl rfl)
theorem dJ15_fill_13 : decode cJ15_fill 13 = .ok (.iastore, 1) := dk_79 (dk_at dksJ15_fill_0 13 rfl rfl)
theorem dJ15_fill_14 : decode cJ15_fill 14 = .ok (.iinc 2 1, 3) := dk_132 2 1 (dk_at dksJ15_fill_0 14 rfl rfl)
theorem dJ15_fill_17 : decode cJ15_fill 17 = .ok (.goto (-12), 3) := dk_167 255 244 (dk_at dksJ15_fill_0 17 rfl rfl)
theorem dJ15_fill_20 : decode cJ15_fill 20 = .ok (.return_, 1) := dk_177 (dk_at dksJ15_fill_0 20 rfl rfl)
def dkwJ16_canEncode_0 : List UInt8 := [26, 17, 0, 255, 163, 0, 7, 4, 167, 0, 4, 3, 172]
abbrev dktJ16_canEncode_0 : List UInt8 := dkwJ16_canEncode_0 ++ []
theorem dksJ16_canEncode_0 : cJ16_canEncode.data.toList.drop 0 = dktJ16_canEncode_0 := by decide +kernel
theorem dJ16_canEncode_0 : decode cJ16_canEncode 0 = .ok (.iload_n 0, 1) := dk_26 (dk_at dksJ16_canEncode_0 0 rfl rfl)
theorem dJ16_canEncode_1 : decode cJ16_canEncode 1 = .ok (.sipush 255, 3) := dk_17 0 255 (dk_at dksJ16_canEncode_0 1 rfl rfl)
theorem dJ16_canEncode_4 : decode cJ16_canEncode 4 = .ok (.if_icmp .gt 7, 3) := dk_163 0 7 (dk_at dksJ16_canEncode_0 4 rfl rfl)
theorem dJ16_canEncode_7 : decode cJ16_canEncode 7 = .ok (.iconst 1, 1) := dk_4 (dk_at dksJ16_canEncode_0 7 rfl rfl)
theorem dJ16_canEncode_8 : decode cJ16_canEncode 8 = .ok (.goto 4, 3) := dk_167 0 4 (dk_at dksJ16_canEncode_0 8 rfl rfl)
theorem dJ16_canEncode_11 : decode cJ16_canEncode 11 = .ok (.iconst 0, 1) := dk_3 (dk_at dksJ16_canEncode_0 11 rfl rfl)
theorem dJ16_canEncode_12 : decode cJ16_canEncode 12 = .ok (.ireturn, 1) := dk_172 (dk_at dksJ16_canEncode_0 12 rfl rfl)
def dkwJ16_inflate_0 : List UInt8 := [42, 27, 44, 29, 21, 4, 184, 0, 240, 177]
abbrev dktJ16_inflate_0 : List UInt8 := dkwJ16_inflate_0 ++ []
theorem dksJ16_inflate_0 : cJ16_inflate.data.toList.drop 0 = dktJ16_inflate_0 := by decide +kernel
theorem dJ16_inflate_0 : decode cJ16_inflate 0 = .ok (.aload_n 0, 1) := dk_42 (dk_at dksJ16_inflate_0 0 rfl rfl)
theorem dJ16_inflate_1 : decode cJ16_inflate 1 = .ok (.iload_n 1, 1) := dk_27 (dk_at dksJ16_inflate_0 1 rfl rfl)
theorem dJ16_inflate_2 : decode cJ16_inflate 2 = .ok (.aload_n 2, 1) := dk_44 (dk_at dksJ16_inflate_0 2 rfl rfl)
theorem dJ16_inflate_3 : decode cJ16_inflate 3 = .ok (.iload_n 3, 1) := dk_29 (dk_at dksJ16_inflate_0 3 rfl rfl)
theorem dJ16_inflate_4 : decode cJ16_inflate 4 = .ok (.iload 4, 2) := dk_21 4 (dk_at dksJ16_inflate_0 4 rfl rfl)
theorem dJ16_inflate_6 : decode cJ16_inflate 6 = .ok (.invokestatic 240, 3) := dk_184 0 240 (dk_at dksJ16_inflate_0 6 rfl rfl)
theorem dJ16_inflate_9 : decode cJ16_inflate 9 = .ok (.return_, 1) := dk_177 (dk_at dksJ16_inflate_0 9 rfl rfl)
def dkwJ16_hashCode_2 : List UInt8 := [3, 167, 0, 22, 42, 3, 51, 17, 0, 255, 126, 167, 0, 12, 42, 3, 42, 190, 3, 7, 184, 0, 84, 172]
abbrev dktJ16_hashCode_2 : List UInt8 := dkwJ16_hashCode_2 ++ []
def dkwJ16_hashCode_1 : List UInt8 := [171, 0, 0, 0, 0, 40, 0, 0, 0, 2, 0, 0, 0, 0, 0, 0, 0, 26, 0, 0, 0, 1, 0, 0, 0, 30]
abbrev dktJ16_hashCode_1 : List UInt8 := dkwJ16_hashCode_1 ++ dktJ16_hashCode_2
def dkwJ16_hashCode_0 : List UInt8 := [42, 190]
abbrev dktJ16_hashCode_0 : List UInt8 := dkwJ16_hashCode_0 ++ dktJ16_hashCode_1
theorem dksJ16_hashCode_0 : cJ16_hashCode.data.toList.drop 0 = dktJ16_hashCode_0 := by decide +kernel
theorem dksJ16_hashCode_1 : cJ16_hashCode.data.toList.drop 2 = dktJ16_hashCode_1 := dk_seg dksJ16_hashCode_0 2 rfl rfl
theorem dksJ16_hashCode_2 : cJ16_hashCode.data.toList.drop 28 = dktJ16_hashCode_2 := dk_seg dksJ16_hashCode_1 26 rfl rfl
theorem dJ16_hashCode_0 : decode cJ16_hashCode 0 = .ok (.aload_n 0, 1) := dk_42 (dk_at dksJ16_hashCode_0 0 rfl rfl)
theorem dJ16_hashCode_1 : decode cJ16_hashCode 1 = .ok (.arraylength, 1) := dk_190 (dk_at dksJ16_hashCode_0 1 rfl rfl)
theorem dJ16_hashCode_2 : decode cJ16_hashCode 2 = .ok (.lookupswitch 40 #[(0, 26), (1, 30)], 26) := by decide +kernel
theorem dJ16_hashCode_28 : decode cJ16_hashCode 28 = .ok (.iconst 0, 1) := dk_3 (dk_at dksJ16_hashCode_2 0 rfl rfl)
theorem dJ16_hashCode_29 : decode cJ16_hashCode 29 = .ok (.goto 22, 3) := dk_167 0 22 (dk_at dksJ16_hashCode_2 1 rfl rfl)
theorem dJ16_hashCode_32 : decode cJ16_hashCode 32 = .ok (.aload_n 0, 1) := dk_42 (dk_at dksJ16_hashCode_2 4 rfl rfl)
theorem dJ16_hashCode_33 : decode cJ16_hashCode 33 = .ok (.iconst 0, 1) := dk_3 (dk_at dksJ16_hashCode_2 5 rfl rfl)
theorem dJ16_hashCode_34 : decode cJ16_hashCode 34 = .ok (.baload, 1) := dk_51 (dk_at dksJ16_hashCode_2 6 rfl rfl)
theorem dJ16_hashCode_35 : decode cJ16_hashCode 35 = .ok (.sipush 255, 3) := dk_17 0 255 (dk_at dksJ16_hashCode_2 7 rfl rfl)
theorem dJ16_hashCode_38 : decode cJ16_hashCode 38 = .ok (.iand, 1) := dk_126 (dk_at dksJ16_hashCode_2 10 rfl rfl)
theorem dJ16_hashCode_39 : decode cJ16_hashCode 39 = .ok (.goto 12, 3) := dk_167 0 12 (dk_at dksJ16_hashCode_2 11 rfl rfl)
theorem dJ16_hashCode_42 : decode cJ16_hashCode 42 = .ok (.aload_n 0, 1) := dk_42 (dk_at dksJ16_hashCode_2 14 rfl rfl)
theorem dJ16_hashCode_43 : decode cJ16_hashCode 43 = .ok (.iconst 0, 1) := dk_3 (dk_at dksJ16_hashCode_2 15 rfl rfl)
theorem dJ16_hashCode_44 : decode cJ16_hashCode 44 = .ok (.aload_n 0, 1) := dk_42 (dk_at dksJ16_hashCode_2 16 rfl rfl)
theorem dJ16_hashCode_45 : decode cJ16_hashCode 45 = .ok (.arraylength, 1) := dk_190 (dk_at dksJ16_hashCode_2 17 rfl rfl)
theorem dJ16_hashCode_46 : decode cJ16_hashCode 46 = .ok (.iconst 0, 1) := dk_3 (dk_at dksJ16_hashCode_2 18 rfl rfl)
theorem dJ16_hashCode_47 : decode cJ16_hashCode 47 = .ok (.iconst 4, 1) := dk_7 (dk_at dksJ16_hashCode_2 19 rfl rfl)
theorem dJ16_hashCode_48 : decode cJ16_hashCode 48 = .ok (.invokestatic 84, 3) := dk_184 0 84 (dk_at dksJ16_hashCode_2 20 rfl rfl)
theorem dJ16_hashCode_51 : decode cJ16_hashCode 51 = .ok (.ireturn, 1) := dk_172 (dk_at dksJ16_hashCode_2 23 rfl rfl)
def dkwJ16_equals_1 : List UInt8 := [3, 172, 132, 2, 1, 167, 255, 236, 4, 172, 3, 172]
abbrev dktJ16_equals_1 : List UInt8 := dkwJ16_equals_1 ++ []
def dkwJ16_equals_0 : List UInt8 := [42, 190, 43, 190, 160, 0, 30, 3, 61, 28, 42, 190, 162, 0, 20, 42, 28, 51, 43, 28, 51, 159, 0, 5]
abbrev dktJ16_equals_0 : List UInt8 := dkwJ16_equals_0 ++ dktJ16_equals_1
theorem dksJ16_equals_0 : cJ16_equals.data.toList.drop 0 = dktJ16_equals_0 := by decide +kernel
theorem dksJ16_equals_1 : cJ16_equals.data.toList.drop 24 = dktJ16_equals_1 := dk_seg dksJ16_equals_0 24 rfl rfl
theorem dJ16_equals_0 : decode cJ16_equals 0 = .ok (.aload_n 0, 1) := dk_42 (dk_at dksJ16_equals_0 0 rfl rfl)
theorem dJ16_equals_1 : decode cJ16_equals 1 = .ok (.arraylength, 1) := dk_190 (dk_at dksJ16_equals_0 1 rfl rfl)
theorem dJ16_equals_2 : decode cJ16_equals 2 = .ok (.aload_n 1, 1) := dk_43 (dk_at dksJ16_equals_0 2 rfl rfl)
theorem dJ16_equals_3 : decode cJ16_equals 3 = .ok (.arraylength, 1) := dk_190 (dk_at dksJ16_equals_0 3 rfl rfl)
theorem dJ16_equals_4 : decode cJ16_equals 4 = .ok (.if_icmp .ne 30, 3) := dk_160 0 30 (dk_at dksJ16_equals_0 4 rfl rfl)
theorem dJ16_equals_7 : decode cJ16_equals 7 = .ok (.iconst 0, 1) := dk_3 (dk_at dksJ16_equals_0 7 rfl rfl)
theorem dJ16_equals_8 : decode cJ16_equals 8 = .ok (.istore_n 2, 1) := dk_61 (dk_at dksJ16_equals_0 8 rfl rfl)
theorem dJ16_equals_9 : decode cJ16_equals 9 = .ok (.iload_n 2, 1) := dk_28 (dk_at dksJ16_equals_0 9 rfl rfl)
theorem dJ16_equals_10 : decode cJ16_equals 10 = .ok (.aload_n 0, 1) := dk_42 (dk_at dksJ16_equals_0 10 rfl rfl)
theorem dJ16_equals_11 : decode cJ16_equals 11 = .ok (.arraylength, 1) := dk_190 (dk_at dksJ16_equals_0 11 rfl rfl)
theorem dJ16_equals_12 : decode cJ16_equals 12 = .ok (.if_icmp .ge 20, 3) := dk_162 0 20 (dk_at dksJ16_equals_0 12 rfl rfl)
theorem dJ16_equals_15 : decode cJ16_equals 15 = .ok (.aload_n 0, 1) := dk_42 (dk_at dksJ16_equals_0 15 rfl rfl)
theorem dJ16_equals_16 : decode cJ16_equals 16 = .ok (.iload_n 2, 1) := dk_28 (dk_at dksJ16_equals_0 16 rfl rfl)
theorem dJ16_equals_17 : decode cJ16_equals 17 = .ok (.baload, 1) := dk_51 (dk_at dksJ16_equals_0 17 rfl rfl)
theorem dJ16_equals_18 : decode cJ16_equals 18 = .ok (.aload_n 1, 1) := dk_43 (dk_at dksJ16_equals_0 18 rfl rfl)
theorem dJ16_equals_19 : decode cJ16_equals 19 = .ok (.iload_n 2, 1) := dk_28 (dk_at dksJ16_equals_0 19 rfl rfl)
theorem dJ16_equals_20 : decode cJ16_equals 20 = .ok (.baload, 1) := dk_51 (dk_at dksJ16_equals_0 20 rfl rfl)
theorem dJ16_equals_21 : decode cJ16_equals 21 = .ok (.if_icmp .eq 5, 3) := dk_159 0 5 (dk_at dksJ16_equals_0 21 rfl rfl)
theorem dJ16_equals_24 : decode cJ16_equals 24 = .ok (.iconst 0, 1) := dk_3 (dk_at dksJ16_equals_1 0 rfl rfl)
theorem dJ16_equals_25 : decode cJ16_equals 25 = .ok (.ireturn, 1) := dk_172 (dk_at dksJ16_equals_1 1 rfl rfl)
theorem dJ16_equals_26 : decode cJ16_equals 26 = .ok (.iinc 2 1, 3) := dk_132 2 1 (dk_at dksJ16_equals_1 2 rfl rfl)
theorem dJ16_equals_29 : decode cJ16_equals 29 = .ok (.goto (-20), 3) := dk_167 255 236 (dk_at dksJ16_equals_1 5 rfl rfl)
theorem dJ16_equals_32 : decode cJ16_equals 32 = .ok (.iconst 1, 1) := dk_4 (dk_at dksJ16_equals_1 8 rfl rfl)
theorem dJ16_equals_33 : decode cJ16_equals 33 = .ok (.ireturn, 1) := dk_172 (dk_at dksJ16_equals_1 9 rfl rfl)
theorem dJ16_equals_34 : decode cJ16_equals 34 = .ok (.iconst 0, 1) := dk_3 (dk_at dksJ16_equals_1 10 rfl rfl)
theorem dJ16_equals_35 : decode cJ16_equals 35 = .ok (.ireturn, 1) := dk_172 (dk_at dksJ16_equals_1 11 rfl rfl)
def dkwJ16_charAt_0 : List UInt8 := [27, 42, 190, 184, 0, 9, 42, 27, 51, 17, 0, 255, 126, 146, 172]
abbrev dktJ16_charAt_0 : List UInt8 := dkwJ16_charAt_0 ++ []
theorem dksJ16_charAt_0 : cJ16_charAt.data.toList.drop 0 = dktJ16_charAt_0 := by decide +kernel
theorem dJ16_charAt_0 : decode cJ16_charAt 0 = .ok (.iload_n 1, 1) := dk_27 (dk_at dksJ16_charAt_0 0 rfl rfl)
theorem dJ16_charAt_1 : decode cJ16_charAt 1 = .ok (.aload_n 0, 1) := dk_42 (dk_at dksJ16_charAt_0 1 rfl rfl)
theorem dJ16_charAt_2 : decode cJ16_charAt 2 = .ok (.arraylength, 1) := dk_190 (dk_at dksJ16_charAt_0 2 rfl rfl)
theorem dJ16_charAt_3 : decode cJ16_charAt 3 = .ok (.invokestatic 9, 3) := dk_184 0 9 (dk_at dksJ16_charAt_0 3 rfl rfl)
theorem dJ16_charAt_6 : decode cJ16_charAt 6 = .ok (.aload_n 0, 1) := dk_42 (dk_at dksJ16_charAt_0 6 rfl rfl)
theorem dJ16_charAt_7 : decode cJ16_charAt 7 = .ok (.iload_n 1, 1) := dk_27 (dk_at dksJ16_charAt_0 7 rfl rfl)
theorem dJ16_charAt_8 : decode cJ16_charAt 8 = .ok (.baload, 1) := dk_51 (dk_at dksJ16_charAt_0 8 rfl rfl)
theorem dJ16_charAt_9 : decode cJ16_charAt 9 = .ok (.sipush 255, 3) := dk_17 0 255 (dk_at dksJ16_charAt_0 9 rfl rfl)
theorem dJ16_charAt_12 : decode cJ16_charAt 12 = .ok (.iand, 1) := dk_126 (dk_at dksJ16_charAt_0 12 rfl rfl)
theorem dJ16_charAt_13 : decode cJ16_charAt 13 = .ok (.i2c, 1) := dk_146 (dk_at dksJ16_charAt_0 13 rfl rfl)
theorem dJ16_charAt_14 : decode cJ16_charAt 14 = .ok (.ireturn, 1) := dk_172 (dk_at dksJ16_charAt_0 14 rfl rfl)
def dkwJ17_checkFromIndexSize_1 : List UInt8 := [172]
abbrev dktJ17_checkFromIndexSize_1 : List UInt8 := dkwJ17_checkFromIndexSize_1 ++ []
def dkwJ17_checkFromIndexSize_0 : List UInt8 := [28, 26, 128, 27, 128, 155, 0, 10, 27, 28, 26, 100, 164, 0, 11, 45, 26, 27, 28, 184, 0, 103, 191, 26]
abbrev dktJ17_checkFromIndexSize_0 : List UInt8 := dkwJ17_checkFromIndexSize_0 ++ dktJ17_checkFromIndexSize_1
theorem dksJ17_checkFromIndexSize_0 : cJ17_checkFromIndexSize.data.toList.drop 0 = dktJ17_checkFromIndexSize_0 := by decide +kernel
theorem dksJ17_checkFromIndexSize_1 : cJ17_checkFromIndexSize.data.toList.drop 24 = dktJ17_checkFromIndexSize_1 := dk_seg dksJ17_checkFromIndexSize_0 24 rfl rfl
theorem dJ17_checkFromIndexSize_0 : decode cJ17_checkFromIndexSize 0 = .ok (.iload_n 2, 1) := dk_28 (dk_at dksJ17_checkFromIndexSize_0 0 rfl rfl)
theorem dJ17_checkFromIndexSize_1 : decode cJ17_checkFromIndexSize 1 = .ok (.iload_n 0, 1) := dk_26 (dk_at dksJ17_checkFromIndexSize_0 1 rfl rfl)
theorem dJ17_checkFromIndexSize_2 : decode cJ17_checkFromIndexSize 2 = .ok (.ior, 1) := dk_128 (dk_at dksJ17_checkFromIndexSize_0 2 rfl rfl)
theorem dJ17_checkFromIndexSize_3 : decode cJ17_checkFromIndexSize 3 = .ok (.iload_n 1, 1) := dk_27 (dk_at dksJ17_checkFromIndexSize_0 3 rfl rfl)
theorem dJ17_checkFromIndexSize_4 : decode cJ17_checkFromIndexSize 4 = .ok (.ior, 1) := dk_128 (dk_at dksJ17_checkFromIndexSize_0 4 rfl rfl)
theorem dJ17_checkFromIndexSize_5 : decode cJ17_checkFromIndexSize 5 = .ok (.ifCond .lt 10, 3) := dk_155 0 10 (dk_at dksJ17_checkFromIndexSize_0 5 rfl rfl)
theorem dJ17_checkFromIndexSize_8 : decode cJ17_checkFromIndexSize 8 = .ok (.iload_n 1, 1) := dk_27 (dk_at dksJ17_checkFromIndexSize_0 8 rfl rfl)
theorem dJ17_checkFromIndexSize_9 : decode cJ17_checkFromIndexSize 9 = .ok (.iload_n 2, 1) := dk_28 (dk_at dksJ17_checkFromIndexSize_0 9 rfl rfl)
theorem dJ17_checkFromIndexSize_10 : decode cJ17_checkFromIndexSize 10 = .ok (.iload_n 0, 1) := dk_26 (dk_at dksJ17_checkFromIndexSize_0 10 rfl rfl)
theorem dJ17_checkFromIndexSize_11 : decode cJ17_checkFromIndexSize 11 = .ok (.isub, 1) := dk_100 (dk_at dksJ17_checkFromIndexSize_0 11 rfl rfl)
theorem dJ17_checkFromIndexSize_12 : decode cJ17_checkFromIndexSize 12 = .ok (.if_icmp .le 11, 3) := dk_164 0 11 (dk_at dksJ17_checkFromIndexSize_0 12 rfl rfl)
theorem dJ17_checkFromIndexSize_15 : decode cJ17_checkFromIndexSize 15 = .ok (.aload_n 3, 1) := dk_45 (dk_at dksJ17_checkFromIndexSize_0 15 rfl rfl)
theorem dJ17_checkFromIndexSize_16 : decode cJ17_checkFromIndexSize 16 = .ok (.iload_n 0, 1) := dk_26 (dk_at dksJ17_checkFromIndexSize_0 16 rfl rfl)
theorem dJ17_checkFromIndexSize_17 : decode cJ17_checkFromIndexSize 17 = .ok (.iload_n 1, 1) := dk_27 (dk_at dksJ17_checkFromIndexSize_0 17 rfl rfl)
theorem dJ17_checkFromIndexSize_18 : decode cJ17_checkFromIndexSize 18 = .ok (.iload_n 2, 1) := dk_28 (dk_at dksJ17_checkFromIndexSize_0 18 rfl rfl)
theorem dJ17_checkFromIndexSize_19 : decode cJ17_checkFromIndexSize 19 = .ok (.invokestatic 103, 3) := dk_184 0 103 (dk_at dksJ17_checkFromIndexSize_0 19 rfl rfl)
theorem dJ17_checkFromIndexSize_22 : decode cJ17_checkFromIndexSize 22 = .ok (.athrow, 1) := dk_191 (dk_at dksJ17_checkFromIndexSize_0 22 rfl rfl)
theorem dJ17_checkFromIndexSize_23 : decode cJ17_checkFromIndexSize 23 = .ok (.iload_n 0, 1) := dk_26 (dk_at dksJ17_checkFromIndexSize_0 23 rfl rfl)
theorem dJ17_checkFromIndexSize_24 : decode cJ17_checkFromIndexSize 24 = .ok (.ireturn, 1) := dk_172 (dk_at dksJ17_checkFromIndexSize_1 0 rfl rfl)
def dkwJ17_checkIndex_0 : List UInt8 := [26, 155, 0, 8, 26, 27, 161, 0, 10, 44, 26, 27, 184, 0, 95, 191, 26, 172]
abbrev dktJ17_checkIndex_0 : List UInt8 := dkwJ17_checkIndex_0 ++ []
theorem dksJ17_checkIndex_0 : cJ17_checkIndex.data.toList.drop 0 = dktJ17_checkIndex_0 := by decide +kernel
theorem dJ17_checkIndex_0 : decode cJ17_checkIndex 0 = .ok (.iload_n 0, 1) := dk_26 (dk_at dksJ17_checkIndex_0 0 rfl rfl)
theorem dJ17_checkIndex_1 : decode cJ17_checkIndex 1 = .ok (.ifCond .lt 8, 3) := dk_155 0 8 (dk_at dksJ17_checkIndex_0 1 rfl rfl)
theorem dJ17_checkIndex_4 : decode cJ17_checkIndex 4 = .ok (.iload_n 0, 1) := dk_26 (dk_at dksJ17_checkIndex_0 4 rfl rfl)
theorem dJ17_checkIndex_5 : decode cJ17_checkIndex 5 = .ok (.iload_n 1, 1) := dk_27 (dk_at dksJ17_checkIndex_0 5 rfl rfl)
theorem dJ17_checkIndex_6 : decode cJ17_checkIndex 6 = .ok (.if_icmp .lt 10, 3) := dk_161 0 10 (dk_at dksJ17_checkIndex_0 6 rfl rfl)
theorem dJ17_checkIndex_9 : decode cJ17_checkIndex 9 = .ok (.aload_n 2, 1) := dk_44 (dk_at dksJ17_checkIndex_0 9 rfl rfl)
theorem dJ17_checkIndex_10 : decode cJ17_checkIndex 10 = .ok (.iload_n 0, 1) := dk_26 (dk_at dksJ17_checkIndex_0 10 rfl rfl)
theorem dJ17_checkIndex_11 : decode cJ17_checkIndex 11 = .ok (.iload_n 1, 1) := dk_27 (dk_at dksJ17_checkIndex_0 11 rfl rfl)
theorem dJ17_checkIndex_12 : decode cJ17_checkIndex 12 = .ok (.invokestatic 95, 3) := dk_184 0 95 (dk_at dksJ17_checkIndex_0 12 rfl rfl)
theorem dJ17_checkIndex_15 : decode cJ17_checkIndex 15 = .ok (.athrow, 1) := dk_191 (dk_at dksJ17_checkIndex_0 15 rfl rfl)
theorem dJ17_checkIndex_16 : decode cJ17_checkIndex 16 = .ok (.iload_n 0, 1) := dk_26 (dk_at dksJ17_checkIndex_0 16 rfl rfl)
theorem dJ17_checkIndex_17 : decode cJ17_checkIndex 17 = .ok (.ireturn, 1) := dk_172 (dk_at dksJ17_checkIndex_0 17 rfl rfl)
def dkwJ18_bitCount_2 : List UInt8 := [26, 16, 63, 126, 172]
abbrev dktJ18_bitCount_2 : List UInt8 := dkwJ18_bitCount_2 ++ []
def dkwJ18_bitCount_1 : List UInt8 := [26, 26, 7, 124, 96, 19, 1, 11, 126, 59, 26, 26, 16, 8, 124, 96, 59, 26, 26, 16, 16, 124, 96, 59]
abbrev dktJ18_bitCount_1 : List UInt8 := dkwJ18_bitCount_1 ++ dktJ18_bitCount_2
def dkwJ18_bitCount_0 : List UInt8 := [26, 26, 4, 124, 19, 1, 9, 126, 100, 59, 26, 19, 1, 10, 126, 26, 5, 124, 19, 1, 10, 126, 96, 59]
abbrev dktJ18_bitCount_0 : List UInt8 := dkwJ18_bitCount_0 ++ dktJ18_bitCount_1
theorem dksJ18_bitCount_0 : cJ18_bitCount.data.toList.drop 0 = dktJ18_bitCount_0 := by decide +kernel
theorem dksJ18_bitCount_1 : cJ18_bitCount.data.toList.drop 24 = dktJ18_bitCount_1 := dk_seg dksJ18_bitCount_0 24 rfl rfl
theorem dksJ18_bitCount_2 : cJ18_bitCount.data.toList.drop 48 = dktJ18_bitCount_2 := dk_seg dksJ18_bitCount_1 24 rfl rfl
theorem dJ18_bitCount_0 : decode cJ18_bitCount 0 = .ok (.iload_n 0, 1) := dk_26 (dk_at dksJ18_bitCount_0 0 rfl rfl)
theorem dJ18_bitCount_1 : decode cJ18_bitCount 1 = .ok (.iload_n 0, 1) := dk_26 (dk_at dksJ18_bitCount_0 1 rfl rfl)
theorem dJ18_bitCount_2 : decode cJ18_bitCount 2 = .ok (.iconst 1, 1) := dk_4 (dk_at dksJ18_bitCount_0 2 rfl rfl)
theorem dJ18_bitCount_3 : decode cJ18_bitCount 3 = .ok (.iushr, 1) := dk_124 (dk_at dksJ18_bitCount_0 3 rfl rfl)
theorem dJ18_bitCount_4 : decode cJ18_bitCount 4 = .ok (.ldc_w 265, 3) := dk_19 1 9 (dk_at dksJ18_bitCount_0 4 rfl rfl)
theorem dJ18_bitCount_7 : decode cJ18_bitCount 7 = .ok (.iand, 1) := dk_126 (dk_at dksJ18_bitCount_0 7 rfl rfl)
theorem dJ18_bitCount_8 : decode cJ18_bitCount 8 = .ok (.isub, 1) := dk_100 (dk_at dksJ18_bitCount_0 8 rfl rfl)
theorem dJ18_bitCount_9 : decode cJ18_bitCount 9 = .ok (.istore_n 0, 1) := dk_59 (dk_at dksJ18_bitCount_0 9 rfl rfl)
theorem dJ18_bitCount_10 : decode cJ18_bitCount 10 = .ok (.iload_n 0, 1) := dk_26 (dk_at dksJ18_bitCount_0 10 rfl rfl)
theorem dJ18_bitCount_11 : decode cJ18_bitCount 11 = .ok (.ldc_w 266, 3) := dk_19 1 10 (dk_at dksJ18_bitCount_0 11 rfl rfl)
theorem dJ18_bitCount_14 : decode cJ18_bitCount 14 = .ok (.iand, 1) := dk_126 (dk_at dksJ18_bitCount_0 14 rfl rfl)
theorem dJ18_bitCount_15 : decode cJ18_bitCount 15 = .ok (.iload_n 0, 1) := dk_26 (dk_at dksJ18_bitCount_0 15 rfl rfl)
theorem dJ18_bitCount_16 : decode cJ18_bitCount 16 = .ok (.iconst 2, 1) := dk_5 (dk_at dksJ18_bitCount_0 16 rfl rfl)
theorem dJ18_bitCount_17 : decode cJ18_bitCount 17 = .ok (.iushr, 1) := dk_124 (dk_at dksJ18_bitCount_0 17 rfl rfl)
theorem dJ18_bitCount_18 : decode cJ18_bitCount 18 = .ok (.ldc_w 266, 3) := dk_19 1 10 (dk_at dksJ18_bitCount_0 18 rfl rfl)
theorem dJ18_bitCount_21 : decode cJ18_bitCount 21 = .ok (.iand, 1) := dk_126 (dk_at dksJ18_bitCount_0 21 rfl rfl)
theorem dJ18_bitCount_22 : decode cJ18_bitCount 22 = .ok (.iadd, 1) := dk_96 (dk_at dksJ18_bitCount_0 22 rfl rfl)
theorem dJ18_bitCount_23 : decode cJ18_bitCount 23 = .ok (.istore_n 0, 1) := dk_59 (dk_at dksJ18_bitCount_0 23 rfl rfl)
theorem dJ18_bitCount_24 : decode cJ18_bitCount 24 = .ok (.iload_n 0, 1) := dk_26 (dk_at dksJ18_bitCount_1 0 rfl rfl)
theorem dJ18_bitCount_25 : decode cJ18_bitCount 25 = .ok (.iload_n 0, 1) := dk_26 (dk_at dksJ18_bitCount_1 1 rfl rfl)
theorem dJ18_bitCount_26 : decode cJ18_bitCount 26 = .ok (.iconst 4, 1) := dk_7 (dk_at dksJ18_bitCount_1 2 rfl rfl)
theorem dJ18_bitCount_27 : decode cJ18_bitCount 27 = .ok (.iushr, 1) := dk_124 (dk_at dksJ18_bitCount_1 3 rfl rfl)
theorem dJ18_bitCount_28 : decode cJ18_bitCount 28 = .ok (.iadd, 1) := dk_96 (dk_at dksJ18_bitCount_1 4 rfl rfl)
theorem dJ18_bitCount_29 : decode cJ18_bitCount 29 = .ok (.ldc_w 267, 3) := dk_19 1 11 (dk_at dksJ18_bitCount_1 5 rfl rfl)
theorem dJ18_bitCount_32 : decode cJ18_bitCount 32 = .ok (.iand, 1) := dk_126 (dk_at dksJ18_bitCount_1 8 rfl rfl)
theorem dJ18_bitCount_33 : decode cJ18_bitCount 33 = .ok (.istore_n 0, 1) := dk_59 (dk_at dksJ18_bitCount_1 9 rfl rfl)
theorem dJ18_bitCount_34 : decode cJ18_bitCount 34 = .ok (.iload_n 0, 1) := dk_26 (dk_at dksJ18_bitCount_1 10 rfl rfl)
theorem dJ18_bitCount_35 : decode cJ18_bitCount 35 = .ok (.iload_n 0, 1) := dk_26 (dk_at dksJ18_bitCount_1 11 rfl rfl)
theorem dJ18_bitCount_36 : decode cJ18_bitCount 36 = .ok (.bipush 8, 2) := dk_16 8 (dk_at dksJ18_bitCount_1 12 rfl rfl)
theorem dJ18_bitCount_38 : decode cJ18_bitCount 38 = .ok (.iushr, 1) := dk_124 (dk_at dksJ18_bitCount_1 14 rfl rfl)
theorem dJ18_bitCount_39 : decode cJ18_bitCount 39 = .ok (.iadd, 1) := dk_96 (dk_at dksJ18_bitCount_1 15 rfl rfl)
theorem dJ18_bitCount_40 : decode cJ18_bitCount 40 = .ok (.istore_n 0, 1) := dk_59 (dk_at dksJ18_bitCount_1 16 rfl rfl)
theorem dJ18_bitCount_41 : decode cJ18_bitCount 41 = .ok (.iload_n 0, 1) := dk_26 (dk_at dksJ18_bitCount_1 17 rfl rfl)
theorem dJ18_bitCount_42 : decode cJ18_bitCount 42 = .ok (.iload_n 0, 1) := dk_26 (dk_at dksJ18_bitCount_1 18 rfl rfl)
theorem dJ18_bitCount_43 : decode cJ18_bitCount 43 = .ok (.bipush 16, 2) := dk_16 16 (dk_at dksJ18_bitCount_1 19 rfl rfl)
theorem dJ18_bitCount_45 : decode cJ18_bitCount 45 = .ok (.iushr, 1) := dk_124 (dk_at dksJ18_bitCount_1 21 rfl rfl)
theorem dJ18_bitCount_46 : decode cJ18_bitCount 46 = .ok (.iadd, 1) := dk_96 (dk_at dksJ18_bitCount_1 22 rfl rfl)
theorem dJ18_bitCount_47 : decode cJ18_bitCount 47 = .ok (.istore_n 0, 1) := dk_59 (dk_at dksJ18_bitCount_1 23 rfl rfl)
theorem dJ18_bitCount_48 : decode cJ18_bitCount 48 = .ok (.iload_n 0, 1) := dk_26 (dk_at dksJ18_bitCount_2 0 rfl rfl)
theorem dJ18_bitCount_49 : decode cJ18_bitCount 49 = .ok (.bipush 63, 2) := dk_16 63 (dk_at dksJ18_bitCount_2 1 rfl rfl)
theorem dJ18_bitCount_51 : decode cJ18_bitCount 51 = .ok (.iand, 1) := dk_126 (dk_at dksJ18_bitCount_2 3 rfl rfl)
theorem dJ18_bitCount_52 : decode cJ18_bitCount 52 = .ok (.ireturn, 1) := dk_172 (dk_at dksJ18_bitCount_2 4 rfl rfl)
theorem dJ19_init_0 : decode cJ19_init 0 = .ok (.return_, 1) := by decide +kernel
def dkwJ20_getUTF16Char_0 : List UInt8 := [43, 28, 184, 0, 185, 172]
abbrev dktJ20_getUTF16Char_0 : List UInt8 := dkwJ20_getUTF16Char_0 ++ []
theorem dksJ20_getUTF16Char_0 : cJ20_getUTF16Char.data.toList.drop 0 = dktJ20_getUTF16Char_0 := by decide +kernel
theorem dJ20_getUTF16Char_0 : decode cJ20_getUTF16Char 0 = .ok (.aload_n 1, 1) := dk_43 (dk_at dksJ20_getUTF16Char_0 0 rfl rfl)
theorem dJ20_getUTF16Char_1 : decode cJ20_getUTF16Char 1 = .ok (.iload_n 2, 1) := dk_28 (dk_at dksJ20_getUTF16Char_0 1 rfl rfl)
theorem dJ20_getUTF16Char_2 : decode cJ20_getUTF16Char 2 = .ok (.invokestatic 185, 3) := dk_184 0 185 (dk_at dksJ20_getUTF16Char_0 2 rfl rfl)
theorem dJ20_getUTF16Char_5 : decode cJ20_getUTF16Char 5 = .ok (.ireturn, 1) := dk_172 (dk_at dksJ20_getUTF16Char_0 5 rfl rfl)
