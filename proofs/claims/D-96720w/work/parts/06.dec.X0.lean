set_option maxRecDepth 100000
def dkwX0_init_3 : List UInt8 := [180, 0, 59, 27, 187, 0, 57, 89, 183, 0, 70, 83, 132, 1, 1, 167, 255, 234, 177]
abbrev dktX0_init_3 : List UInt8 := dkwX0_init_3 ++ []
def dkwX0_init_2 : List UInt8 := [188, 10, 181, 0, 63, 42, 16, 7, 188, 10, 181, 0, 67, 3, 60, 27, 16, 8, 162, 0, 22, 42]
abbrev dktX0_init_2 : List UInt8 := dkwX0_init_2 ++ dktX0_init_3
def dkwX0_init_1 : List UInt8 := [181, 0, 49, 42, 16, 70, 188, 11, 181, 0, 53, 42, 16, 8, 189, 0, 57, 181, 0, 59, 42, 17, 0, 250]
abbrev dktX0_init_1 : List UInt8 := dkwX0_init_1 ++ dktX0_init_2
def dkwX0_init_0 : List UInt8 := [42, 183, 0, 34, 42, 187, 0, 39, 89, 183, 0, 41, 181, 0, 42, 42, 187, 0, 46, 89, 183, 0, 48]
abbrev dktX0_init_0 : List UInt8 := dkwX0_init_0 ++ dktX0_init_1
theorem dksX0_init_0 : cX0_init.data.toList.drop 0 = dktX0_init_0 := by decide +kernel
theorem dksX0_init_1 : cX0_init.data.toList.drop 23 = dktX0_init_1 := dk_seg dksX0_init_0 23 rfl rfl
theorem dksX0_init_2 : cX0_init.data.toList.drop 47 = dktX0_init_2 := dk_seg dksX0_init_1 24 rfl rfl
theorem dksX0_init_3 : cX0_init.data.toList.drop 69 = dktX0_init_3 := dk_seg dksX0_init_2 22 rfl rfl
theorem dX0_init_0 : decode cX0_init 0 = .ok (.aload_n 0, 1) := dk_42 (dk_at dksX0_init_0 0 rfl rfl)
theorem dX0_init_1 : decode cX0_init 1 = .ok (.invokespecial 34, 3) := dk_183 0 34 (dk_at dksX0_init_0 1 rfl rfl)
theorem dX0_init_4 : decode cX0_init 4 = .ok (.aload_n 0, 1) := dk_42 (dk_at dksX0_init_0 4 rfl rfl)
theorem dX0_init_5 : decode cX0_init 5 = .ok (.new 39, 3) := dk_187 0 39 (dk_at dksX0_init_0 5 rfl rfl)
theorem dX0_init_8 : decode cX0_init 8 = .ok (.dup, 1) := dk_89 (dk_at dksX0_init_0 8 rfl rfl)
theorem dX0_init_9 : decode cX0_init 9 = .ok (.invokespecial 41, 3) := dk_183 0 41 (dk_at dksX0_init_0 9 rfl rfl)
theorem dX0_init_12 : decode cX0_init 12 = .ok (.putfield 42, 3) := dk_181 0 42 (dk_at dksX0_init_0 12 rfl rfl)
theorem dX0_init_15 : decode cX0_init 15 = .ok (.aload_n 0, 1) := dk_42 (dk_at dksX0_init_0 15 rfl rfl)
theorem dX0_init_16 : decode cX0_init 16 = .ok (.new 46, 3) := dk_187 0 46 (dk_at dksX0_init_0 16 rfl rfl)
theorem dX0_init_19 : decode cX0_init 19 = .ok (.dup, 1) := dk_89 (dk_at dksX0_init_0 19 rfl rfl)
theorem dX0_init_20 : decode cX0_init 20 = .ok (.invokespecial 48, 3) := dk_183 0 48 (dk_at dksX0_init_0 20 rfl rfl)
theorem dX0_init_23 : decode cX0_init 23 = .ok (.putfield 49, 3) := dk_181 0 49 (dk_at dksX0_init_1 0 rfl rfl)
theorem dX0_init_26 : decode cX0_init 26 = .ok (.aload_n 0, 1) := dk_42 (dk_at dksX0_init_1 3 rfl rfl)
theorem dX0_init_27 : decode cX0_init 27 = .ok (.bipush 70, 2) := dk_16 70 (dk_at dksX0_init_1 4 rfl rfl)
theorem dX0_init_29 : decode cX0_init 29 = .ok (.newarray .long, 2) := dk_188_11 (dk_at dksX0_init_1 6 rfl rfl)
theorem dX0_init_31 : decode cX0_init 31 = .ok (.putfield 53, 3) := dk_181 0 53 (dk_at dksX0_init_1 8 rfl rfl)
theorem dX0_init_34 : decode cX0_init 34 = .ok (.aload_n 0, 1) := dk_42 (dk_at dksX0_init_1 11 rfl rfl)
theorem dX0_init_35 : decode cX0_init 35 = .ok (.bipush 8, 2) := dk_16 8 (dk_at dksX0_init_1 12 rfl rfl)
theorem dX0_init_37 : decode cX0_init 37 = .ok (.anewarray 57, 3) := dk_189 0 57 (dk_at dksX0_init_1 14 rfl rfl)
theorem dX0_init_40 : decode cX0_init 40 = .ok (.putfield 59, 3) := dk_181 0 59 (dk_at dksX0_init_1 17 rfl rfl)
theorem dX0_init_43 : decode cX0_init 43 = .ok (.aload_n 0, 1) := dk_42 (dk_at dksX0_init_1 20 rfl rfl)
theorem dX0_init_44 : decode cX0_init 44 = .ok (.sipush 250, 3) := dk_17 0 250 (dk_at dksX0_init_1 21 rfl rfl)
theorem dX0_init_47 : decode cX0_init 47 = .ok (.newarray .int, 2) := dk_188_10 (dk_at dksX0_init_2 0 rfl rfl)
theorem dX0_init_49 : decode cX0_init 49 = .ok (.putfield 63, 3) := dk_181 0 63 (dk_at dksX0_init_2 2 rfl rfl)
theorem dX0_init_52 : decode cX0_init 52 = .ok (.aload_n 0, 1) := dk_42 (dk_at dksX0_init_2 5 rfl rfl)
theorem dX0_init_53 : decode cX0_init 53 = .ok (.bipush 7, 2) := dk_16 7 (dk_at dksX0_init_2 6 rfl rfl)
theorem dX0_init_55 : decode cX0_init 55 = .ok (.newarray .int, 2) := dk_188_10 (dk_at dksX0_init_2 8 rfl rfl)
theorem dX0_init_57 : decode cX0_init 57 = .ok (.putfield 67, 3) := dk_181 0 67 (dk_at dksX0_init_2 10 rfl rfl)
theorem dX0_init_60 : decode cX0_init 60 = .ok (.iconst 0, 1) := dk_3 (dk_at dksX0_init_2 13 rfl rfl)
theorem dX0_init_61 : decode cX0_init 61 = .ok (.istore_n 1, 1) := dk_60 (dk_at dksX0_init_2 14 rfl rfl)
theorem dX0_init_62 : decode cX0_init 62 = .ok (.iload_n 1, 1) := dk_27 (dk_at dksX0_init_2 15 rfl rfl)
theorem dX0_init_63 : decode cX0_init 63 = .ok (.bipush 8, 2) := dk_16 8 (dk_at dksX0_init_2 16 rfl rfl)
theorem dX0_init_65 : decode cX0_init 65 = .ok (.if_icmp .ge 22, 3) := dk_162 0 22 (dk_at dksX0_init_2 18 rfl rfl)
theorem dX0_init_68 : decode cX0_init 68 = .ok (.aload_n 0, 1) := dk_42 (dk_at dksX0_init_2 21 rfl rfl)
theorem dX0_init_69 : decode cX0_init 69 = .ok (.getfield 59, 3) := dk_180 0 59 (dk_at dksX0_init_3 0 rfl rfl)
theorem dX0_init_72 : decode cX0_init 72 = .ok (.iload_n 1, 1) := dk_27 (dk_at dksX0_init_3 3 rfl rfl)
theorem dX0_init_73 : decode cX0_init 73 = .ok (.new 57, 3) := dk_187 0 57 (dk_at dksX0_init_3 4 rfl rfl)
theorem dX0_init_76 : decode cX0_init 76 = .ok (.dup, 1) := dk_89 (dk_at dksX0_init_3 7 rfl rfl)
theorem dX0_init_77 : decode cX0_init 77 = .ok (.invokespecial 70, 3) := dk_183 0 70 (dk_at dksX0_init_3 8 rfl rfl)
theorem dX0_init_80 : decode cX0_init 80 = .ok (.aastore, 1) := dk_83 (dk_at dksX0_init_3 11 rfl rfl)
theorem dX0_init_81 : decode cX0_init 81 = .ok (.iinc 1 1, 3) := dk_132 1 1 (dk_at dksX0_init_3 12 rfl rfl)
theorem dX0_init_84 : decode cX0_init 84 = .ok (.goto (-22), 3) := dk_167 255 234 (dk_at dksX0_init_3 15 rfl rfl)
theorem dX0_init_87 : decode cX0_init 87 = .ok (.return_, 1) := dk_177 (dk_at dksX0_init_3 18 rfl rfl)
def dkwX0_row_2 : List UInt8 := [58, 4, 42, 16, 254, 182, 0, 91, 172, 4, 172]
abbrev dktX0_row_2 : List UInt8 := dkwX0_row_2 ++ []
def dkwX0_row_1 : List UInt8 := [16, 254, 182, 0, 91, 172, 42, 180, 0, 59, 27, 50, 28, 29, 184, 0, 94, 181, 0, 98, 167, 0, 12]
abbrev dktX0_row_1 : List UInt8 := dkwX0_row_1 ++ dktX0_row_2
def dkwX0_row_0 : List UInt8 := [27, 184, 0, 87, 153, 0, 18, 28, 155, 0, 14, 28, 7, 163, 0, 9, 29, 16, 40, 164, 0, 10, 42]
abbrev dktX0_row_0 : List UInt8 := dkwX0_row_0 ++ dktX0_row_1
theorem dksX0_row_0 : cX0_row.data.toList.drop 0 = dktX0_row_0 := by decide +kernel
theorem dksX0_row_1 : cX0_row.data.toList.drop 23 = dktX0_row_1 := dk_seg dksX0_row_0 23 rfl rfl
theorem dksX0_row_2 : cX0_row.data.toList.drop 46 = dktX0_row_2 := dk_seg dksX0_row_1 23 rfl rfl
theorem dX0_row_0 : decode cX0_row 0 = .ok (.iload_n 1, 1) := dk_27 (dk_at dksX0_row_0 0 rfl rfl)
theorem dX0_row_1 : decode cX0_row 1 = .ok (.invokestatic 87, 3) := dk_184 0 87 (dk_at dksX0_row_0 1 rfl rfl)
theorem dX0_row_4 : decode cX0_row 4 = .ok (.ifCond .eq 18, 3) := dk_153 0 18 (dk_at dksX0_row_0 4 rfl rfl)
theorem dX0_row_7 : decode cX0_row 7 = .ok (.iload_n 2, 1) := dk_28 (dk_at dksX0_row_0 7 rfl rfl)
theorem dX0_row_8 : decode cX0_row 8 = .ok (.ifCond .lt 14, 3) := dk_155 0 14 (dk_at dksX0_row_0 8 rfl rfl)
theorem dX0_row_11 : decode cX0_row 11 = .ok (.iload_n 2, 1) := dk_28 (dk_at dksX0_row_0 11 rfl rfl)
theorem dX0_row_12 : decode cX0_row 12 = .ok (.iconst 4, 1) := dk_7 (dk_at dksX0_row_0 12 rfl rfl)
theorem dX0_row_13 : decode cX0_row 13 = .ok (.if_icmp .gt 9, 3) := dk_163 0 9 (dk_at dksX0_row_0 13 rfl rfl)
theorem dX0_row_16 : decode cX0_row 16 = .ok (.iload_n 3, 1) := dk_29 (dk_at dksX0_row_0 16 rfl rfl)
theorem dX0_row_17 : decode cX0_row 17 = .ok (.bipush 40, 2) := dk_16 40 (dk_at dksX0_row_0 17 rfl rfl)
theorem dX0_row_19 : decode cX0_row 19 = .ok (.if_icmp .le 10, 3) := dk_164 0 10 (dk_at dksX0_row_0 19 rfl rfl)
theorem dX0_row_22 : decode cX0_row 22 = .ok (.aload_n 0, 1) := dk_42 (dk_at dksX0_row_0 22 rfl rfl)
theorem dX0_row_23 : decode cX0_row 23 = .ok (.bipush (-2), 2) := dk_16 254 (dk_at dksX0_row_1 0 rfl rfl)
theorem dX0_row_25 : decode cX0_row 25 = .ok (.invokevirtual 91, 3) := dk_182 0 91 (dk_at dksX0_row_1 2 rfl rfl)
theorem dX0_row_28 : decode cX0_row 28 = .ok (.ireturn, 1) := dk_172 (dk_at dksX0_row_1 5 rfl rfl)
theorem dX0_row_29 : decode cX0_row 29 = .ok (.aload_n 0, 1) := dk_42 (dk_at dksX0_row_1 6 rfl rfl)
theorem dX0_row_30 : decode cX0_row 30 = .ok (.getfield 59, 3) := dk_180 0 59 (dk_at dksX0_row_1 7 rfl rfl)
theorem dX0_row_33 : decode cX0_row 33 = .ok (.iload_n 1, 1) := dk_27 (dk_at dksX0_row_1 10 rfl rfl)
theorem dX0_row_34 : decode cX0_row 34 = .ok (.aaload, 1) := dk_50 (dk_at dksX0_row_1 11 rfl rfl)
theorem dX0_row_35 : decode cX0_row 35 = .ok (.iload_n 2, 1) := dk_28 (dk_at dksX0_row_1 12 rfl rfl)
theorem dX0_row_36 : decode cX0_row 36 = .ok (.iload_n 3, 1) := dk_29 (dk_at dksX0_row_1 13 rfl rfl)
theorem dX0_row_37 : decode cX0_row 37 = .ok (.invokestatic 94, 3) := dk_184 0 94 (dk_at dksX0_row_1 14 rfl rfl)
theorem dX0_row_40 : decode cX0_row 40 = .ok (.putfield 98, 3) := dk_181 0 98 (dk_at dksX0_row_1 17 rfl rfl)
theorem dX0_row_43 : decode cX0_row 43 = .ok (.goto 12, 3) := dk_167 0 12 (dk_at dksX0_row_1 20 rfl rfl)
theorem dX0_row_46 : decode cX0_row 46 = .ok (.astore 4, 2) := dk_58 4 (dk_at dksX0_row_2 0 rfl rfl)
theorem dX0_row_48 : decode cX0_row 48 = .ok (.aload_n 0, 1) := dk_42 (dk_at dksX0_row_2 2 rfl rfl)
theorem dX0_row_49 : decode cX0_row 49 = .ok (.bipush (-2), 2) := dk_16 254 (dk_at dksX0_row_2 3 rfl rfl)
theorem dX0_row_51 : decode cX0_row 51 = .ok (.invokevirtual 91, 3) := dk_182 0 91 (dk_at dksX0_row_2 5 rfl rfl)
theorem dX0_row_54 : decode cX0_row 54 = .ok (.ireturn, 1) := dk_172 (dk_at dksX0_row_2 8 rfl rfl)
theorem dX0_row_55 : decode cX0_row 55 = .ok (.iconst 1, 1) := dk_4 (dk_at dksX0_row_2 9 rfl rfl)
theorem dX0_row_56 : decode cX0_row 56 = .ok (.ireturn, 1) := dk_172 (dk_at dksX0_row_2 10 rfl rfl)
def dkwX0_isShelf_0 : List UInt8 := [26, 3, 16, 7, 184, 0, 71, 172]
abbrev dktX0_isShelf_0 : List UInt8 := dkwX0_isShelf_0 ++ []
theorem dksX0_isShelf_0 : cX0_isShelf.data.toList.drop 0 = dktX0_isShelf_0 := by decide +kernel
theorem dX0_isShelf_0 : decode cX0_isShelf 0 = .ok (.iload_n 0, 1) := dk_26 (dk_at dksX0_isShelf_0 0 rfl rfl)
theorem dX0_isShelf_1 : decode cX0_isShelf 1 = .ok (.iconst 0, 1) := dk_3 (dk_at dksX0_isShelf_0 1 rfl rfl)
theorem dX0_isShelf_2 : decode cX0_isShelf 2 = .ok (.bipush 7, 2) := dk_16 7 (dk_at dksX0_isShelf_0 2 rfl rfl)
theorem dX0_isShelf_4 : decode cX0_isShelf 4 = .ok (.invokestatic 71, 3) := dk_184 0 71 (dk_at dksX0_isShelf_0 4 rfl rfl)
theorem dX0_isShelf_7 : decode cX0_isShelf 7 = .ok (.ireturn, 1) := dk_172 (dk_at dksX0_isShelf_0 7 rfl rfl)
def dkwX0_isIn_0 : List UInt8 := [26, 27, 161, 0, 12, 26, 28, 163, 0, 7, 4, 167, 0, 4, 3, 172]
abbrev dktX0_isIn_0 : List UInt8 := dkwX0_isIn_0 ++ []
theorem dksX0_isIn_0 : cX0_isIn.data.toList.drop 0 = dktX0_isIn_0 := by decide +kernel
theorem dX0_isIn_0 : decode cX0_isIn 0 = .ok (.iload_n 0, 1) := dk_26 (dk_at dksX0_isIn_0 0 rfl rfl)
theorem dX0_isIn_1 : decode cX0_isIn 1 = .ok (.iload_n 1, 1) := dk_27 (dk_at dksX0_isIn_0 1 rfl rfl)
theorem dX0_isIn_2 : decode cX0_isIn 2 = .ok (.if_icmp .lt 12, 3) := dk_161 0 12 (dk_at dksX0_isIn_0 2 rfl rfl)
theorem dX0_isIn_5 : decode cX0_isIn 5 = .ok (.iload_n 0, 1) := dk_26 (dk_at dksX0_isIn_0 5 rfl rfl)
theorem dX0_isIn_6 : decode cX0_isIn 6 = .ok (.iload_n 2, 1) := dk_28 (dk_at dksX0_isIn_0 6 rfl rfl)
theorem dX0_isIn_7 : decode cX0_isIn 7 = .ok (.if_icmp .gt 7, 3) := dk_163 0 7 (dk_at dksX0_isIn_0 7 rfl rfl)
theorem dX0_isIn_10 : decode cX0_isIn 10 = .ok (.iconst 1, 1) := dk_4 (dk_at dksX0_isIn_0 10 rfl rfl)
theorem dX0_isIn_11 : decode cX0_isIn 11 = .ok (.goto 4, 3) := dk_167 0 4 (dk_at dksX0_isIn_0 11 rfl rfl)
theorem dX0_isIn_14 : decode cX0_isIn 14 = .ok (.iconst 0, 1) := dk_3 (dk_at dksX0_isIn_0 14 rfl rfl)
theorem dX0_isIn_15 : decode cX0_isIn 15 = .ok (.ireturn, 1) := dk_172 (dk_at dksX0_isIn_0 15 rfl rfl)
def dkwX0_no_0 : List UInt8 := [42, 180, 0, 67, 27, 116, 92, 46, 4, 96, 79, 27, 172]
abbrev dktX0_no_0 : List UInt8 := dkwX0_no_0 ++ []
theorem dksX0_no_0 : cX0_no.data.toList.drop 0 = dktX0_no_0 := by decide +kernel
theorem dX0_no_0 : decode cX0_no 0 = .ok (.aload_n 0, 1) := dk_42 (dk_at dksX0_no_0 0 rfl rfl)
theorem dX0_no_1 : decode cX0_no 1 = .ok (.getfield 67, 3) := dk_180 0 67 (dk_at dksX0_no_0 1 rfl rfl)
theorem dX0_no_4 : decode cX0_no 4 = .ok (.iload_n 1, 1) := dk_27 (dk_at dksX0_no_0 4 rfl rfl)
theorem dX0_no_5 : decode cX0_no 5 = .ok (.ineg, 1) := dk_116 (dk_at dksX0_no_0 5 rfl rfl)
theorem dX0_no_6 : decode cX0_no 6 = .ok (.dup2, 1) := dk_92 (dk_at dksX0_no_0 6 rfl rfl)
theorem dX0_no_7 : decode cX0_no 7 = .ok (.iaload, 1) := dk_46 (dk_at dksX0_no_0 7 rfl rfl)
theorem dX0_no_8 : decode cX0_no 8 = .ok (.iconst 1, 1) := dk_4 (dk_at dksX0_no_0 8 rfl rfl)
theorem dX0_no_9 : decode cX0_no 9 = .ok (.iadd, 1) := dk_96 (dk_at dksX0_no_0 9 rfl rfl)
theorem dX0_no_10 : decode cX0_no 10 = .ok (.iastore, 1) := dk_79 (dk_at dksX0_no_0 10 rfl rfl)
theorem dX0_no_11 : decode cX0_no 11 = .ok (.iload_n 1, 1) := dk_27 (dk_at dksX0_no_0 11 rfl rfl)
theorem dX0_no_12 : decode cX0_no 12 = .ok (.ireturn, 1) := dk_172 (dk_at dksX0_no_0 12 rfl rfl)
def dkwX0_rowOf_2 : List UInt8 := [27, 188, 8, 176, 27, 188, 9, 176, 27, 188, 10, 176, 27, 188, 11, 176, 27, 188, 4, 176]
abbrev dktX0_rowOf_2 : List UInt8 := dkwX0_rowOf_2 ++ []
def dkwX0_rowOf_1 : List UInt8 := [170, 0, 0, 0, 0, 0, 47, 0, 0, 0, 0, 0, 0, 0, 3, 0, 0, 0, 31, 0, 0, 0, 35, 0, 0, 0, 39, 0, 0, 0, 43]
abbrev dktX0_rowOf_1 : List UInt8 := dkwX0_rowOf_1 ++ dktX0_rowOf_2
def dkwX0_rowOf_0 : List UInt8 := [26]
abbrev dktX0_rowOf_0 : List UInt8 := dkwX0_rowOf_0 ++ dktX0_rowOf_1
theorem dksX0_rowOf_0 : cX0_rowOf.data.toList.drop 0 = dktX0_rowOf_0 := by decide +kernel
theorem dksX0_rowOf_1 : cX0_rowOf.data.toList.drop 1 = dktX0_rowOf_1 := dk_seg dksX0_rowOf_0 1 rfl rfl
theorem dksX0_rowOf_2 : cX0_rowOf.data.toList.drop 32 = dktX0_rowOf_2 := dk_seg dksX0_rowOf_1 31 rfl rfl
theorem dX0_rowOf_0 : decode cX0_rowOf 0 = .ok (.iload_n 0, 1) := dk_26 (dk_at dksX0_rowOf_0 0 rfl rfl)
theorem dX0_rowOf_1 : decode cX0_rowOf 1 = .ok (.tableswitch 47 0 3 #[31, 35, 39, 43], 31) := by decide +kernel
theorem dX0_rowOf_32 : decode cX0_rowOf 32 = .ok (.iload_n 1, 1) := dk_27 (dk_at dksX0_rowOf_2 0 rfl rfl)
theorem dX0_rowOf_33 : decode cX0_rowOf 33 = .ok (.newarray .byte, 2) := dk_188_8 (dk_at dksX0_rowOf_2 1 rfl rfl)
theorem dX0_rowOf_35 : decode cX0_rowOf 35 = .ok (.areturn, 1) := dk_176 (dk_at dksX0_rowOf_2 3 rfl rfl)
theorem dX0_rowOf_36 : decode cX0_rowOf 36 = .ok (.iload_n 1, 1) := dk_27 (dk_at dksX0_rowOf_2 4 rfl rfl)
theorem dX0_rowOf_37 : decode cX0_rowOf 37 = .ok (.newarray .short, 2) := dk_188_9 (dk_at dksX0_rowOf_2 5 rfl rfl)
theorem dX0_rowOf_39 : decode cX0_rowOf 39 = .ok (.areturn, 1) := dk_176 (dk_at dksX0_rowOf_2 7 rfl rfl)
theorem dX0_rowOf_40 : decode cX0_rowOf 40 = .ok (.iload_n 1, 1) := dk_27 (dk_at dksX0_rowOf_2 8 rfl rfl)
theorem dX0_rowOf_41 : decode cX0_rowOf 41 = .ok (.newarray .int, 2) := dk_188_10 (dk_at dksX0_rowOf_2 9 rfl rfl)
theorem dX0_rowOf_43 : decode cX0_rowOf 43 = .ok (.areturn, 1) := dk_176 (dk_at dksX0_rowOf_2 11 rfl rfl)
theorem dX0_rowOf_44 : decode cX0_rowOf 44 = .ok (.iload_n 1, 1) := dk_27 (dk_at dksX0_rowOf_2 12 rfl rfl)
theorem dX0_rowOf_45 : decode cX0_rowOf 45 = .ok (.newarray .long, 2) := dk_188_11 (dk_at dksX0_rowOf_2 13 rfl rfl)
theorem dX0_rowOf_47 : decode cX0_rowOf 47 = .ok (.areturn, 1) := dk_176 (dk_at dksX0_rowOf_2 15 rfl rfl)
theorem dX0_rowOf_48 : decode cX0_rowOf 48 = .ok (.iload_n 1, 1) := dk_27 (dk_at dksX0_rowOf_2 16 rfl rfl)
theorem dX0_rowOf_49 : decode cX0_rowOf 49 = .ok (.newarray .boolean, 2) := dk_188_4 (dk_at dksX0_rowOf_2 17 rfl rfl)
theorem dX0_rowOf_51 : decode cX0_rowOf 51 = .ok (.areturn, 1) := dk_176 (dk_at dksX0_rowOf_2 19 rfl rfl)
def dkwX0_set_1 : List UInt8 := [4, 172, 58, 5, 42, 25, 5, 180, 0, 117, 182, 0, 91, 172, 58, 5, 42, 16, 254, 182, 0, 91, 172]
abbrev dktX0_set_1 : List UInt8 := dkwX0_set_1 ++ []
def dkwX0_set_0 : List UInt8 := [27, 184, 0, 87, 154, 0, 10, 42, 16, 254, 182, 0, 91, 172, 42, 27, 182, 0, 109, 28, 33, 184, 0, 113]
abbrev dktX0_set_0 : List UInt8 := dkwX0_set_0 ++ dktX0_set_1
theorem dksX0_set_0 : cX0_set.data.toList.drop 0 = dktX0_set_0 := by decide +kernel
theorem dksX0_set_1 : cX0_set.data.toList.drop 24 = dktX0_set_1 := dk_seg dksX0_set_0 24 rfl rfl
theorem dX0_set_0 : decode cX0_set 0 = .ok (.iload_n 1, 1) := dk_27 (dk_at dksX0_set_0 0 rfl rfl)
theorem dX0_set_1 : decode cX0_set 1 = .ok (.invokestatic 87, 3) := dk_184 0 87 (dk_at dksX0_set_0 1 rfl rfl)
theorem dX0_set_4 : decode cX0_set 4 = .ok (.ifCond .ne 10, 3) := dk_154 0 10 (dk_at dksX0_set_0 4 rfl rfl)
theorem dX0_set_7 : decode cX0_set 7 = .ok (.aload_n 0, 1) := dk_42 (dk_at dksX0_set_0 7 rfl rfl)
theorem dX0_set_8 : decode cX0_set 8 = .ok (.bipush (-2), 2) := dk_16 254 (dk_at dksX0_set_0 8 rfl rfl)
theorem dX0_set_10 : decode cX0_set 10 = .ok (.invokevirtual 91, 3) := dk_182 0 91 (dk_at dksX0_set_0 10 rfl rfl)
theorem dX0_set_13 : decode cX0_set 13 = .ok (.ireturn, 1) := dk_172 (dk_at dksX0_set_0 13 rfl rfl)
theorem dX0_set_14 : decode cX0_set 14 = .ok (.aload_n 0, 1) := dk_42 (dk_at dksX0_set_0 14 rfl rfl)
theorem dX0_set_15 : decode cX0_set 15 = .ok (.iload_n 1, 1) := dk_27 (dk_at dksX0_set_0 15 rfl rfl)
theorem dX0_set_16 : decode cX0_set 16 = .ok (.invokevirtual 109, 3) := dk_182 0 109 (dk_at dksX0_set_0 16 rfl rfl)
theorem dX0_set_19 : decode cX0_set 19 = .ok (.iload_n 2, 1) := dk_28 (dk_at dksX0_set_0 19 rfl rfl)
theorem dX0_set_20 : decode cX0_set 20 = .ok (.lload_n 3, 1) := dk_33 (dk_at dksX0_set_0 20 rfl rfl)
theorem dX0_set_21 : decode cX0_set 21 = .ok (.invokestatic 113, 3) := dk_184 0 113 (dk_at dksX0_set_0 21 rfl rfl)
theorem dX0_set_24 : decode cX0_set 24 = .ok (.iconst 1, 1) := dk_4 (dk_at dksX0_set_1 0 rfl rfl)
theorem dX0_set_25 : decode cX0_set 25 = .ok (.ireturn, 1) := dk_172 (dk_at dksX0_set_1 1 rfl rfl)
theorem dX0_set_26 : decode cX0_set 26 = .ok (.astore 5, 2) := dk_58 5 (dk_at dksX0_set_1 2 rfl rfl)
theorem dX0_set_28 : decode cX0_set 28 = .ok (.aload_n 0, 1) := dk_42 (dk_at dksX0_set_1 4 rfl rfl)
theorem dX0_set_29 : decode cX0_set 29 = .ok (.aload 5, 2) := dk_25 5 (dk_at dksX0_set_1 5 rfl rfl)
theorem dX0_set_31 : decode cX0_set 31 = .ok (.getfield 117, 3) := dk_180 0 117 (dk_at dksX0_set_1 7 rfl rfl)
theorem dX0_set_34 : decode cX0_set 34 = .ok (.invokevirtual 91, 3) := dk_182 0 91 (dk_at dksX0_set_1 10 rfl rfl)
theorem dX0_set_37 : decode cX0_set 37 = .ok (.ireturn, 1) := dk_172 (dk_at dksX0_set_1 13 rfl rfl)
theorem dX0_set_38 : decode cX0_set 38 = .ok (.astore 5, 2) := dk_58 5 (dk_at dksX0_set_1 14 rfl rfl)
theorem dX0_set_40 : decode cX0_set 40 = .ok (.aload_n 0, 1) := dk_42 (dk_at dksX0_set_1 16 rfl rfl)
theorem dX0_set_41 : decode cX0_set 41 = .ok (.bipush (-2), 2) := dk_16 254 (dk_at dksX0_set_1 17 rfl rfl)
theorem dX0_set_43 : decode cX0_set 43 = .ok (.invokevirtual 91, 3) := dk_182 0 91 (dk_at dksX0_set_1 19 rfl rfl)
theorem dX0_set_46 : decode cX0_set 46 = .ok (.ireturn, 1) := dk_172 (dk_at dksX0_set_1 22 rfl rfl)
def dkwX0_rowIn_1 : List UInt8 := [183, 0, 106, 191, 44, 199, 0, 13, 187, 0, 104, 89, 16, 252, 183, 0, 106, 191, 44, 176]
abbrev dktX0_rowIn_1 : List UInt8 := dkwX0_rowIn_1 ++ []
def dkwX0_rowIn_0 : List UInt8 := [42, 180, 0, 59, 27, 50, 180, 0, 98, 77, 44, 193, 0, 13, 153, 0, 13, 187, 0, 104, 89, 16, 253]
abbrev dktX0_rowIn_0 : List UInt8 := dkwX0_rowIn_0 ++ dktX0_rowIn_1
theorem dksX0_rowIn_0 : cX0_rowIn.data.toList.drop 0 = dktX0_rowIn_0 := by decide +kernel
theorem dksX0_rowIn_1 : cX0_rowIn.data.toList.drop 23 = dktX0_rowIn_1 := dk_seg dksX0_rowIn_0 23 rfl rfl
theorem dX0_rowIn_0 : decode cX0_rowIn 0 = .ok (.aload_n 0, 1) := dk_42 (dk_at dksX0_rowIn_0 0 rfl rfl)
theorem dX0_rowIn_1 : decode cX0_rowIn 1 = .ok (.getfield 59, 3) := dk_180 0 59 (dk_at dksX0_rowIn_0 1 rfl rfl)
theorem dX0_rowIn_4 : decode cX0_rowIn 4 = .ok (.iload_n 1, 1) := dk_27 (dk_at dksX0_rowIn_0 4 rfl rfl)
theorem dX0_rowIn_5 : decode cX0_rowIn 5 = .ok (.aaload, 1) := dk_50 (dk_at dksX0_rowIn_0 5 rfl rfl)
theorem dX0_rowIn_6 : decode cX0_rowIn 6 = .ok (.getfield 98, 3) := dk_180 0 98 (dk_at dksX0_rowIn_0 6 rfl rfl)
theorem dX0_rowIn_9 : decode cX0_rowIn 9 = .ok (.astore_n 2, 1) := dk_77 (dk_at dksX0_rowIn_0 9 rfl rfl)
theorem dX0_rowIn_10 : decode cX0_rowIn 10 = .ok (.aload_n 2, 1) := dk_44 (dk_at dksX0_rowIn_0 10 rfl rfl)
theorem dX0_rowIn_11 : decode cX0_rowIn 11 = .ok (.instanceof 13, 3) := dk_193 0 13 (dk_at dksX0_rowIn_0 11 rfl rfl)
theorem dX0_rowIn_14 : decode cX0_rowIn 14 = .ok (.ifCond .eq 13, 3) := dk_153 0 13 (dk_at dksX0_rowIn_0 14 rfl rfl)
theorem dX0_rowIn_17 : decode cX0_rowIn 17 = .ok (.new 104, 3) := dk_187 0 104 (dk_at dksX0_rowIn_0 17 rfl rfl)
theorem dX0_rowIn_20 : decode cX0_rowIn 20 = .ok (.dup, 1) := dk_89 (dk_at dksX0_rowIn_0 20 rfl rfl)
theorem dX0_rowIn_21 : decode cX0_rowIn 21 = .ok (.bipush (-3), 2) := dk_16 253 (dk_at dksX0_rowIn_0 21 rfl rfl)
theorem dX0_rowIn_23 : decode cX0_rowIn 23 = .ok (.invokespecial 106, 3) := dk_183 0 106 (dk_at dksX0_rowIn_1 0 rfl rfl)
theorem dX0_rowIn_26 : decode cX0_rowIn 26 = .ok (.athrow, 1) := dk_191 (dk_at dksX0_rowIn_1 3 rfl rfl)
theorem dX0_rowIn_27 : decode cX0_rowIn 27 = .ok (.aload_n 2, 1) := dk_44 (dk_at dksX0_rowIn_1 4 rfl rfl)
theorem dX0_rowIn_28 : decode cX0_rowIn 28 = .ok (.ifnonnull 13, 3) := dk_199 0 13 (dk_at dksX0_rowIn_1 5 rfl rfl)
theorem dX0_rowIn_31 : decode cX0_rowIn 31 = .ok (.new 104, 3) := dk_187 0 104 (dk_at dksX0_rowIn_1 8 rfl rfl)
theorem dX0_rowIn_34 : decode cX0_rowIn 34 = .ok (.dup, 1) := dk_89 (dk_at dksX0_rowIn_1 11 rfl rfl)
theorem dX0_rowIn_35 : decode cX0_rowIn 35 = .ok (.bipush (-4), 2) := dk_16 252 (dk_at dksX0_rowIn_1 12 rfl rfl)
theorem dX0_rowIn_37 : decode cX0_rowIn 37 = .ok (.invokespecial 106, 3) := dk_183 0 106 (dk_at dksX0_rowIn_1 14 rfl rfl)
theorem dX0_rowIn_40 : decode cX0_rowIn 40 = .ok (.athrow, 1) := dk_191 (dk_at dksX0_rowIn_1 17 rfl rfl)
theorem dX0_rowIn_41 : decode cX0_rowIn 41 = .ok (.aload_n 2, 1) := dk_44 (dk_at dksX0_rowIn_1 18 rfl rfl)
theorem dX0_rowIn_42 : decode cX0_rowIn 42 = .ok (.areturn, 1) := dk_176 (dk_at dksX0_rowIn_1 19 rfl rfl)
def dkwX0_puts_4 : List UInt8 := [192, 0, 85, 27, 32, 9, 148, 153, 0, 7, 4, 167, 0, 4, 3, 84, 177]
abbrev dktX0_puts_4 : List UInt8 := dkwX0_puts_4 ++ []
def dkwX0_puts_3 : List UInt8 := [42, 192, 0, 79, 27, 32, 136, 79, 167, 0, 30, 42, 192, 0, 80, 27, 32, 80, 167, 0, 20, 42]
abbrev dktX0_puts_3 : List UInt8 := dkwX0_puts_3 ++ dktX0_puts_4
def dkwX0_puts_2 : List UInt8 := [42, 192, 0, 75, 27, 32, 136, 145, 84, 167, 0, 53, 42, 192, 0, 77, 27, 32, 136, 147, 86, 167, 0, 41]
abbrev dktX0_puts_2 : List UInt8 := dkwX0_puts_2 ++ dktX0_puts_3
def dkwX0_puts_1 : List UInt8 := [170, 0, 0, 0, 0, 0, 0, 77, 0, 0, 0, 0, 0, 0, 0, 3, 0, 0, 0, 32, 0, 0, 0, 44, 0, 0, 0, 56, 0, 0, 0, 67]
abbrev dktX0_puts_1 : List UInt8 := dkwX0_puts_1 ++ dktX0_puts_2
def dkwX0_puts_0 : List UInt8 := [42, 184, 0, 81]
abbrev dktX0_puts_0 : List UInt8 := dkwX0_puts_0 ++ dktX0_puts_1
theorem dksX0_puts_0 : cX0_puts.data.toList.drop 0 = dktX0_puts_0 := by decide +kernel
theorem dksX0_puts_1 : cX0_puts.data.toList.drop 4 = dktX0_puts_1 := dk_seg dksX0_puts_0 4 rfl rfl
theorem dksX0_puts_2 : cX0_puts.data.toList.drop 36 = dktX0_puts_2 := dk_seg dksX0_puts_1 32 rfl rfl
theorem dksX0_puts_3 : cX0_puts.data.toList.drop 60 = dktX0_puts_3 := dk_seg dksX0_puts_2 24 rfl rfl
theorem dksX0_puts_4 : cX0_puts.data.toList.drop 82 = dktX0_puts_4 := dk_seg dksX0_puts_3 22 rfl rfl
theorem dX0_puts_0 : decode cX0_puts 0 = .ok (.aload_n 0, 1) := dk_42 (dk_at dksX0_puts_0 0 rfl rfl)
theorem dX0_puts_1 : decode cX0_puts 1 = .ok (.invokestatic 81, 3) := dk_184 0 81 (dk_at dksX0_puts_0 1 rfl rfl)
theorem dX0_puts_4 : decode cX0_puts 4 = .ok (.tableswitch 77 0 3 #[32, 44, 56, 67], 32) := by decide +kernel
theorem dX0_puts_36 : decode cX0_puts 36 = .ok (.aload_n 0, 1) := dk_42 (dk_at dksX0_puts_2 0 rfl rfl)
theorem dX0_puts_37 : decode cX0_puts 37 = .ok (.checkcast 75, 3) := dk_192 0 75 (dk_at dksX0_puts_2 1 rfl rfl)
theorem dX0_puts_40 : decode cX0_puts 40 = .ok (.iload_n 1, 1) := dk_27 (dk_at dksX0_puts_2 4 rfl rfl)
theorem dX0_puts_41 : decode cX0_puts 41 = .ok (.lload_n 2, 1) := dk_32 (dk_at dksX0_puts_2 5 rfl rfl)
theorem dX0_puts_42 : decode cX0_puts 42 = .ok (.l2i, 1) := dk_136 (dk_at dksX0_puts_2 6 rfl rfl)
theorem dX0_puts_43 : decode cX0_puts 43 = .ok (.i2b, 1) := dk_145 (dk_at dksX0_puts_2 7 rfl rfl)
theorem dX0_puts_44 : decode cX0_puts 44 = .ok (.bastore, 1) := dk_84 (dk_at dksX0_puts_2 8 rfl rfl)
theorem dX0_puts_45 : decode cX0_puts 45 = .ok (.goto 53, 3) := dk_167 0 53 (dk_at dksX0_puts_2 9 rfl rfl)
theorem dX0_puts_48 : decode cX0_puts 48 = .ok (.aload_n 0, 1) := dk_42 (dk_at dksX0_puts_2 12 rfl rfl)
theorem dX0_puts_49 : decode cX0_puts 49 = .ok (.checkcast 77, 3) := dk_192 0 77 (dk_at dksX0_puts_2 13 rfl rfl)
theorem dX0_puts_52 : decode cX0_puts 52 = .ok (.iload_n 1, 1) := dk_27 (dk_at dksX0_puts_2 16 rfl rfl)
theorem dX0_puts_53 : decode cX0_puts 53 = .ok (.lload_n 2, 1) := dk_32 (dk_at dksX0_puts_2 17 rfl rfl)
theorem dX0_puts_54 : decode cX0_puts 54 = .ok (.l2i, 1) := dk_136 (dk_at dksX0_puts_2 18 rfl rfl)
theorem dX0_puts_55 : decode cX0_puts 55 = .ok (.i2s, 1) := dk_147 (dk_at dksX0_puts_2 19 rfl rfl)
theorem dX0_puts_56 : decode cX0_puts 56 = .ok (.sastore, 1) := dk_86 (dk_at dksX0_puts_2 20 rfl rfl)
theorem dX0_puts_57 : decode cX0_puts 57 = .ok (.goto 41, 3) := dk_167 0 41 (dk_at dksX0_puts_2 21 rfl rfl)
theorem dX0_puts_60 : decode cX0_puts 60 = .ok (.aload_n 0, 1) := dk_42 (dk_at dksX0_puts_3 0 rfl rfl)
theorem dX0_puts_61 : decode cX0_puts 61 = .ok (.checkcast 79, 3) := dk_192 0 79 (dk_at dksX0_puts_3 1 rfl rfl)
theorem dX0_puts_64 : decode cX0_puts 64 = .ok (.iload_n 1, 1) := dk_27 (dk_at dksX0_puts_3 4 rfl rfl)
theorem dX0_puts_65 : decode cX0_puts 65 = .ok (.lload_n 2, 1) := dk_32 (dk_at dksX0_puts_3 5 rfl rfl)
theorem dX0_puts_66 : decode cX0_puts 66 = .ok (.l2i, 1) := dk_136 (dk_at dksX0_puts_3 6 rfl rfl)
theorem dX0_puts_67 : decode cX0_puts 67 = .ok (.iastore, 1) := dk_79 (dk_at dksX0_puts_3 7 rfl rfl)
theorem dX0_puts_68 : decode cX0_puts 68 = .ok (.goto 30, 3) := dk_167 0 30 (dk_at dksX0_puts_3 8 rfl rfl)
theorem dX0_puts_71 : decode cX0_puts 71 = .ok (.aload_n 0, 1) := dk_42 (dk_at dksX0_puts_3 11 rfl rfl)
theorem dX0_puts_72 : decode cX0_puts 72 = .ok (.checkcast 80, 3) := dk_192 0 80 (dk_at dksX0_puts_3 12 rfl rfl)
theorem dX0_puts_75 : decode cX0_puts 75 = .ok (.iload_n 1, 1) := dk_27 (dk_at dksX0_puts_3 15 rfl rfl)
theorem dX0_puts_76 : decode cX0_puts 76 = .ok (.lload_n 2, 1) := dk_32 (dk_at dksX0_puts_3 16 rfl rfl)
theorem dX0_puts_77 : decode cX0_puts 77 = .ok (.lastore, 1) := dk_80 (dk_at dksX0_puts_3 17 rfl rfl)
theorem dX0_puts_78 : decode cX0_puts 78 = .ok (.goto 20, 3) := dk_167 0 20 (dk_at dksX0_puts_3 18 rfl rfl)
theorem dX0_puts_81 : decode cX0_puts 81 = .ok (.aload_n 0, 1) := dk_42 (dk_at dksX0_puts_3 21 rfl rfl)
theorem dX0_puts_82 : decode cX0_puts 82 = .ok (.checkcast 85, 3) := dk_192 0 85 (dk_at dksX0_puts_4 0 rfl rfl)
theorem dX0_puts_85 : decode cX0_puts 85 = .ok (.iload_n 1, 1) := dk_27 (dk_at dksX0_puts_4 3 rfl rfl)
theorem dX0_puts_86 : decode cX0_puts 86 = .ok (.lload_n 2, 1) := dk_32 (dk_at dksX0_puts_4 4 rfl rfl)
theorem dX0_puts_87 : decode cX0_puts 87 = .ok (.lconst 0, 1) := dk_9 (dk_at dksX0_puts_4 5 rfl rfl)
theorem dX0_puts_88 : decode cX0_puts 88 = .ok (.lcmp, 1) := dk_148 (dk_at dksX0_puts_4 6 rfl rfl)
theorem dX0_puts_89 : decode cX0_puts 89 = .ok (.ifCond .eq 7, 3) := dk_153 0 7 (dk_at dksX0_puts_4 7 rfl rfl)
theorem dX0_puts_92 : decode cX0_puts 92 = .ok (.iconst 1, 1) := dk_4 (dk_at dksX0_puts_4 10 rfl rfl)
theorem dX0_puts_93 : decode cX0_puts 93 = .ok (.goto 4, 3) := dk_167 0 4 (dk_at dksX0_puts_4 11 rfl rfl)
theorem dX0_puts_96 : decode cX0_puts 96 = .ok (.iconst 0, 1) := dk_3 (dk_at dksX0_puts_4 14 rfl rfl)
theorem dX0_puts_97 : decode cX0_puts 97 = .ok (.bastore, 1) := dk_84 (dk_at dksX0_puts_4 15 rfl rfl)
theorem dX0_puts_98 : decode cX0_puts 98 = .ok (.return_, 1) := dk_177 (dk_at dksX0_puts_4 16 rfl rfl)
def dkwX0_sortOf_1 : List UInt8 := [153, 0, 5, 5, 172, 42, 193, 0, 80, 153, 0, 7, 6, 167, 0, 4, 7, 172]
abbrev dktX0_sortOf_1 : List UInt8 := dkwX0_sortOf_1 ++ []
def dkwX0_sortOf_0 : List UInt8 := [42, 193, 0, 75, 153, 0, 5, 3, 172, 42, 193, 0, 77, 153, 0, 5, 4, 172, 42, 193, 0, 79]
abbrev dktX0_sortOf_0 : List UInt8 := dkwX0_sortOf_0 ++ dktX0_sortOf_1
theorem dksX0_sortOf_0 : cX0_sortOf.data.toList.drop 0 = dktX0_sortOf_0 := by decide +kernel
theorem dksX0_sortOf_1 : cX0_sortOf.data.toList.drop 22 = dktX0_sortOf_1 := dk_seg dksX0_sortOf_0 22 rfl rfl
theorem dX0_sortOf_0 : decode cX0_sortOf 0 = .ok (.aload_n 0, 1) := dk_42 (dk_at dksX0_sortOf_0 0 rfl rfl)
theorem dX0_sortOf_1 : decode cX0_sortOf 1 = .ok (.instanceof 75, 3) := dk_193 0 75 (dk_at dksX0_sortOf_0 1 rfl rfl)
theorem dX0_sortOf_4 : decode cX0_sortOf 4 = .ok (.ifCond .eq 5, 3) := dk_153 0 5 (dk_at dksX0_sortOf_0 4 rfl rfl)
theorem dX0_sortOf_7 : decode cX0_sortOf 7 = .ok (.iconst 0, 1) := dk_3 (dk_at dksX0_sortOf_0 7 rfl rfl)
theorem dX0_sortOf_8 : decode cX0_sortOf 8 = .ok (.ireturn, 1) := dk_172 (dk_at dksX0_sortOf_0 8 rfl rfl)
theorem dX0_sortOf_9 : decode cX0_sortOf 9 = .ok (.aload_n 0, 1) := dk_42 (dk_at dksX0_sortOf_0 9 rfl rfl)
theorem dX0_sortOf_10 : decode cX0_sortOf 10 = .ok (.instanceof 77, 3) := dk_193 0 77 (dk_at dksX0_sortOf_0 10 rfl rfl)
theorem dX0_sortOf_13 : decode cX0_sortOf 13 = .ok (.ifCond .eq 5, 3) := dk_153 0 5 (dk_at dksX0_sortOf_0 13 rfl rfl)
theorem dX0_sortOf_16 : decode cX0_sortOf 16 = .ok (.iconst 1, 1) := dk_4 (dk_at dksX0_sortOf_0 16 rfl rfl)
theorem dX0_sortOf_17 : decode cX0_sortOf 17 = .ok (.ireturn, 1) := dk_172 (dk_at dksX0_sortOf_0 17 rfl rfl)
theorem dX0_sortOf_18 : decode cX0_sortOf 18 = .ok (.aload_n 0, 1) := dk_42 (dk_at dksX0_sortOf_0 18 rfl rfl)
theorem dX0_sortOf_19 : decode cX0_sortOf 19 = .ok (.instanceof 79, 3) := dk_193 0 79 (dk_at dksX0_sortOf_0 19 rfl rfl)
theorem dX0_sortOf_22 : decode cX0_sortOf 22 = .ok (.ifCond .eq 5, 3) := dk_153 0 5 (dk_at dksX0_sortOf_1 0 rfl rfl)
theorem dX0_sortOf_25 : decode cX0_sortOf 25 = .ok (.iconst 2, 1) := dk_5 (dk_at dksX0_sortOf_1 3 rfl rfl)
theorem dX0_sortOf_26 : decode cX0_sortOf 26 = .ok (.ireturn, 1) := dk_172 (dk_at dksX0_sortOf_1 4 rfl rfl)
theorem dX0_sortOf_27 : decode cX0_sortOf 27 = .ok (.aload_n 0, 1) := dk_42 (dk_at dksX0_sortOf_1 5 rfl rfl)
theorem dX0_sortOf_28 : decode cX0_sortOf 28 = .ok (.instanceof 80, 3) := dk_193 0 80 (dk_at dksX0_sortOf_1 6 rfl rfl)
theorem dX0_sortOf_31 : decode cX0_sortOf 31 = .ok (.ifCond .eq 7, 3) := dk_153 0 7 (dk_at dksX0_sortOf_1 9 rfl rfl)
theorem dX0_sortOf_34 : decode cX0_sortOf 34 = .ok (.iconst 3, 1) := dk_6 (dk_at dksX0_sortOf_1 12 rfl rfl)
theorem dX0_sortOf_35 : decode cX0_sortOf 35 = .ok (.goto 4, 3) := dk_167 0 4 (dk_at dksX0_sortOf_1 13 rfl rfl)
theorem dX0_sortOf_38 : decode cX0_sortOf 38 = .ok (.iconst 4, 1) := dk_7 (dk_at dksX0_sortOf_1 16 rfl rfl)
theorem dX0_sortOf_39 : decode cX0_sortOf 39 = .ok (.ireturn, 1) := dk_172 (dk_at dksX0_sortOf_1 17 rfl rfl)
def dkwX0_copy_4 : List UInt8 := [16, 253, 182, 0, 91, 172, 58, 8, 42, 16, 254, 182, 0, 91, 172]
abbrev dktX0_copy_4 : List UInt8 := dkwX0_copy_4 ++ []
def dkwX0_copy_3 : List UInt8 := [25, 7, 21, 4, 21, 5, 184, 0, 123, 21, 5, 172, 58, 8, 42, 16, 252, 182, 0, 91, 172, 58, 8, 42]
abbrev dktX0_copy_3 : List UInt8 := dkwX0_copy_3 ++ dktX0_copy_4
def dkwX0_copy_2 : List UInt8 := [193, 0, 13, 154, 0, 11, 25, 7, 193, 0, 13, 153, 0, 10, 42, 16, 253, 182, 0, 91, 172, 25, 6, 29]
abbrev dktX0_copy_2 : List UInt8 := dkwX0_copy_2 ++ dktX0_copy_3
def dkwX0_copy_1 : List UInt8 := [180, 0, 59, 27, 50, 180, 0, 98, 58, 6, 42, 180, 0, 59, 28, 50, 180, 0, 98, 58, 7, 25, 6]
abbrev dktX0_copy_1 : List UInt8 := dkwX0_copy_1 ++ dktX0_copy_2
def dkwX0_copy_0 : List UInt8 := [27, 184, 0, 87, 153, 0, 10, 28, 184, 0, 87, 154, 0, 10, 42, 16, 254, 182, 0, 91, 172, 42]
abbrev dktX0_copy_0 : List UInt8 := dkwX0_copy_0 ++ dktX0_copy_1
theorem dksX0_copy_0 : cX0_copy.data.toList.drop 0 = dktX0_copy_0 := by decide +kernel
theorem dksX0_copy_1 : cX0_copy.data.toList.drop 22 = dktX0_copy_1 := dk_seg dksX0_copy_0 22 rfl rfl
theorem dksX0_copy_2 : cX0_copy.data.toList.drop 45 = dktX0_copy_2 := dk_seg dksX0_copy_1 23 rfl rfl
theorem dksX0_copy_3 : cX0_copy.data.toList.drop 69 = dktX0_copy_3 := dk_seg dksX0_copy_2 24 rfl rfl
theorem dksX0_copy_4 : cX0_copy.data.toList.drop 93 = dktX0_copy_4 := dk_seg dksX0_copy_3 24 rfl rfl
theorem dX0_copy_0 : decode cX0_copy 0 = .ok (.iload_n 1, 1) := dk_27 (dk_at dksX0_copy_0 0 rfl rfl)
theorem dX0_copy_1 : decode cX0_copy 1 = .ok (.invokestatic 87, 3) := dk_184 0 87 (dk_at dksX0_copy_0 1 rfl rfl)
theorem dX0_copy_4 : decode cX0_copy 4 = .ok (.ifCond .eq 10, 3) := dk_153 0 10 (dk_at dksX0_copy_0 4 rfl rfl)
theorem dX0_copy_7 : decode cX0_copy 7 = .ok (.iload_n 2, 1) := dk_28 (dk_at dksX0_copy_0 7 rfl rfl)
theorem dX0_copy_8 : decode cX0_copy 8 = .ok (.invokestatic 87, 3) := dk_184 0 87 (dk_at dksX0_copy_0 8 rfl rfl)
theorem dX0_copy_11 : decode cX0_copy 11 = .ok (.ifCond .ne 10, 3) := dk_154 0 10 (dk_at dksX0_copy_0 11 rfl rfl)
theorem dX0_copy_14 : decode cX0_copy 14 = .ok (.aload_n 0, 1) := dk_42 (dk_at dksX0_copy_0 14 rfl rfl)
theorem dX0_copy_15 : decode cX0_copy 15 = .ok (.bipush (-2), 2) := dk_16 254 (dk_at dksX0_copy_0 15 rfl rfl)
theorem dX0_copy_17 : decode cX0_copy 17 = .ok (.invokevirtual 91, 3) := dk_182 0 91 (dk_at dksX0_copy_0 17 rfl rfl)
theorem dX0_copy_20 : decode cX0_copy 20 = .ok (.ireturn, 1) := dk_172 (dk_at dksX0_copy_0 20 rfl rfl)
theorem dX0_copy_21 : decode cX0_copy 21 = .ok (.aload_n 0, 1) := dk_42 (dk_at dksX0_copy_0 21 rfl rfl)
theorem dX0_copy_22 : decode cX0_copy 22 = .ok (.getfield 59, 3) := dk_180 0 59 (dk_at dksX0_copy_1 0 rfl rfl)
theorem dX0_copy_25 : decode cX0_copy 25 = .ok (.iload_n 1, 1) := dk_27 (dk_at dksX0_copy_1 3 rfl rfl)
theorem dX0_copy_26 : decode cX0_copy 26 = .ok (.aaload, 1) := dk_50 (dk_at dksX0_copy_1 4 rfl rfl)
theorem dX0_copy_27 : decode cX0_copy 27 = .ok (.getfield 98, 3) := dk_180 0 98 (dk_at dksX0_copy_1 5 rfl rfl)
theorem dX0_copy_30 : decode cX0_copy 30 = .ok (.astore 6, 2) := dk_58 6 (dk_at dksX0_copy_1 8 rfl rfl)
theorem dX0_copy_32 : decode cX0_copy 32 = .ok (.aload_n 0, 1) := dk_42 (dk_at dksX0_copy_1 10 rfl rfl)
theorem dX0_copy_33 : decode cX0_copy 33 = .ok (.getfield 59, 3) := dk_180 0 59 (dk_at dksX0_copy_1 11 rfl rfl)
theorem dX0_copy_36 : decode cX0_copy 36 = .ok (.iload_n 2, 1) := dk_28 (dk_at dksX0_copy_1 14 rfl rfl)
theorem dX0_copy_37 : decode cX0_copy 37 = .ok (.aaload, 1) := dk_50 (dk_at dksX0_copy_1 15 rfl rfl)
theorem dX0_copy_38 : decode cX0_copy 38 = .ok (.getfield 98, 3) := dk_180 0 98 (dk_at dksX0_copy_1 16 rfl rfl)
theorem dX0_copy_41 : decode cX0_copy 41 = .ok (.astore 7, 2) := dk_58 7 (dk_at dksX0_copy_1 19 rfl rfl)
theorem dX0_copy_43 : decode cX0_copy 43 = .ok (.aload 6, 2) := dk_25 6 (dk_at dksX0_copy_1 21 rfl rfl)
theorem dX0_copy_45 : decode cX0_copy 45 = .ok (.instanceof 13, 3) := dk_193 0 13 (dk_at dksX0_copy_2 0 rfl rfl)
theorem dX0_copy_48 : decode cX0_copy 48 = .ok (.ifCond .ne 11, 3) := dk_154 0 11 (dk_at dksX0_copy_2 3 rfl rfl)
theorem dX0_copy_51 : decode cX0_copy 51 = .ok (.aload 7, 2) := dk_25 7 (dk_at dksX0_copy_2 6 rfl rfl)
theorem dX0_copy_53 : decode cX0_copy 53 = .ok (.instanceof 13, 3) := dk_193 0 13 (dk_at dksX0_copy_2 8 rfl rfl)
theorem dX0_copy_56 : decode cX0_copy 56 = .ok (.ifCond .eq 10, 3) := dk_153 0 10 (dk_at dksX0_copy_2 11 rfl rfl)
theorem dX0_copy_59 : decode cX0_copy 59 = .ok (.aload_n 0, 1) := dk_42 (dk_at dksX0_copy_2 14 rfl rfl)
theorem dX0_copy_60 : decode cX0_copy 60 = .ok (.bipush (-3), 2) := dk_16 253 (dk_at dksX0_copy_2 15 rfl rfl)
theorem dX0_copy_62 : decode cX0_copy 62 = .ok (.invokevirtual 91, 3) := dk_182 0 91 (dk_at dksX0_copy_2 17 rfl rfl)
theorem dX0_copy_65 : decode cX0_copy 65 = .ok (.ireturn, 1) := dk_172 (dk_at dksX0_copy_2 20 rfl rfl)
theorem dX0_copy_66 : decode cX0_copy 66 = .ok (.aload 6, 2) := dk_25 6 (dk_at dksX0_copy_2 21 rfl rfl)
theorem dX0_copy_68 : decode cX0_copy 68 = .ok (.iload_n 3, 1) := dk_29 (dk_at dksX0_copy_2 23 rfl rfl)
theorem dX0_copy_69 : decode cX0_copy 69 = .ok (.aload 7, 2) := dk_25 7 (dk_at dksX0_copy_3 0 rfl rfl)
theorem dX0_copy_71 : decode cX0_copy 71 = .ok (.iload 4, 2) := dk_21 4 (dk_at dksX0_copy_3 2 rfl rfl)
theorem dX0_copy_73 : decode cX0_copy 73 = .ok (.iload 5, 2) := dk_21 5 (dk_at dksX0_copy_3 4 rfl rfl)
theorem dX0_copy_75 : decode cX0_copy 75 = .ok (.invokestatic 123, 3) := dk_184 0 123 (dk_at dksX0_copy_3 6 rfl rfl)
theorem dX0_copy_78 : decode cX0_copy 78 = .ok (.iload 5, 2) := dk_21 5 (dk_at dksX0_copy_3 9 rfl rfl)
theorem dX0_copy_80 : decode cX0_copy 80 = .ok (.ireturn, 1) := dk_172 (dk_at dksX0_copy_3 11 rfl rfl)
theorem dX0_copy_81 : decode cX0_copy 81 = .ok (.astore 8, 2) := dk_58 8 (dk_at dksX0_copy_3 12 rfl rfl)
theorem dX0_copy_83 : decode cX0_copy 83 = .ok (.aload_n 0, 1) := dk_42 (dk_at dksX0_copy_3 14 rfl rfl)
theorem dX0_copy_84 : decode cX0_copy 84 = .ok (.bipush (-4), 2) := dk_16 252 (dk_at dksX0_copy_3 15 rfl rfl)
theorem dX0_copy_86 : decode cX0_copy 86 = .ok (.invokevirtual 91, 3) := dk_182 0 91 (dk_at dksX0_copy_3 17 rfl rfl)
theorem dX0_copy_89 : decode cX0_copy 89 = .ok (.ireturn, 1) := dk_172 (dk_at dksX0_copy_3 20 rfl rfl)
theorem dX0_copy_90 : decode cX0_copy 90 = .ok (.astore 8, 2) := dk_58 8 (dk_at dksX0_copy_3 21 rfl rfl)
theorem dX0_copy_92 : decode cX0_copy 92 = .ok (.aload_n 0, 1) := dk_42 (dk_at dksX0_copy_3 23 rfl rfl)
theorem dX0_copy_93 : decode cX0_copy 93 = .ok (.bipush (-3), 2) := dk_16 253 (dk_at dksX0_copy_4 0 rfl rfl)
theorem dX0_copy_95 : decode cX0_copy 95 = .ok (.invokevirtual 91, 3) := dk_182 0 91 (dk_at dksX0_copy_4 2 rfl rfl)
theorem dX0_copy_98 : decode cX0_copy 98 = .ok (.ireturn, 1) := dk_172 (dk_at dksX0_copy_4 5 rfl rfl)
theorem dX0_copy_99 : decode cX0_copy 99 = .ok (.astore 8, 2) := dk_58 8 (dk_at dksX0_copy_4 6 rfl rfl)
theorem dX0_copy_101 : decode cX0_copy 101 = .ok (.aload_n 0, 1) := dk_42 (dk_at dksX0_copy_4 8 rfl rfl)
theorem dX0_copy_102 : decode cX0_copy 102 = .ok (.bipush (-2), 2) := dk_16 254 (dk_at dksX0_copy_4 9 rfl rfl)
theorem dX0_copy_104 : decode cX0_copy 104 = .ok (.invokevirtual 91, 3) := dk_182 0 91 (dk_at dksX0_copy_4 11 rfl rfl)
theorem dX0_copy_107 : decode cX0_copy 107 = .ok (.ireturn, 1) := dk_172 (dk_at dksX0_copy_4 14 rfl rfl)
def dkwX0_element_1 : List UInt8 := [173]
abbrev dktX0_element_1 : List UInt8 := dkwX0_element_1 ++ []
def dkwX0_element_0 : List UInt8 := [27, 184, 0, 87, 154, 0, 5, 9, 173, 42, 27, 182, 0, 109, 28, 184, 0, 135, 173, 78, 9, 173, 78, 9]
abbrev dktX0_element_0 : List UInt8 := dkwX0_element_0 ++ dktX0_element_1
theorem dksX0_element_0 : cX0_element.data.toList.drop 0 = dktX0_element_0 := by decide +kernel
theorem dksX0_element_1 : cX0_element.data.toList.drop 24 = dktX0_element_1 := dk_seg dksX0_element_0 24 rfl rfl
theorem dX0_element_0 : decode cX0_element 0 = .ok (.iload_n 1, 1) := dk_27 (dk_at dksX0_element_0 0 rfl rfl)
theorem dX0_element_1 : decode cX0_element 1 = .ok (.invokestatic 87, 3) := dk_184 0 87 (dk_at dksX0_element_0 1 rfl rfl)
theorem dX0_element_4 : decode cX0_element 4 = .ok (.ifCond .ne 5, 3) := dk_154 0 5 (dk_at dksX0_element_0 4 rfl rfl)
theorem dX0_element_7 : decode cX0_element 7 = .ok (.lconst 0, 1) := dk_9 (dk_at dksX0_element_0 7 rfl rfl)
theorem dX0_element_8 : decode cX0_element 8 = .ok (.lreturn, 1) := dk_173 (dk_at dksX0_element_0 8 rfl rfl)
theorem dX0_element_9 : decode cX0_element 9 = .ok (.aload_n 0, 1) := dk_42 (dk_at dksX0_element_0 9 rfl rfl)
theorem dX0_element_10 : decode cX0_element 10 = .ok (.iload_n 1, 1) := dk_27 (dk_at dksX0_element_0 10 rfl rfl)
theorem dX0_element_11 : decode cX0_element 11 = .ok (.invokevirtual 109, 3) := dk_182 0 109 (dk_at dksX0_element_0 11 rfl rfl)
theorem dX0_element_14 : decode cX0_element 14 = .ok (.iload_n 2, 1) := dk_28 (dk_at dksX0_element_0 14 rfl rfl)
theorem dX0_element_15 : decode cX0_element 15 = .ok (.invokestatic 135, 3) := dk_184 0 135 (dk_at dksX0_element_0 15 rfl rfl)
theorem dX0_element_18 : decode cX0_element 18 = .ok (.lreturn, 1) := dk_173 (dk_at dksX0_element_0 18 rfl rfl)
theorem dX0_element_19 : decode cX0_element 19 = .ok (.astore_n 3, 1) := dk_78 (dk_at dksX0_element_0 19 rfl rfl)
theorem dX0_element_20 : decode cX0_element 20 = .ok (.lconst 0, 1) := dk_9 (dk_at dksX0_element_0 20 rfl rfl)
theorem dX0_element_21 : decode cX0_element 21 = .ok (.lreturn, 1) := dk_173 (dk_at dksX0_element_0 21 rfl rfl)
theorem dX0_element_22 : decode cX0_element 22 = .ok (.astore_n 3, 1) := dk_78 (dk_at dksX0_element_0 22 rfl rfl)
theorem dX0_element_23 : decode cX0_element 23 = .ok (.lconst 0, 1) := dk_9 (dk_at dksX0_element_0 23 rfl rfl)
theorem dX0_element_24 : decode cX0_element 24 = .ok (.lreturn, 1) := dk_173 (dk_at dksX0_element_1 0 rfl rfl)
def dkwX0_elementOf_3 : List UInt8 := [42, 192, 0, 80, 27, 47, 173, 42, 192, 0, 85, 27, 51, 153, 0, 7, 10, 167, 0, 4, 9, 173]
abbrev dktX0_elementOf_3 : List UInt8 := dkwX0_elementOf_3 ++ []
def dkwX0_elementOf_2 : List UInt8 := [42, 192, 0, 75, 27, 51, 133, 173, 42, 192, 0, 77, 27, 53, 133, 173, 42, 192, 0, 79, 27, 46, 133, 173]
abbrev dktX0_elementOf_2 : List UInt8 := dkwX0_elementOf_2 ++ dktX0_elementOf_3
def dkwX0_elementOf_1 : List UInt8 := [170, 0, 0, 0, 0, 0, 0, 63, 0, 0, 0, 0, 0, 0, 0, 3, 0, 0, 0, 32, 0, 0, 0, 40, 0, 0, 0, 48, 0, 0, 0, 56]
abbrev dktX0_elementOf_1 : List UInt8 := dkwX0_elementOf_1 ++ dktX0_elementOf_2
def dkwX0_elementOf_0 : List UInt8 := [42, 184, 0, 81]
abbrev dktX0_elementOf_0 : List UInt8 := dkwX0_elementOf_0 ++ dktX0_elementOf_1
theorem dksX0_elementOf_0 : cX0_elementOf.data.toList.drop 0 = dktX0_elementOf_0 := by decide +kernel
theorem dksX0_elementOf_1 : cX0_elementOf.data.toList.drop 4 = dktX0_elementOf_1 := dk_seg dksX0_elementOf_0 4 rfl rfl
theorem dksX0_elementOf_2 : cX0_elementOf.data.toList.drop 36 = dktX0_elementOf_2 := dk_seg dksX0_elementOf_1 32 rfl rfl
theorem dksX0_elementOf_3 : cX0_elementOf.data.toList.drop 60 = dktX0_elementOf_3 := dk_seg dksX0_elementOf_2 24 rfl rfl
theorem dX0_elementOf_0 : decode cX0_elementOf 0 = .ok (.aload_n 0, 1) := dk_42 (dk_at dksX0_elementOf_0 0 rfl rfl)
theorem dX0_elementOf_1 : decode cX0_elementOf 1 = .ok (.invokestatic 81, 3) := dk_184 0 81 (dk_at dksX0_elementOf_0 1 rfl rfl)
theorem dX0_elementOf_4 : decode cX0_elementOf 4 = .ok (.tableswitch 63 0 3 #[32, 40, 48, 56], 32) := by decide +kernel
theorem dX0_elementOf_36 : decode cX0_elementOf 36 = .ok (.aload_n 0, 1) := dk_42 (dk_at dksX0_elementOf_2 0 rfl rfl)
theorem dX0_elementOf_37 : decode cX0_elementOf 37 = .ok (.checkcast 75, 3) := dk_192 0 75 (dk_at dksX0_elementOf_2 1 rfl rfl)
theorem dX0_elementOf_40 : decode cX0_elementOf 40 = .ok (.iload_n 1, 1) := dk_27 (dk_at dksX0_elementOf_2 4 rfl rfl)
theorem dX0_elementOf_41 : decode cX0_elementOf 41 = .ok (.baload, 1) := dk_51 (dk_at dksX0_elementOf_2 5 rfl rfl)
theorem dX0_elementOf_42 : decode cX0_elementOf 42 = .ok (.i2l, 1) := dk_133 (dk_at dksX0_elementOf_2 6 rfl rfl)
theorem dX0_elementOf_43 : decode cX0_elementOf 43 = .ok (.lreturn, 1) := dk_173 (dk_at dksX0_elementOf_2 7 rfl rfl)
theorem dX0_elementOf_44 : decode cX0_elementOf 44 = .ok (.aload_n 0, 1) := dk_42 (dk_at dksX0_elementOf_2 8 rfl rfl)
theorem dX0_elementOf_45 : decode cX0_elementOf 45 = .ok (.checkcast 77, 3) := dk_192 0 77 (dk_at dksX0_elementOf_2 9 rfl rfl)
theorem dX0_elementOf_48 : decode cX0_elementOf 48 = .ok (.iload_n 1, 1) := dk_27 (dk_at dksX0_elementOf_2 12 rfl rfl)
theorem dX0_elementOf_49 : decode cX0_elementOf 49 = .ok (.saload, 1) := dk_53 (dk_at dksX0_elementOf_2 13 rfl rfl)
theorem dX0_elementOf_50 : decode cX0_elementOf 50 = .ok (.i2l, 1) := dk_133 (dk_at dksX0_elementOf_2 14 rfl rfl)
theorem dX0_elementOf_51 : decode cX0_elementOf 51 = .ok (.lreturn, 1) := dk_173 (dk_at dksX0_elementOf_2 15 rfl rfl)
theorem dX0_elementOf_52 : decode cX0_elementOf 52 = .ok (.aload_n 0, 1) := dk_42 (dk_at dksX0_elementOf_2 16 rfl rfl)
theorem dX0_elementOf_53 : decode cX0_elementOf 53 = .ok (.checkcast 79, 3) := dk_192 0 79 (dk_at dksX0_elementOf_2 17 rfl rfl)
theorem dX0_elementOf_56 : decode cX0_elementOf 56 = .ok (.iload_n 1, 1) := dk_27 (dk_at dksX0_elementOf_2 20 rfl rfl)
theorem dX0_elementOf_57 : decode cX0_elementOf 57 = .ok (.iaload, 1) := dk_46 (dk_at dksX0_elementOf_2 21 rfl rfl)
theorem dX0_elementOf_58 : decode cX0_elementOf 58 = .ok (.i2l, 1) := dk_133 (dk_at dksX0_elementOf_2 22 rfl rfl)
theorem dX0_elementOf_59 : decode cX0_elementOf 59 = .ok (.lreturn, 1) := dk_173 (dk_at dksX0_elementOf_2 23 rfl rfl)
theorem dX0_elementOf_60 : decode cX0_elementOf 60 = .ok (.aload_n 0, 1) := dk_42 (dk_at dksX0_elementOf_3 0 rfl rfl)
theorem dX0_elementOf_61 : decode cX0_elementOf 61 = .ok (.checkcast 80, 3) := dk_192 0 80 (dk_at dksX0_elementOf_3 1 rfl rfl)
theorem dX0_elementOf_64 : decode cX0_elementOf 64 = .ok (.iload_n 1, 1) := dk_27 (dk_at dksX0_elementOf_3 4 rfl rfl)
theorem dX0_elementOf_65 : decode cX0_elementOf 65 = .ok (.laload, 1) := dk_47 (dk_at dksX0_elementOf_3 5 rfl rfl)
theorem dX0_elementOf_66 : decode cX0_elementOf 66 = .ok (.lreturn, 1) := dk_173 (dk_at dksX0_elementOf_3 6 rfl rfl)
theorem dX0_elementOf_67 : decode cX0_elementOf 67 = .ok (.aload_n 0, 1) := dk_42 (dk_at dksX0_elementOf_3 7 rfl rfl)
theorem dX0_elementOf_68 : decode cX0_elementOf 68 = .ok (.checkcast 85, 3) := dk_192 0 85 (dk_at dksX0_elementOf_3 8 rfl rfl)
theorem dX0_elementOf_71 : decode cX0_elementOf 71 = .ok (.iload_n 1, 1) := dk_27 (dk_at dksX0_elementOf_3 11 rfl rfl)
theorem dX0_elementOf_72 : decode cX0_elementOf 72 = .ok (.baload, 1) := dk_51 (dk_at dksX0_elementOf_3 12 rfl rfl)
theorem dX0_elementOf_73 : decode cX0_elementOf 73 = .ok (.ifCond .eq 7, 3) := dk_153 0 7 (dk_at dksX0_elementOf_3 13 rfl rfl)
theorem dX0_elementOf_76 : decode cX0_elementOf 76 = .ok (.lconst 1, 1) := dk_10 (dk_at dksX0_elementOf_3 16 rfl rfl)
theorem dX0_elementOf_77 : decode cX0_elementOf 77 = .ok (.goto 4, 3) := dk_167 0 4 (dk_at dksX0_elementOf_3 17 rfl rfl)
theorem dX0_elementOf_80 : decode cX0_elementOf 80 = .ok (.lconst 0, 1) := dk_9 (dk_at dksX0_elementOf_3 20 rfl rfl)
theorem dX0_elementOf_81 : decode cX0_elementOf 81 = .ok (.lreturn, 1) := dk_173 (dk_at dksX0_elementOf_3 21 rfl rfl)
def dkwX0_holds_2 : List UInt8 := [180, 0, 139, 96, 167, 0, 7, 44, 184, 0, 81, 172]
abbrev dktX0_holds_2 : List UInt8 := dkwX0_holds_2 ++ []
def dkwX0_holds_1 : List UInt8 := [180, 0, 59, 27, 50, 180, 0, 98, 77, 44, 193, 0, 13, 153, 0, 16, 16, 10, 44, 192, 0, 13]
abbrev dktX0_holds_1 : List UInt8 := dkwX0_holds_1 ++ dktX0_holds_2
def dkwX0_holds_0 : List UInt8 := [27, 184, 0, 87, 153, 0, 15, 42, 180, 0, 59, 27, 50, 180, 0, 98, 199, 0, 5, 2, 172, 42]
abbrev dktX0_holds_0 : List UInt8 := dkwX0_holds_0 ++ dktX0_holds_1
theorem dksX0_holds_0 : cX0_holds.data.toList.drop 0 = dktX0_holds_0 := by decide +kernel
theorem dksX0_holds_1 : cX0_holds.data.toList.drop 22 = dktX0_holds_1 := dk_seg dksX0_holds_0 22 rfl rfl
theorem dksX0_holds_2 : cX0_holds.data.toList.drop 44 = dktX0_holds_2 := dk_seg dksX0_holds_1 22 rfl rfl
theorem dX0_holds_0 : decode cX0_holds 0 = .ok (.iload_n 1, 1) := dk_27 (dk_at dksX0_holds_0 0 rfl rfl)
theorem dX0_holds_1 : decode cX0_holds 1 = .ok (.invokestatic 87, 3) := dk_184 0 87 (dk_at dksX0_holds_0 1 rfl rfl)
theorem dX0_holds_4 : decode cX0_holds 4 = .ok (.ifCond .eq 15, 3) := dk_153 0 15 (dk_at dksX0_holds_0 4 rfl rfl)
theorem dX0_holds_7 : decode cX0_holds 7 = .ok (.aload_n 0, 1) := dk_42 (dk_at dksX0_holds_0 7 rfl rfl)
theorem dX0_holds_8 : decode cX0_holds 8 = .ok (.getfield 59, 3) := dk_180 0 59 (dk_at dksX0_holds_0 8 rfl rfl)
theorem dX0_holds_11 : decode cX0_holds 11 = .ok (.iload_n 1, 1) := dk_27 (dk_at dksX0_holds_0 11 rfl rfl)
theorem dX0_holds_12 : decode cX0_holds 12 = .ok (.aaload, 1) := dk_50 (dk_at dksX0_holds_0 12 rfl rfl)
theorem dX0_holds_13 : decode cX0_holds 13 = .ok (.getfield 98, 3) := dk_180 0 98 (dk_at dksX0_holds_0 13 rfl rfl)
theorem dX0_holds_16 : decode cX0_holds 16 = .ok (.ifnonnull 5, 3) := dk_199 0 5 (dk_at dksX0_holds_0 16 rfl rfl)
theorem dX0_holds_19 : decode cX0_holds 19 = .ok (.iconst (-1), 1) := dk_2 (dk_at dksX0_holds_0 19 rfl rfl)
theorem dX0_holds_20 : decode cX0_holds 20 = .ok (.ireturn, 1) := dk_172 (dk_at dksX0_holds_0 20 rfl rfl)
theorem dX0_holds_21 : decode cX0_holds 21 = .ok (.aload_n 0, 1) := dk_42 (dk_at dksX0_holds_0 21 rfl rfl)
theorem dX0_holds_22 : decode cX0_holds 22 = .ok (.getfield 59, 3) := dk_180 0 59 (dk_at dksX0_holds_1 0 rfl rfl)
theorem dX0_holds_25 : decode cX0_holds 25 = .ok (.iload_n 1, 1) := dk_27 (dk_at dksX0_holds_1 3 rfl rfl)
theorem dX0_holds_26 : decode cX0_holds 26 = .ok (.aaload, 1) := dk_50 (dk_at dksX0_holds_1 4 rfl rfl)
theorem dX0_holds_27 : decode cX0_holds 27 = .ok (.getfield 98, 3) := dk_180 0 98 (dk_at dksX0_holds_1 5 rfl rfl)
theorem dX0_holds_30 : decode cX0_holds 30 = .ok (.astore_n 2, 1) := dk_77 (dk_at dksX0_holds_1 8 rfl rfl)
theorem dX0_holds_31 : decode cX0_holds 31 = .ok (.aload_n 2, 1) := dk_44 (dk_at dksX0_holds_1 9 rfl rfl)
theorem dX0_holds_32 : decode cX0_holds 32 = .ok (.instanceof 13, 3) := dk_193 0 13 (dk_at dksX0_holds_1 10 rfl rfl)
theorem dX0_holds_35 : decode cX0_holds 35 = .ok (.ifCond .eq 16, 3) := dk_153 0 16 (dk_at dksX0_holds_1 13 rfl rfl)
theorem dX0_holds_38 : decode cX0_holds 38 = .ok (.bipush 10, 2) := dk_16 10 (dk_at dksX0_holds_1 16 rfl rfl)
theorem dX0_holds_40 : decode cX0_holds 40 = .ok (.aload_n 2, 1) := dk_44 (dk_at dksX0_holds_1 18 rfl rfl)
theorem dX0_holds_41 : decode cX0_holds 41 = .ok (.checkcast 13, 3) := dk_192 0 13 (dk_at dksX0_holds_1 19 rfl rfl)
theorem dX0_holds_44 : decode cX0_holds 44 = .ok (.getfield 139, 3) := dk_180 0 139 (dk_at dksX0_holds_2 0 rfl rfl)
theorem dX0_holds_47 : decode cX0_holds 47 = .ok (.iadd, 1) := dk_96 (dk_at dksX0_holds_2 3 rfl rfl)
theorem dX0_holds_48 : decode cX0_holds 48 = .ok (.goto 7, 3) := dk_167 0 7 (dk_at dksX0_holds_2 4 rfl rfl)
theorem dX0_holds_51 : decode cX0_holds 51 = .ok (.aload_n 2, 1) := dk_44 (dk_at dksX0_holds_2 7 rfl rfl)
theorem dX0_holds_52 : decode cX0_holds 52 = .ok (.invokestatic 81, 3) := dk_184 0 81 (dk_at dksX0_holds_2 8 rfl rfl)
theorem dX0_holds_55 : decode cX0_holds 55 = .ok (.ireturn, 1) := dk_172 (dk_at dksX0_holds_2 11 rfl rfl)
def dkwX0_show_2 : List UInt8 := [180, 0, 42, 180, 0, 146, 28, 50, 181, 0, 98, 4, 172]
abbrev dktX0_show_2 : List UInt8 := dkwX0_show_2 ++ []
def dkwX0_show_1 : List UInt8 := [42, 16, 254, 182, 0, 91, 172, 42, 180, 0, 59, 27, 50, 28, 2, 160, 0, 7, 1, 167, 0, 12, 42]
abbrev dktX0_show_1 : List UInt8 := dkwX0_show_1 ++ dktX0_show_2
def dkwX0_show_0 : List UInt8 := [27, 184, 0, 87, 153, 0, 20, 28, 2, 159, 0, 22, 42, 180, 0, 42, 28, 133, 182, 0, 142, 154, 0, 10]
abbrev dktX0_show_0 : List UInt8 := dkwX0_show_0 ++ dktX0_show_1
theorem dksX0_show_0 : cX0_show.data.toList.drop 0 = dktX0_show_0 := by decide +kernel
theorem dksX0_show_1 : cX0_show.data.toList.drop 24 = dktX0_show_1 := dk_seg dksX0_show_0 24 rfl rfl
theorem dksX0_show_2 : cX0_show.data.toList.drop 47 = dktX0_show_2 := dk_seg dksX0_show_1 23 rfl rfl
theorem dX0_show_0 : decode cX0_show 0 = .ok (.iload_n 1, 1) := dk_27 (dk_at dksX0_show_0 0 rfl rfl)
theorem dX0_show_1 : decode cX0_show 1 = .ok (.invokestatic 87, 3) := dk_184 0 87 (dk_at dksX0_show_0 1 rfl rfl)
theorem dX0_show_4 : decode cX0_show 4 = .ok (.ifCond .eq 20, 3) := dk_153 0 20 (dk_at dksX0_show_0 4 rfl rfl)
theorem dX0_show_7 : decode cX0_show 7 = .ok (.iload_n 2, 1) := dk_28 (dk_at dksX0_show_0 7 rfl rfl)
theorem dX0_show_8 : decode cX0_show 8 = .ok (.iconst (-1), 1) := dk_2 (dk_at dksX0_show_0 8 rfl rfl)
theorem dX0_show_9 : decode cX0_show 9 = .ok (.if_icmp .eq 22, 3) := dk_159 0 22 (dk_at dksX0_show_0 9 rfl rfl)
theorem dX0_show_12 : decode cX0_show 12 = .ok (.aload_n 0, 1) := dk_42 (dk_at dksX0_show_0 12 rfl rfl)
theorem dX0_show_13 : decode cX0_show 13 = .ok (.getfield 42, 3) := dk_180 0 42 (dk_at dksX0_show_0 13 rfl rfl)
theorem dX0_show_16 : decode cX0_show 16 = .ok (.iload_n 2, 1) := dk_28 (dk_at dksX0_show_0 16 rfl rfl)
theorem dX0_show_17 : decode cX0_show 17 = .ok (.i2l, 1) := dk_133 (dk_at dksX0_show_0 17 rfl rfl)
theorem dX0_show_18 : decode cX0_show 18 = .ok (.invokevirtual 142, 3) := dk_182 0 142 (dk_at dksX0_show_0 18 rfl rfl)
theorem dX0_show_21 : decode cX0_show 21 = .ok (.ifCond .ne 10, 3) := dk_154 0 10 (dk_at dksX0_show_0 21 rfl rfl)
theorem dX0_show_24 : decode cX0_show 24 = .ok (.aload_n 0, 1) := dk_42 (dk_at dksX0_show_1 0 rfl rfl)
theorem dX0_show_25 : decode cX0_show 25 = .ok (.bipush (-2), 2) := dk_16 254 (dk_at dksX0_show_1 1 rfl rfl)
theorem dX0_show_27 : decode cX0_show 27 = .ok (.invokevirtual 91, 3) := dk_182 0 91 (dk_at dksX0_show_1 3 rfl rfl)
theorem dX0_show_30 : decode cX0_show 30 = .ok (.ireturn, 1) := dk_172 (dk_at dksX0_show_1 6 rfl rfl)
theorem dX0_show_31 : decode cX0_show 31 = .ok (.aload_n 0, 1) := dk_42 (dk_at dksX0_show_1 7 rfl rfl)
theorem dX0_show_32 : decode cX0_show 32 = .ok (.getfield 59, 3) := dk_180 0 59 (dk_at dksX0_show_1 8 rfl rfl)
theorem dX0_show_35 : decode cX0_show 35 = .ok (.iload_n 1, 1) := dk_27 (dk_at dksX0_show_1 11 rfl rfl)
theorem dX0_show_36 : decode cX0_show 36 = .ok (.aaload, 1) := dk_50 (dk_at dksX0_show_1 12 rfl rfl)
theorem dX0_show_37 : decode cX0_show 37 = .ok (.iload_n 2, 1) := dk_28 (dk_at dksX0_show_1 13 rfl rfl)
theorem dX0_show_38 : decode cX0_show 38 = .ok (.iconst (-1), 1) := dk_2 (dk_at dksX0_show_1 14 rfl rfl)
theorem dX0_show_39 : decode cX0_show 39 = .ok (.if_icmp .ne 7, 3) := dk_160 0 7 (dk_at dksX0_show_1 15 rfl rfl)
theorem dX0_show_42 : decode cX0_show 42 = .ok (.aconst_null, 1) := dk_1 (dk_at dksX0_show_1 18 rfl rfl)
theorem dX0_show_43 : decode cX0_show 43 = .ok (.goto 12, 3) := dk_167 0 12 (dk_at dksX0_show_1 19 rfl rfl)
theorem dX0_show_46 : decode cX0_show 46 = .ok (.aload_n 0, 1) := dk_42 (dk_at dksX0_show_1 22 rfl rfl)
theorem dX0_show_47 : decode cX0_show 47 = .ok (.getfield 42, 3) := dk_180 0 42 (dk_at dksX0_show_2 0 rfl rfl)
theorem dX0_show_50 : decode cX0_show 50 = .ok (.getfield 146, 3) := dk_180 0 146 (dk_at dksX0_show_2 3 rfl rfl)
theorem dX0_show_53 : decode cX0_show 53 = .ok (.iload_n 2, 1) := dk_28 (dk_at dksX0_show_2 6 rfl rfl)
theorem dX0_show_54 : decode cX0_show 54 = .ok (.aaload, 1) := dk_50 (dk_at dksX0_show_2 7 rfl rfl)
theorem dX0_show_55 : decode cX0_show 55 = .ok (.putfield 98, 3) := dk_181 0 98 (dk_at dksX0_show_2 8 rfl rfl)
theorem dX0_show_58 : decode cX0_show 58 = .ok (.iconst 1, 1) := dk_4 (dk_at dksX0_show_2 11 rfl rfl)
theorem dX0_show_59 : decode cX0_show 59 = .ok (.ireturn, 1) := dk_172 (dk_at dksX0_show_2 12 rfl rfl)
def dkwX0_says_5 : List UInt8 := [192, 0, 31, 182, 0, 161, 172, 58, 4, 42, 16, 253, 182, 0, 91, 172]
abbrev dktX0_says_5 : List UInt8 := dkwX0_says_5 ++ []
def dkwX0_says_4 : List UInt8 := [182, 0, 161, 172, 42, 45, 192, 0, 25, 182, 0, 161, 172, 42, 45, 192, 0, 28, 182, 0, 161, 172, 42, 45]
abbrev dktX0_says_4 : List UInt8 := dkwX0_says_4 ++ dktX0_says_5
def dkwX0_says_3 : List UInt8 := [45, 192, 0, 13, 180, 0, 158, 172, 42, 45, 192, 0, 19, 182, 0, 161, 172, 42, 45, 192, 0, 22]
abbrev dktX0_says_3 : List UInt8 := dkwX0_says_3 ++ dktX0_says_4
def dkwX0_says_2 : List UInt8 := [170, 0, 0, 0, 0, 0, 79, 0, 0, 0, 0, 0, 0, 0, 4, 0, 0, 0, 35, 0, 0, 0, 43, 0, 0, 0, 52, 0, 0, 0, 61, 0, 0, 0, 70]
abbrev dktX0_says_2 : List UInt8 := dkwX0_says_2 ++ dktX0_says_3
def dkwX0_says_1 : List UInt8 := [180, 0, 59, 27, 50, 180, 0, 98, 78, 45, 199, 0, 10, 42, 16, 252, 182, 0, 91, 172, 28]
abbrev dktX0_says_1 : List UInt8 := dkwX0_says_1 ++ dktX0_says_2
def dkwX0_says_0 : List UInt8 := [27, 184, 0, 87, 153, 0, 12, 28, 3, 8, 184, 0, 71, 154, 0, 10, 42, 16, 254, 182, 0, 91, 172, 42]
abbrev dktX0_says_0 : List UInt8 := dkwX0_says_0 ++ dktX0_says_1
theorem dksX0_says_0 : cX0_says.data.toList.drop 0 = dktX0_says_0 := by decide +kernel
theorem dksX0_says_1 : cX0_says.data.toList.drop 24 = dktX0_says_1 := dk_seg dksX0_says_0 24 rfl rfl
theorem dksX0_says_2 : cX0_says.data.toList.drop 45 = dktX0_says_2 := dk_seg dksX0_says_1 21 rfl rfl
theorem dksX0_says_3 : cX0_says.data.toList.drop 80 = dktX0_says_3 := dk_seg dksX0_says_2 35 rfl rfl
theorem dksX0_says_4 : cX0_says.data.toList.drop 102 = dktX0_says_4 := dk_seg dksX0_says_3 22 rfl rfl
theorem dksX0_says_5 : cX0_says.data.toList.drop 126 = dktX0_says_5 := dk_seg dksX0_says_4 24 rfl rfl
theorem dX0_says_0 : decode cX0_says 0 = .ok (.iload_n 1, 1) := dk_27 (dk_at dksX0_says_0 0 rfl rfl)
theorem dX0_says_1 : decode cX0_says 1 = .ok (.invokestatic 87, 3) := dk_184 0 87 (dk_at dksX0_says_0 1 rfl rfl)
theorem dX0_says_4 : decode cX0_says 4 = .ok (.ifCond .eq 12, 3) := dk_153 0 12 (dk_at dksX0_says_0 4 rfl rfl)
theorem dX0_says_7 : decode cX0_says 7 = .ok (.iload_n 2, 1) := dk_28 (dk_at dksX0_says_0 7 rfl rfl)
theorem dX0_says_8 : decode cX0_says 8 = .ok (.iconst 0, 1) := dk_3 (dk_at dksX0_says_0 8 rfl rfl)
theorem dX0_says_9 : decode cX0_says 9 = .ok (.iconst 5, 1) := dk_8 (dk_at dksX0_says_0 9 rfl rfl)
theorem dX0_says_10 : decode cX0_says 10 = .ok (.invokestatic 71, 3) := dk_184 0 71 (dk_at dksX0_says_0 10 rfl rfl)
theorem dX0_says_13 : decode cX0_says 13 = .ok (.ifCond .ne 10, 3) := dk_154 0 10 (dk_at dksX0_says_0 13 rfl rfl)
theorem dX0_says_16 : decode cX0_says 16 = .ok (.aload_n 0, 1) := dk_42 (dk_at dksX0_says_0 16 rfl rfl)
theorem dX0_says_17 : decode cX0_says 17 = .ok (.bipush (-2), 2) := dk_16 254 (dk_at dksX0_says_0 17 rfl rfl)
theorem dX0_says_19 : decode cX0_says 19 = .ok (.invokevirtual 91, 3) := dk_182 0 91 (dk_at dksX0_says_0 19 rfl rfl)
theorem dX0_says_22 : decode cX0_says 22 = .ok (.ireturn, 1) := dk_172 (dk_at dksX0_says_0 22 rfl rfl)
theorem dX0_says_23 : decode cX0_says 23 = .ok (.aload_n 0, 1) := dk_42 (dk_at dksX0_says_0 23 rfl rfl)
theorem dX0_says_24 : decode cX0_says 24 = .ok (.getfield 59, 3) := dk_180 0 59 (dk_at dksX0_says_1 0 rfl rfl)
theorem dX0_says_27 : decode cX0_says 27 = .ok (.iload_n 1, 1) := dk_27 (dk_at dksX0_says_1 3 rfl rfl)
theorem dX0_says_28 : decode cX0_says 28 = .ok (.aaload, 1) := dk_50 (dk_at dksX0_says_1 4 rfl rfl)
theorem dX0_says_29 : decode cX0_says 29 = .ok (.getfield 98, 3) := dk_180 0 98 (dk_at dksX0_says_1 5 rfl rfl)
theorem dX0_says_32 : decode cX0_says 32 = .ok (.astore_n 3, 1) := dk_78 (dk_at dksX0_says_1 8 rfl rfl)
theorem dX0_says_33 : decode cX0_says 33 = .ok (.aload_n 3, 1) := dk_45 (dk_at dksX0_says_1 9 rfl rfl)
theorem dX0_says_34 : decode cX0_says 34 = .ok (.ifnonnull 10, 3) := dk_199 0 10 (dk_at dksX0_says_1 10 rfl rfl)
theorem dX0_says_37 : decode cX0_says 37 = .ok (.aload_n 0, 1) := dk_42 (dk_at dksX0_says_1 13 rfl rfl)
theorem dX0_says_38 : decode cX0_says 38 = .ok (.bipush (-4), 2) := dk_16 252 (dk_at dksX0_says_1 14 rfl rfl)
theorem dX0_says_40 : decode cX0_says 40 = .ok (.invokevirtual 91, 3) := dk_182 0 91 (dk_at dksX0_says_1 16 rfl rfl)
theorem dX0_says_43 : decode cX0_says 43 = .ok (.ireturn, 1) := dk_172 (dk_at dksX0_says_1 19 rfl rfl)
theorem dX0_says_44 : decode cX0_says 44 = .ok (.iload_n 2, 1) := dk_28 (dk_at dksX0_says_1 20 rfl rfl)
theorem dX0_says_45 : decode cX0_says 45 = .ok (.tableswitch 79 0 4 #[35, 43, 52, 61, 70], 35) := by decide +kernel
theorem dX0_says_80 : decode cX0_says 80 = .ok (.aload_n 3, 1) := dk_45 (dk_at dksX0_says_3 0 rfl rfl)
theorem dX0_says_81 : decode cX0_says 81 = .ok (.checkcast 13, 3) := dk_192 0 13 (dk_at dksX0_says_3 1 rfl rfl)
theorem dX0_says_84 : decode cX0_says 84 = .ok (.getfield 158, 3) := dk_180 0 158 (dk_at dksX0_says_3 4 rfl rfl)
theorem dX0_says_87 : decode cX0_says 87 = .ok (.ireturn, 1) := dk_172 (dk_at dksX0_says_3 7 rfl rfl)
theorem dX0_says_88 : decode cX0_says 88 = .ok (.aload_n 0, 1) := dk_42 (dk_at dksX0_says_3 8 rfl rfl)
theorem dX0_says_89 : decode cX0_says 89 = .ok (.aload_n 3, 1) := dk_45 (dk_at dksX0_says_3 9 rfl rfl)
theorem dX0_says_90 : decode cX0_says 90 = .ok (.checkcast 19, 3) := dk_192 0 19 (dk_at dksX0_says_3 10 rfl rfl)
theorem dX0_says_93 : decode cX0_says 93 = .ok (.invokevirtual 161, 3) := dk_182 0 161 (dk_at dksX0_says_3 13 rfl rfl)
theorem dX0_says_96 : decode cX0_says 96 = .ok (.ireturn, 1) := dk_172 (dk_at dksX0_says_3 16 rfl rfl)
theorem dX0_says_97 : decode cX0_says 97 = .ok (.aload_n 0, 1) := dk_42 (dk_at dksX0_says_3 17 rfl rfl)
theorem dX0_says_98 : decode cX0_says 98 = .ok (.aload_n 3, 1) := dk_45 (dk_at dksX0_says_3 18 rfl rfl)
theorem dX0_says_99 : decode cX0_says 99 = .ok (.checkcast 22, 3) := dk_192 0 22 (dk_at dksX0_says_3 19 rfl rfl)
theorem dX0_says_102 : decode cX0_says 102 = .ok (.invokevirtual 161, 3) := dk_182 0 161 (dk_at dksX0_says_4 0 rfl rfl)
theorem dX0_says_105 : decode cX0_says 105 = .ok (.ireturn, 1) := dk_172 (dk_at dksX0_says_4 3 rfl rfl)
theorem dX0_says_106 : decode cX0_says 106 = .ok (.aload_n 0, 1) := dk_42 (dk_at dksX0_says_4 4 rfl rfl)
theorem dX0_says_107 : decode cX0_says 107 = .ok (.aload_n 3, 1) := dk_45 (dk_at dksX0_says_4 5 rfl rfl)
theorem dX0_says_108 : decode cX0_says 108 = .ok (.checkcast 25, 3) := dk_192 0 25 (dk_at dksX0_says_4 6 rfl rfl)
theorem dX0_says_111 : decode cX0_says 111 = .ok (.invokevirtual 161, 3) := dk_182 0 161 (dk_at dksX0_says_4 9 rfl rfl)
theorem dX0_says_114 : decode cX0_says 114 = .ok (.ireturn, 1) := dk_172 (dk_at dksX0_says_4 12 rfl rfl)
theorem dX0_says_115 : decode cX0_says 115 = .ok (.aload_n 0, 1) := dk_42 (dk_at dksX0_says_4 13 rfl rfl)
theorem dX0_says_116 : decode cX0_says 116 = .ok (.aload_n 3, 1) := dk_45 (dk_at dksX0_says_4 14 rfl rfl)
theorem dX0_says_117 : decode cX0_says 117 = .ok (.checkcast 28, 3) := dk_192 0 28 (dk_at dksX0_says_4 15 rfl rfl)
theorem dX0_says_120 : decode cX0_says 120 = .ok (.invokevirtual 161, 3) := dk_182 0 161 (dk_at dksX0_says_4 18 rfl rfl)
theorem dX0_says_123 : decode cX0_says 123 = .ok (.ireturn, 1) := dk_172 (dk_at dksX0_says_4 21 rfl rfl)
theorem dX0_says_124 : decode cX0_says 124 = .ok (.aload_n 0, 1) := dk_42 (dk_at dksX0_says_4 22 rfl rfl)
theorem dX0_says_125 : decode cX0_says 125 = .ok (.aload_n 3, 1) := dk_45 (dk_at dksX0_says_4 23 rfl rfl)
theorem dX0_says_126 : decode cX0_says 126 = .ok (.checkcast 31, 3) := dk_192 0 31 (dk_at dksX0_says_5 0 rfl rfl)
theorem dX0_says_129 : decode cX0_says 129 = .ok (.invokevirtual 161, 3) := dk_182 0 161 (dk_at dksX0_says_5 3 rfl rfl)
theorem dX0_says_132 : decode cX0_says 132 = .ok (.ireturn, 1) := dk_172 (dk_at dksX0_says_5 6 rfl rfl)
theorem dX0_says_133 : decode cX0_says 133 = .ok (.astore 4, 2) := dk_58 4 (dk_at dksX0_says_5 7 rfl rfl)
theorem dX0_says_135 : decode cX0_says 135 = .ok (.aload_n 0, 1) := dk_42 (dk_at dksX0_says_5 9 rfl rfl)
theorem dX0_says_136 : decode cX0_says 136 = .ok (.bipush (-3), 2) := dk_16 253 (dk_at dksX0_says_5 10 rfl rfl)
theorem dX0_says_138 : decode cX0_says 138 = .ok (.invokevirtual 91, 3) := dk_182 0 91 (dk_at dksX0_says_5 12 rfl rfl)
theorem dX0_says_141 : decode cX0_says 141 = .ok (.ireturn, 1) := dk_172 (dk_at dksX0_says_5 15 rfl rfl)
def dkwX0_armOf_0 : List UInt8 := [43, 42, 180, 0, 42, 182, 0, 150, 182, 0, 154, 172]
abbrev dktX0_armOf_0 : List UInt8 := dkwX0_armOf_0 ++ []
theorem dksX0_armOf_0 : cX0_armOf.data.toList.drop 0 = dktX0_armOf_0 := by decide +kernel
theorem dX0_armOf_0 : decode cX0_armOf 0 = .ok (.aload_n 1, 1) := dk_43 (dk_at dksX0_armOf_0 0 rfl rfl)
theorem dX0_armOf_1 : decode cX0_armOf 1 = .ok (.aload_n 0, 1) := dk_42 (dk_at dksX0_armOf_0 1 rfl rfl)
theorem dX0_armOf_2 : decode cX0_armOf 2 = .ok (.getfield 42, 3) := dk_180 0 42 (dk_at dksX0_armOf_0 2 rfl rfl)
theorem dX0_armOf_5 : decode cX0_armOf 5 = .ok (.invokevirtual 150, 3) := dk_182 0 150 (dk_at dksX0_armOf_0 5 rfl rfl)
theorem dX0_armOf_8 : decode cX0_armOf 8 = .ok (.invokevirtual 154, 3) := dk_182 0 154 (dk_at dksX0_armOf_0 8 rfl rfl)
theorem dX0_armOf_11 : decode cX0_armOf 11 = .ok (.ireturn, 1) := dk_172 (dk_at dksX0_armOf_0 11 rfl rfl)
def dkwX0_far_1 : List UInt8 := [96, 172]
abbrev dktX0_far_1 : List UInt8 := dkwX0_far_1 ++ []
def dkwX0_far_0 : List UInt8 := [26, 16, 10, 108, 27, 16, 10, 108, 100, 184, 0, 1, 26, 16, 10, 112, 27, 16, 10, 112, 100, 184, 0, 1]
abbrev dktX0_far_0 : List UInt8 := dkwX0_far_0 ++ dktX0_far_1
theorem dksX0_far_0 : cX0_far.data.toList.drop 0 = dktX0_far_0 := by decide +kernel
theorem dksX0_far_1 : cX0_far.data.toList.drop 24 = dktX0_far_1 := dk_seg dksX0_far_0 24 rfl rfl
theorem dX0_far_0 : decode cX0_far 0 = .ok (.iload_n 0, 1) := dk_26 (dk_at dksX0_far_0 0 rfl rfl)
theorem dX0_far_1 : decode cX0_far 1 = .ok (.bipush 10, 2) := dk_16 10 (dk_at dksX0_far_0 1 rfl rfl)
theorem dX0_far_3 : decode cX0_far 3 = .ok (.idiv, 1) := dk_108 (dk_at dksX0_far_0 3 rfl rfl)
theorem dX0_far_4 : decode cX0_far 4 = .ok (.iload_n 1, 1) := dk_27 (dk_at dksX0_far_0 4 rfl rfl)
theorem dX0_far_5 : decode cX0_far 5 = .ok (.bipush 10, 2) := dk_16 10 (dk_at dksX0_far_0 5 rfl rfl)
theorem dX0_far_7 : decode cX0_far 7 = .ok (.idiv, 1) := dk_108 (dk_at dksX0_far_0 7 rfl rfl)
theorem dX0_far_8 : decode cX0_far 8 = .ok (.isub, 1) := dk_100 (dk_at dksX0_far_0 8 rfl rfl)
theorem dX0_far_9 : decode cX0_far 9 = .ok (.invokestatic 1, 3) := dk_184 0 1 (dk_at dksX0_far_0 9 rfl rfl)
theorem dX0_far_12 : decode cX0_far 12 = .ok (.iload_n 0, 1) := dk_26 (dk_at dksX0_far_0 12 rfl rfl)
theorem dX0_far_13 : decode cX0_far 13 = .ok (.bipush 10, 2) := dk_16 10 (dk_at dksX0_far_0 13 rfl rfl)
theorem dX0_far_15 : decode cX0_far 15 = .ok (.irem, 1) := dk_112 (dk_at dksX0_far_0 15 rfl rfl)
theorem dX0_far_16 : decode cX0_far 16 = .ok (.iload_n 1, 1) := dk_27 (dk_at dksX0_far_0 16 rfl rfl)
theorem dX0_far_17 : decode cX0_far 17 = .ok (.bipush 10, 2) := dk_16 10 (dk_at dksX0_far_0 17 rfl rfl)
theorem dX0_far_19 : decode cX0_far 19 = .ok (.irem, 1) := dk_112 (dk_at dksX0_far_0 19 rfl rfl)
theorem dX0_far_20 : decode cX0_far 20 = .ok (.isub, 1) := dk_100 (dk_at dksX0_far_0 20 rfl rfl)
theorem dX0_far_21 : decode cX0_far 21 = .ok (.invokestatic 1, 3) := dk_184 0 1 (dk_at dksX0_far_0 21 rfl rfl)
theorem dX0_far_24 : decode cX0_far 24 = .ok (.iadd, 1) := dk_96 (dk_at dksX0_far_1 0 rfl rfl)
theorem dX0_far_25 : decode cX0_far 25 = .ok (.ireturn, 1) := dk_172 (dk_at dksX0_far_1 1 rfl rfl)
def dkwX0_wayOf_0 : List UInt8 := [27, 16, 10, 108, 26, 16, 10, 108, 100, 27, 16, 10, 112, 26, 16, 10, 112, 100, 184, 0, 9, 172]
abbrev dktX0_wayOf_0 : List UInt8 := dkwX0_wayOf_0 ++ []
theorem dksX0_wayOf_0 : cX0_wayOf.data.toList.drop 0 = dktX0_wayOf_0 := by decide +kernel
theorem dX0_wayOf_0 : decode cX0_wayOf 0 = .ok (.iload_n 1, 1) := dk_27 (dk_at dksX0_wayOf_0 0 rfl rfl)
theorem dX0_wayOf_1 : decode cX0_wayOf 1 = .ok (.bipush 10, 2) := dk_16 10 (dk_at dksX0_wayOf_0 1 rfl rfl)
theorem dX0_wayOf_3 : decode cX0_wayOf 3 = .ok (.idiv, 1) := dk_108 (dk_at dksX0_wayOf_0 3 rfl rfl)
theorem dX0_wayOf_4 : decode cX0_wayOf 4 = .ok (.iload_n 0, 1) := dk_26 (dk_at dksX0_wayOf_0 4 rfl rfl)
theorem dX0_wayOf_5 : decode cX0_wayOf 5 = .ok (.bipush 10, 2) := dk_16 10 (dk_at dksX0_wayOf_0 5 rfl rfl)
theorem dX0_wayOf_7 : decode cX0_wayOf 7 = .ok (.idiv, 1) := dk_108 (dk_at dksX0_wayOf_0 7 rfl rfl)
theorem dX0_wayOf_8 : decode cX0_wayOf 8 = .ok (.isub, 1) := dk_100 (dk_at dksX0_wayOf_0 8 rfl rfl)
theorem dX0_wayOf_9 : decode cX0_wayOf 9 = .ok (.iload_n 1, 1) := dk_27 (dk_at dksX0_wayOf_0 9 rfl rfl)
theorem dX0_wayOf_10 : decode cX0_wayOf 10 = .ok (.bipush 10, 2) := dk_16 10 (dk_at dksX0_wayOf_0 10 rfl rfl)
theorem dX0_wayOf_12 : decode cX0_wayOf 12 = .ok (.irem, 1) := dk_112 (dk_at dksX0_wayOf_0 12 rfl rfl)
theorem dX0_wayOf_13 : decode cX0_wayOf 13 = .ok (.iload_n 0, 1) := dk_26 (dk_at dksX0_wayOf_0 13 rfl rfl)
theorem dX0_wayOf_14 : decode cX0_wayOf 14 = .ok (.bipush 10, 2) := dk_16 10 (dk_at dksX0_wayOf_0 14 rfl rfl)
theorem dX0_wayOf_16 : decode cX0_wayOf 16 = .ok (.irem, 1) := dk_112 (dk_at dksX0_wayOf_0 16 rfl rfl)
theorem dX0_wayOf_17 : decode cX0_wayOf 17 = .ok (.isub, 1) := dk_100 (dk_at dksX0_wayOf_0 17 rfl rfl)
theorem dX0_wayOf_18 : decode cX0_wayOf 18 = .ok (.invokestatic 9, 3) := dk_184 0 9 (dk_at dksX0_wayOf_0 18 rfl rfl)
theorem dX0_wayOf_21 : decode cX0_wayOf 21 = .ok (.ireturn, 1) := dk_172 (dk_at dksX0_wayOf_0 21 rfl rfl)
def dkwX0_wayBy_3 : List UInt8 := [167, 0, 12, 27, 158, 0, 7, 6, 167, 0, 4, 8, 172]
abbrev dktX0_wayBy_3 : List UInt8 := dkwX0_wayBy_3 ++ []
def dkwX0_wayBy_2 : List UInt8 := [158, 0, 7, 5, 167, 0, 5, 16, 6, 172, 26, 156, 0, 16, 27, 158, 0, 7, 4, 167, 0, 17, 16, 7]
abbrev dktX0_wayBy_2 : List UInt8 := dkwX0_wayBy_2 ++ dktX0_wayBy_3
def dkwX0_wayBy_1 : List UInt8 := [26, 156, 0, 7, 3, 167, 0, 4, 7, 172, 5, 26, 184, 0, 1, 104, 27, 184, 0, 1, 162, 0, 14, 27]
abbrev dktX0_wayBy_1 : List UInt8 := dkwX0_wayBy_1 ++ dktX0_wayBy_2
def dkwX0_wayBy_0 : List UInt8 := [26, 154, 0, 10, 27, 154, 0, 6, 16, 8, 172, 5, 27, 184, 0, 1, 104, 26, 184, 0, 1, 162, 0, 13]
abbrev dktX0_wayBy_0 : List UInt8 := dkwX0_wayBy_0 ++ dktX0_wayBy_1
theorem dksX0_wayBy_0 : cX0_wayBy.data.toList.drop 0 = dktX0_wayBy_0 := by decide +kernel
theorem dksX0_wayBy_1 : cX0_wayBy.data.toList.drop 24 = dktX0_wayBy_1 := dk_seg dksX0_wayBy_0 24 rfl rfl
theorem dksX0_wayBy_2 : cX0_wayBy.data.toList.drop 48 = dktX0_wayBy_2 := dk_seg dksX0_wayBy_1 24 rfl rfl
theorem dksX0_wayBy_3 : cX0_wayBy.data.toList.drop 72 = dktX0_wayBy_3 := dk_seg dksX0_wayBy_2 24 rfl rfl
theorem dX0_wayBy_0 : decode cX0_wayBy 0 = .ok (.iload_n 0, 1) := dk_26 (dk_at dksX0_wayBy_0 0 rfl rfl)
theorem dX0_wayBy_1 : decode cX0_wayBy 1 = .ok (.ifCond .ne 10, 3) := dk_154 0 10 (dk_at dksX0_wayBy_0 1 rfl rfl)
theorem dX0_wayBy_4 : decode cX0_wayBy 4 = .ok (.iload_n 1, 1) := dk_27 (dk_at dksX0_wayBy_0 4 rfl rfl)
theorem dX0_wayBy_5 : decode cX0_wayBy 5 = .ok (.ifCond .ne 6, 3) := dk_154 0 6 (dk_at dksX0_wayBy_0 5 rfl rfl)
theorem dX0_wayBy_8 : decode cX0_wayBy 8 = .ok (.bipush 8, 2) := dk_16 8 (dk_at dksX0_wayBy_0 8 rfl rfl)
theorem dX0_wayBy_10 : decode cX0_wayBy 10 = .ok (.ireturn, 1) := dk_172 (dk_at dksX0_wayBy_0 10 rfl rfl)
theorem dX0_wayBy_11 : decode cX0_wayBy 11 = .ok (.iconst 2, 1) := dk_5 (dk_at dksX0_wayBy_0 11 rfl rfl)
theorem dX0_wayBy_12 : decode cX0_wayBy 12 = .ok (.iload_n 1, 1) := dk_27 (dk_at dksX0_wayBy_0 12 rfl rfl)
theorem dX0_wayBy_13 : decode cX0_wayBy 13 = .ok (.invokestatic 1, 3) := dk_184 0 1 (dk_at dksX0_wayBy_0 13 rfl rfl)
theorem dX0_wayBy_16 : decode cX0_wayBy 16 = .ok (.imul, 1) := dk_104 (dk_at dksX0_wayBy_0 16 rfl rfl)
theorem dX0_wayBy_17 : decode cX0_wayBy 17 = .ok (.iload_n 0, 1) := dk_26 (dk_at dksX0_wayBy_0 17 rfl rfl)
theorem dX0_wayBy_18 : decode cX0_wayBy 18 = .ok (.invokestatic 1, 3) := dk_184 0 1 (dk_at dksX0_wayBy_0 18 rfl rfl)
theorem dX0_wayBy_21 : decode cX0_wayBy 21 = .ok (.if_icmp .ge 13, 3) := dk_162 0 13 (dk_at dksX0_wayBy_0 21 rfl rfl)
theorem dX0_wayBy_24 : decode cX0_wayBy 24 = .ok (.iload_n 0, 1) := dk_26 (dk_at dksX0_wayBy_1 0 rfl rfl)
theorem dX0_wayBy_25 : decode cX0_wayBy 25 = .ok (.ifCond .ge 7, 3) := dk_156 0 7 (dk_at dksX0_wayBy_1 1 rfl rfl)
theorem dX0_wayBy_28 : decode cX0_wayBy 28 = .ok (.iconst 0, 1) := dk_3 (dk_at dksX0_wayBy_1 4 rfl rfl)
theorem dX0_wayBy_29 : decode cX0_wayBy 29 = .ok (.goto 4, 3) := dk_167 0 4 (dk_at dksX0_wayBy_1 5 rfl rfl)
theorem dX0_wayBy_32 : decode cX0_wayBy 32 = .ok (.iconst 4, 1) := dk_7 (dk_at dksX0_wayBy_1 8 rfl rfl)
theorem dX0_wayBy_33 : decode cX0_wayBy 33 = .ok (.ireturn, 1) := dk_172 (dk_at dksX0_wayBy_1 9 rfl rfl)
theorem dX0_wayBy_34 : decode cX0_wayBy 34 = .ok (.iconst 2, 1) := dk_5 (dk_at dksX0_wayBy_1 10 rfl rfl)
theorem dX0_wayBy_35 : decode cX0_wayBy 35 = .ok (.iload_n 0, 1) := dk_26 (dk_at dksX0_wayBy_1 11 rfl rfl)
theorem dX0_wayBy_36 : decode cX0_wayBy 36 = .ok (.invokestatic 1, 3) := dk_184 0 1 (dk_at dksX0_wayBy_1 12 rfl rfl)
theorem dX0_wayBy_39 : decode cX0_wayBy 39 = .ok (.imul, 1) := dk_104 (dk_at dksX0_wayBy_1 15 rfl rfl)
theorem dX0_wayBy_40 : decode cX0_wayBy 40 = .ok (.iload_n 1, 1) := dk_27 (dk_at dksX0_wayBy_1 16 rfl rfl)
theorem dX0_wayBy_41 : decode cX0_wayBy 41 = .ok (.invokestatic 1, 3) := dk_184 0 1 (dk_at dksX0_wayBy_1 17 rfl rfl)
theorem dX0_wayBy_44 : decode cX0_wayBy 44 = .ok (.if_icmp .ge 14, 3) := dk_162 0 14 (dk_at dksX0_wayBy_1 20 rfl rfl)
theorem dX0_wayBy_47 : decode cX0_wayBy 47 = .ok (.iload_n 1, 1) := dk_27 (dk_at dksX0_wayBy_1 23 rfl rfl)
theorem dX0_wayBy_48 : decode cX0_wayBy 48 = .ok (.ifCond .le 7, 3) := dk_158 0 7 (dk_at dksX0_wayBy_2 0 rfl rfl)
theorem dX0_wayBy_51 : decode cX0_wayBy 51 = .ok (.iconst 2, 1) := dk_5 (dk_at dksX0_wayBy_2 3 rfl rfl)
theorem dX0_wayBy_52 : decode cX0_wayBy 52 = .ok (.goto 5, 3) := dk_167 0 5 (dk_at dksX0_wayBy_2 4 rfl rfl)
theorem dX0_wayBy_55 : decode cX0_wayBy 55 = .ok (.bipush 6, 2) := dk_16 6 (dk_at dksX0_wayBy_2 7 rfl rfl)
theorem dX0_wayBy_57 : decode cX0_wayBy 57 = .ok (.ireturn, 1) := dk_172 (dk_at dksX0_wayBy_2 9 rfl rfl)
theorem dX0_wayBy_58 : decode cX0_wayBy 58 = .ok (.iload_n 0, 1) := dk_26 (dk_at dksX0_wayBy_2 10 rfl rfl)
theorem dX0_wayBy_59 : decode cX0_wayBy 59 = .ok (.ifCond .ge 16, 3) := dk_156 0 16 (dk_at dksX0_wayBy_2 11 rfl rfl)
theorem dX0_wayBy_62 : decode cX0_wayBy 62 = .ok (.iload_n 1, 1) := dk_27 (dk_at dksX0_wayBy_2 14 rfl rfl)
theorem dX0_wayBy_63 : decode cX0_wayBy 63 = .ok (.ifCond .le 7, 3) := dk_158 0 7 (dk_at dksX0_wayBy_2 15 rfl rfl)
theorem dX0_wayBy_66 : decode cX0_wayBy 66 = .ok (.iconst 1, 1) := dk_4 (dk_at dksX0_wayBy_2 18 rfl rfl)
theorem dX0_wayBy_67 : decode cX0_wayBy 67 = .ok (.goto 17, 3) := dk_167 0 17 (dk_at dksX0_wayBy_2 19 rfl rfl)
theorem dX0_wayBy_70 : decode cX0_wayBy 70 = .ok (.bipush 7, 2) := dk_16 7 (dk_at dksX0_wayBy_2 22 rfl rfl)
theorem dX0_wayBy_72 : decode cX0_wayBy 72 = .ok (.goto 12, 3) := dk_167 0 12 (dk_at dksX0_wayBy_3 0 rfl rfl)
theorem dX0_wayBy_75 : decode cX0_wayBy 75 = .ok (.iload_n 1, 1) := dk_27 (dk_at dksX0_wayBy_3 3 rfl rfl)
theorem dX0_wayBy_76 : decode cX0_wayBy 76 = .ok (.ifCond .le 7, 3) := dk_158 0 7 (dk_at dksX0_wayBy_3 4 rfl rfl)
theorem dX0_wayBy_79 : decode cX0_wayBy 79 = .ok (.iconst 3, 1) := dk_6 (dk_at dksX0_wayBy_3 7 rfl rfl)
theorem dX0_wayBy_80 : decode cX0_wayBy 80 = .ok (.goto 4, 3) := dk_167 0 4 (dk_at dksX0_wayBy_3 8 rfl rfl)
theorem dX0_wayBy_83 : decode cX0_wayBy 83 = .ok (.iconst 5, 1) := dk_8 (dk_at dksX0_wayBy_3 11 rfl rfl)
theorem dX0_wayBy_84 : decode cX0_wayBy 84 = .ok (.ireturn, 1) := dk_172 (dk_at dksX0_wayBy_3 12 rfl rfl)
def dkwX0_turned_0 : List UInt8 := [26, 2, 159, 0, 9, 26, 16, 8, 160, 0, 7, 26, 167, 0, 9, 26, 27, 96, 16, 8, 112, 172]
abbrev dktX0_turned_0 : List UInt8 := dkwX0_turned_0 ++ []
theorem dksX0_turned_0 : cX0_turned.data.toList.drop 0 = dktX0_turned_0 := by decide +kernel
theorem dX0_turned_0 : decode cX0_turned 0 = .ok (.iload_n 0, 1) := dk_26 (dk_at dksX0_turned_0 0 rfl rfl)
theorem dX0_turned_1 : decode cX0_turned 1 = .ok (.iconst (-1), 1) := dk_2 (dk_at dksX0_turned_0 1 rfl rfl)
theorem dX0_turned_2 : decode cX0_turned 2 = .ok (.if_icmp .eq 9, 3) := dk_159 0 9 (dk_at dksX0_turned_0 2 rfl rfl)
theorem dX0_turned_5 : decode cX0_turned 5 = .ok (.iload_n 0, 1) := dk_26 (dk_at dksX0_turned_0 5 rfl rfl)
theorem dX0_turned_6 : decode cX0_turned 6 = .ok (.bipush 8, 2) := dk_16 8 (dk_at dksX0_turned_0 6 rfl rfl)
theorem dX0_turned_8 : decode cX0_turned 8 = .ok (.if_icmp .ne 7, 3) := dk_160 0 7 (dk_at dksX0_turned_0 8 rfl rfl)
theorem dX0_turned_11 : decode cX0_turned 11 = .ok (.iload_n 0, 1) := dk_26 (dk_at dksX0_turned_0 11 rfl rfl)
theorem dX0_turned_12 : decode cX0_turned 12 = .ok (.goto 9, 3) := dk_167 0 9 (dk_at dksX0_turned_0 12 rfl rfl)
theorem dX0_turned_15 : decode cX0_turned 15 = .ok (.iload_n 0, 1) := dk_26 (dk_at dksX0_turned_0 15 rfl rfl)
theorem dX0_turned_16 : decode cX0_turned 16 = .ok (.iload_n 1, 1) := dk_27 (dk_at dksX0_turned_0 16 rfl rfl)
theorem dX0_turned_17 : decode cX0_turned 17 = .ok (.iadd, 1) := dk_96 (dk_at dksX0_turned_0 17 rfl rfl)
theorem dX0_turned_18 : decode cX0_turned 18 = .ok (.bipush 8, 2) := dk_16 8 (dk_at dksX0_turned_0 18 rfl rfl)
theorem dX0_turned_20 : decode cX0_turned 20 = .ok (.irem, 1) := dk_112 (dk_at dksX0_turned_0 20 rfl rfl)
theorem dX0_turned_21 : decode cX0_turned 21 = .ok (.ireturn, 1) := dk_172 (dk_at dksX0_turned_0 21 rfl rfl)
def dkwX0_side_1 : List UInt8 := [180, 0, 42, 180, 0, 167, 61, 42, 180, 0, 42, 27, 181, 0, 167, 28, 172]
abbrev dktX0_side_1 : List UInt8 := dkwX0_side_1 ++ []
def dkwX0_side_0 : List UInt8 := [27, 42, 180, 0, 42, 180, 0, 167, 16, 7, 184, 0, 71, 154, 0, 10, 42, 16, 254, 182, 0, 91, 172, 42]
abbrev dktX0_side_0 : List UInt8 := dkwX0_side_0 ++ dktX0_side_1
theorem dksX0_side_0 : cX0_side.data.toList.drop 0 = dktX0_side_0 := by decide +kernel
theorem dksX0_side_1 : cX0_side.data.toList.drop 24 = dktX0_side_1 := dk_seg dksX0_side_0 24 rfl rfl
theorem dX0_side_0 : decode cX0_side 0 = .ok (.iload_n 1, 1) := dk_27 (dk_at dksX0_side_0 0 rfl rfl)
theorem dX0_side_1 : decode cX0_side 1 = .ok (.aload_n 0, 1) := dk_42 (dk_at dksX0_side_0 1 rfl rfl)
theorem dX0_side_2 : decode cX0_side 2 = .ok (.getfield 42, 3) := dk_180 0 42 (dk_at dksX0_side_0 2 rfl rfl)
theorem dX0_side_5 : decode cX0_side 5 = .ok (.getfield 167, 3) := dk_180 0 167 (dk_at dksX0_side_0 5 rfl rfl)
theorem dX0_side_8 : decode cX0_side 8 = .ok (.bipush 7, 2) := dk_16 7 (dk_at dksX0_side_0 8 rfl rfl)
theorem dX0_side_10 : decode cX0_side 10 = .ok (.invokestatic 71, 3) := dk_184 0 71 (dk_at dksX0_side_0 10 rfl rfl)
theorem dX0_side_13 : decode cX0_side 13 = .ok (.ifCond .ne 10, 3) := dk_154 0 10 (dk_at dksX0_side_0 13 rfl rfl)
theorem dX0_side_16 : decode cX0_side 16 = .ok (.aload_n 0, 1) := dk_42 (dk_at dksX0_side_0 16 rfl rfl)
theorem dX0_side_17 : decode cX0_side 17 = .ok (.bipush (-2), 2) := dk_16 254 (dk_at dksX0_side_0 17 rfl rfl)
theorem dX0_side_19 : decode cX0_side 19 = .ok (.invokevirtual 91, 3) := dk_182 0 91 (dk_at dksX0_side_0 19 rfl rfl)
theorem dX0_side_22 : decode cX0_side 22 = .ok (.ireturn, 1) := dk_172 (dk_at dksX0_side_0 22 rfl rfl)
theorem dX0_side_23 : decode cX0_side 23 = .ok (.aload_n 0, 1) := dk_42 (dk_at dksX0_side_0 23 rfl rfl)
theorem dX0_side_24 : decode cX0_side 24 = .ok (.getfield 42, 3) := dk_180 0 42 (dk_at dksX0_side_1 0 rfl rfl)
theorem dX0_side_27 : decode cX0_side 27 = .ok (.getfield 167, 3) := dk_180 0 167 (dk_at dksX0_side_1 3 rfl rfl)
theorem dX0_side_30 : decode cX0_side 30 = .ok (.istore_n 2, 1) := dk_61 (dk_at dksX0_side_1 6 rfl rfl)
theorem dX0_side_31 : decode cX0_side 31 = .ok (.aload_n 0, 1) := dk_42 (dk_at dksX0_side_1 7 rfl rfl)
theorem dX0_side_32 : decode cX0_side 32 = .ok (.getfield 42, 3) := dk_180 0 42 (dk_at dksX0_side_1 8 rfl rfl)
theorem dX0_side_35 : decode cX0_side 35 = .ok (.iload_n 1, 1) := dk_27 (dk_at dksX0_side_1 11 rfl rfl)
theorem dX0_side_36 : decode cX0_side 36 = .ok (.putfield 167, 3) := dk_181 0 167 (dk_at dksX0_side_1 12 rfl rfl)
theorem dX0_side_39 : decode cX0_side 39 = .ok (.iload_n 2, 1) := dk_28 (dk_at dksX0_side_1 15 rfl rfl)
theorem dX0_side_40 : decode cX0_side 40 = .ok (.ireturn, 1) := dk_172 (dk_at dksX0_side_1 16 rfl rfl)
def dkwX0_bog_2 : List UInt8 := [182, 0, 176, 153, 0, 7, 4, 167, 0, 4, 3, 62, 42, 180, 0, 42, 27, 28, 182, 0, 179, 29, 172]
abbrev dktX0_bog_2 : List UInt8 := dkwX0_bog_2 ++ []
def dkwX0_bog_1 : List UInt8 := [180, 0, 42, 27, 182, 0, 173, 154, 0, 10, 42, 16, 251, 182, 0, 91, 172, 42, 180, 0, 42, 27]
abbrev dktX0_bog_1 : List UInt8 := dkwX0_bog_1 ++ dktX0_bog_2
def dkwX0_bog_0 : List UInt8 := [42, 180, 0, 42, 27, 133, 182, 0, 170, 154, 0, 10, 42, 16, 254, 182, 0, 91, 172, 28, 153, 0, 21, 42]
abbrev dktX0_bog_0 : List UInt8 := dkwX0_bog_0 ++ dktX0_bog_1
theorem dksX0_bog_0 : cX0_bog.data.toList.drop 0 = dktX0_bog_0 := by decide +kernel
theorem dksX0_bog_1 : cX0_bog.data.toList.drop 24 = dktX0_bog_1 := dk_seg dksX0_bog_0 24 rfl rfl
theorem dksX0_bog_2 : cX0_bog.data.toList.drop 46 = dktX0_bog_2 := dk_seg dksX0_bog_1 22 rfl rfl
theorem dX0_bog_0 : decode cX0_bog 0 = .ok (.aload_n 0, 1) := dk_42 (dk_at dksX0_bog_0 0 rfl rfl)
theorem dX0_bog_1 : decode cX0_bog 1 = .ok (.getfield 42, 3) := dk_180 0 42 (dk_at dksX0_bog_0 1 rfl rfl)
theorem dX0_bog_4 : decode cX0_bog 4 = .ok (.iload_n 1, 1) := dk_27 (dk_at dksX0_bog_0 4 rfl rfl)
theorem dX0_bog_5 : decode cX0_bog 5 = .ok (.i2l, 1) := dk_133 (dk_at dksX0_bog_0 5 rfl rfl)
theorem dX0_bog_6 : decode cX0_bog 6 = .ok (.invokevirtual 170, 3) := dk_182 0 170 (dk_at dksX0_bog_0 6 rfl rfl)
theorem dX0_bog_9 : decode cX0_bog 9 = .ok (.ifCond .ne 10, 3) := dk_154 0 10 (dk_at dksX0_bog_0 9 rfl rfl)
theorem dX0_bog_12 : decode cX0_bog 12 = .ok (.aload_n 0, 1) := dk_42 (dk_at dksX0_bog_0 12 rfl rfl)
theorem dX0_bog_13 : decode cX0_bog 13 = .ok (.bipush (-2), 2) := dk_16 254 (dk_at dksX0_bog_0 13 rfl rfl)
theorem dX0_bog_15 : decode cX0_bog 15 = .ok (.invokevirtual 91, 3) := dk_182 0 91 (dk_at dksX0_bog_0 15 rfl rfl)
theorem dX0_bog_18 : decode cX0_bog 18 = .ok (.ireturn, 1) := dk_172 (dk_at dksX0_bog_0 18 rfl rfl)
theorem dX0_bog_19 : decode cX0_bog 19 = .ok (.iload_n 2, 1) := dk_28 (dk_at dksX0_bog_0 19 rfl rfl)
theorem dX0_bog_20 : decode cX0_bog 20 = .ok (.ifCond .eq 21, 3) := dk_153 0 21 (dk_at dksX0_bog_0 20 rfl rfl)
theorem dX0_bog_23 : decode cX0_bog 23 = .ok (.aload_n 0, 1) := dk_42 (dk_at dksX0_bog_0 23 rfl rfl)
theorem dX0_bog_24 : decode cX0_bog 24 = .ok (.getfield 42, 3) := dk_180 0 42 (dk_at dksX0_bog_1 0 rfl rfl)
theorem dX0_bog_27 : decode cX0_bog 27 = .ok (.iload_n 1, 1) := dk_27 (dk_at dksX0_bog_1 3 rfl rfl)
theorem dX0_bog_28 : decode cX0_bog 28 = .ok (.invokevirtual 173, 3) := dk_182 0 173 (dk_at dksX0_bog_1 4 rfl rfl)
theorem dX0_bog_31 : decode cX0_bog 31 = .ok (.ifCond .ne 10, 3) := dk_154 0 10 (dk_at dksX0_bog_1 7 rfl rfl)
theorem dX0_bog_34 : decode cX0_bog 34 = .ok (.aload_n 0, 1) := dk_42 (dk_at dksX0_bog_1 10 rfl rfl)
theorem dX0_bog_35 : decode cX0_bog 35 = .ok (.bipush (-5), 2) := dk_16 251 (dk_at dksX0_bog_1 11 rfl rfl)
theorem dX0_bog_37 : decode cX0_bog 37 = .ok (.invokevirtual 91, 3) := dk_182 0 91 (dk_at dksX0_bog_1 13 rfl rfl)
theorem dX0_bog_40 : decode cX0_bog 40 = .ok (.ireturn, 1) := dk_172 (dk_at dksX0_bog_1 16 rfl rfl)
theorem dX0_bog_41 : decode cX0_bog 41 = .ok (.aload_n 0, 1) := dk_42 (dk_at dksX0_bog_1 17 rfl rfl)
theorem dX0_bog_42 : decode cX0_bog 42 = .ok (.getfield 42, 3) := dk_180 0 42 (dk_at dksX0_bog_1 18 rfl rfl)
theorem dX0_bog_45 : decode cX0_bog 45 = .ok (.iload_n 1, 1) := dk_27 (dk_at dksX0_bog_1 21 rfl rfl)
theorem dX0_bog_46 : decode cX0_bog 46 = .ok (.invokevirtual 176, 3) := dk_182 0 176 (dk_at dksX0_bog_2 0 rfl rfl)
theorem dX0_bog_49 : decode cX0_bog 49 = .ok (.ifCond .eq 7, 3) := dk_153 0 7 (dk_at dksX0_bog_2 3 rfl rfl)
theorem dX0_bog_52 : decode cX0_bog 52 = .ok (.iconst 1, 1) := dk_4 (dk_at dksX0_bog_2 6 rfl rfl)
theorem dX0_bog_53 : decode cX0_bog 53 = .ok (.goto 4, 3) := dk_167 0 4 (dk_at dksX0_bog_2 7 rfl rfl)
theorem dX0_bog_56 : decode cX0_bog 56 = .ok (.iconst 0, 1) := dk_3 (dk_at dksX0_bog_2 10 rfl rfl)
theorem dX0_bog_57 : decode cX0_bog 57 = .ok (.istore_n 3, 1) := dk_62 (dk_at dksX0_bog_2 11 rfl rfl)
theorem dX0_bog_58 : decode cX0_bog 58 = .ok (.aload_n 0, 1) := dk_42 (dk_at dksX0_bog_2 12 rfl rfl)
theorem dX0_bog_59 : decode cX0_bog 59 = .ok (.getfield 42, 3) := dk_180 0 42 (dk_at dksX0_bog_2 13 rfl rfl)
theorem dX0_bog_62 : decode cX0_bog 62 = .ok (.iload_n 1, 1) := dk_27 (dk_at dksX0_bog_2 16 rfl rfl)
theorem dX0_bog_63 : decode cX0_bog 63 = .ok (.iload_n 2, 1) := dk_28 (dk_at dksX0_bog_2 17 rfl rfl)
theorem dX0_bog_64 : decode cX0_bog 64 = .ok (.invokevirtual 179, 3) := dk_182 0 179 (dk_at dksX0_bog_2 18 rfl rfl)
theorem dX0_bog_67 : decode cX0_bog 67 = .ok (.iload_n 3, 1) := dk_29 (dk_at dksX0_bog_2 21 rfl rfl)
theorem dX0_bog_68 : decode cX0_bog 68 = .ok (.ireturn, 1) := dk_172 (dk_at dksX0_bog_2 22 rfl rfl)
def dkwX0_has_0 : List UInt8 := [26, 27, 122, 4, 126, 4, 160, 0, 7, 4, 167, 0, 4, 3, 172]
abbrev dktX0_has_0 : List UInt8 := dkwX0_has_0 ++ []
theorem dksX0_has_0 : cX0_has.data.toList.drop 0 = dktX0_has_0 := by decide +kernel
theorem dX0_has_0 : decode cX0_has 0 = .ok (.iload_n 0, 1) := dk_26 (dk_at dksX0_has_0 0 rfl rfl)
theorem dX0_has_1 : decode cX0_has 1 = .ok (.iload_n 1, 1) := dk_27 (dk_at dksX0_has_0 1 rfl rfl)
theorem dX0_has_2 : decode cX0_has 2 = .ok (.ishr, 1) := dk_122 (dk_at dksX0_has_0 2 rfl rfl)
theorem dX0_has_3 : decode cX0_has 3 = .ok (.iconst 1, 1) := dk_4 (dk_at dksX0_has_0 3 rfl rfl)
theorem dX0_has_4 : decode cX0_has 4 = .ok (.iand, 1) := dk_126 (dk_at dksX0_has_0 4 rfl rfl)
theorem dX0_has_5 : decode cX0_has 5 = .ok (.iconst 1, 1) := dk_4 (dk_at dksX0_has_0 5 rfl rfl)
theorem dX0_has_6 : decode cX0_has 6 = .ok (.if_icmp .ne 7, 3) := dk_160 0 7 (dk_at dksX0_has_0 6 rfl rfl)
theorem dX0_has_9 : decode cX0_has 9 = .ok (.iconst 1, 1) := dk_4 (dk_at dksX0_has_0 9 rfl rfl)
theorem dX0_has_10 : decode cX0_has 10 = .ok (.goto 4, 3) := dk_167 0 4 (dk_at dksX0_has_0 10 rfl rfl)
theorem dX0_has_13 : decode cX0_has 13 = .ok (.iconst 0, 1) := dk_3 (dk_at dksX0_has_0 13 rfl rfl)
theorem dX0_has_14 : decode cX0_has 14 = .ok (.ireturn, 1) := dk_172 (dk_at dksX0_has_0 14 rfl rfl)
def dkwX0_home_2 : List UInt8 := [180, 0, 42, 27, 181, 0, 183, 28, 172]
abbrev dktX0_home_2 : List UInt8 := dkwX0_home_2 ++ []
def dkwX0_home_1 : List UInt8 := [182, 0, 176, 153, 0, 10, 42, 16, 251, 182, 0, 91, 172, 42, 180, 0, 42, 180, 0, 183, 61, 42]
abbrev dktX0_home_1 : List UInt8 := dkwX0_home_1 ++ dktX0_home_2
def dkwX0_home_0 : List UInt8 := [42, 180, 0, 42, 27, 133, 182, 0, 170, 154, 0, 10, 42, 16, 254, 182, 0, 91, 172, 42, 180, 0, 42, 27]
abbrev dktX0_home_0 : List UInt8 := dkwX0_home_0 ++ dktX0_home_1
theorem dksX0_home_0 : cX0_home.data.toList.drop 0 = dktX0_home_0 := by decide +kernel
theorem dksX0_home_1 : cX0_home.data.toList.drop 24 = dktX0_home_1 := dk_seg dksX0_home_0 24 rfl rfl
theorem dksX0_home_2 : cX0_home.data.toList.drop 46 = dktX0_home_2 := dk_seg dksX0_home_1 22 rfl rfl
theorem dX0_home_0 : decode cX0_home 0 = .ok (.aload_n 0, 1) := dk_42 (dk_at dksX0_home_0 0 rfl rfl)
theorem dX0_home_1 : decode cX0_home 1 = .ok (.getfield 42, 3) := dk_180 0 42 (dk_at dksX0_home_0 1 rfl rfl)
theorem dX0_home_4 : decode cX0_home 4 = .ok (.iload_n 1, 1) := dk_27 (dk_at dksX0_home_0 4 rfl rfl)
theorem dX0_home_5 : decode cX0_home 5 = .ok (.i2l, 1) := dk_133 (dk_at dksX0_home_0 5 rfl rfl)
theorem dX0_home_6 : decode cX0_home 6 = .ok (.invokevirtual 170, 3) := dk_182 0 170 (dk_at dksX0_home_0 6 rfl rfl)
theorem dX0_home_9 : decode cX0_home 9 = .ok (.ifCond .ne 10, 3) := dk_154 0 10 (dk_at dksX0_home_0 9 rfl rfl)
theorem dX0_home_12 : decode cX0_home 12 = .ok (.aload_n 0, 1) := dk_42 (dk_at dksX0_home_0 12 rfl rfl)
theorem dX0_home_13 : decode cX0_home 13 = .ok (.bipush (-2), 2) := dk_16 254 (dk_at dksX0_home_0 13 rfl rfl)
theorem dX0_home_15 : decode cX0_home 15 = .ok (.invokevirtual 91, 3) := dk_182 0 91 (dk_at dksX0_home_0 15 rfl rfl)
theorem dX0_home_18 : decode cX0_home 18 = .ok (.ireturn, 1) := dk_172 (dk_at dksX0_home_0 18 rfl rfl)
theorem dX0_home_19 : decode cX0_home 19 = .ok (.aload_n 0, 1) := dk_42 (dk_at dksX0_home_0 19 rfl rfl)
theorem dX0_home_20 : decode cX0_home 20 = .ok (.getfield 42, 3) := dk_180 0 42 (dk_at dksX0_home_0 20 rfl rfl)
theorem dX0_home_23 : decode cX0_home 23 = .ok (.iload_n 1, 1) := dk_27 (dk_at dksX0_home_0 23 rfl rfl)
theorem dX0_home_24 : decode cX0_home 24 = .ok (.invokevirtual 176, 3) := dk_182 0 176 (dk_at dksX0_home_1 0 rfl rfl)
theorem dX0_home_27 : decode cX0_home 27 = .ok (.ifCond .eq 10, 3) := dk_153 0 10 (dk_at dksX0_home_1 3 rfl rfl)
theorem dX0_home_30 : decode cX0_home 30 = .ok (.aload_n 0, 1) := dk_42 (dk_at dksX0_home_1 6 rfl rfl)
theorem dX0_home_31 : decode cX0_home 31 = .ok (.bipush (-5), 2) := dk_16 251 (dk_at dksX0_home_1 7 rfl rfl)
theorem dX0_home_33 : decode cX0_home 33 = .ok (.invokevirtual 91, 3) := dk_182 0 91 (dk_at dksX0_home_1 9 rfl rfl)
theorem dX0_home_36 : decode cX0_home 36 = .ok (.ireturn, 1) := dk_172 (dk_at dksX0_home_1 12 rfl rfl)
theorem dX0_home_37 : decode cX0_home 37 = .ok (.aload_n 0, 1) := dk_42 (dk_at dksX0_home_1 13 rfl rfl)
theorem dX0_home_38 : decode cX0_home 38 = .ok (.getfield 42, 3) := dk_180 0 42 (dk_at dksX0_home_1 14 rfl rfl)
theorem dX0_home_41 : decode cX0_home 41 = .ok (.getfield 183, 3) := dk_180 0 183 (dk_at dksX0_home_1 17 rfl rfl)
theorem dX0_home_44 : decode cX0_home 44 = .ok (.istore_n 2, 1) := dk_61 (dk_at dksX0_home_1 20 rfl rfl)
theorem dX0_home_45 : decode cX0_home 45 = .ok (.aload_n 0, 1) := dk_42 (dk_at dksX0_home_1 21 rfl rfl)
theorem dX0_home_46 : decode cX0_home 46 = .ok (.getfield 42, 3) := dk_180 0 42 (dk_at dksX0_home_2 0 rfl rfl)
theorem dX0_home_49 : decode cX0_home 49 = .ok (.iload_n 1, 1) := dk_27 (dk_at dksX0_home_2 3 rfl rfl)
theorem dX0_home_50 : decode cX0_home 50 = .ok (.putfield 183, 3) := dk_181 0 183 (dk_at dksX0_home_2 4 rfl rfl)
theorem dX0_home_53 : decode cX0_home 53 = .ok (.iload_n 2, 1) := dk_28 (dk_at dksX0_home_2 7 rfl rfl)
theorem dX0_home_54 : decode cX0_home 54 = .ok (.ireturn, 1) := dk_172 (dk_at dksX0_home_2 8 rfl rfl)
def dkwX0_post_2 : List UInt8 := [160, 0, 12, 42, 16, 250, 182, 0, 91, 167, 0, 13, 42, 180, 0, 42, 27, 28, 29, 182, 0, 189, 172]
abbrev dktX0_post_2 : List UInt8 := dkwX0_post_2 ++ []
def dkwX0_post_1 : List UInt8 := [133, 182, 0, 170, 154, 0, 10, 42, 16, 254, 182, 0, 91, 172, 42, 180, 0, 42, 180, 0, 186, 16, 8]
abbrev dktX0_post_1 : List UInt8 := dkwX0_post_1 ++ dktX0_post_2
def dkwX0_post_0 : List UInt8 := [27, 3, 8, 184, 0, 71, 153, 0, 25, 28, 3, 16, 9, 184, 0, 71, 153, 0, 15, 42, 180, 0, 42, 29]
abbrev dktX0_post_0 : List UInt8 := dkwX0_post_0 ++ dktX0_post_1
theorem dksX0_post_0 : cX0_post.data.toList.drop 0 = dktX0_post_0 := by decide +kernel
theorem dksX0_post_1 : cX0_post.data.toList.drop 24 = dktX0_post_1 := dk_seg dksX0_post_0 24 rfl rfl
theorem dksX0_post_2 : cX0_post.data.toList.drop 47 = dktX0_post_2 := dk_seg dksX0_post_1 23 rfl rfl
theorem dX0_post_0 : decode cX0_post 0 = .ok (.iload_n 1, 1) := dk_27 (dk_at dksX0_post_0 0 rfl rfl)
theorem dX0_post_1 : decode cX0_post 1 = .ok (.iconst 0, 1) := dk_3 (dk_at dksX0_post_0 1 rfl rfl)
theorem dX0_post_2 : decode cX0_post 2 = .ok (.iconst 5, 1) := dk_8 (dk_at dksX0_post_0 2 rfl rfl)
theorem dX0_post_3 : decode cX0_post 3 = .ok (.invokestatic 71, 3) := dk_184 0 71 (dk_at dksX0_post_0 3 rfl rfl)
theorem dX0_post_6 : decode cX0_post 6 = .ok (.ifCond .eq 25, 3) := dk_153 0 25 (dk_at dksX0_post_0 6 rfl rfl)
theorem dX0_post_9 : decode cX0_post 9 = .ok (.iload_n 2, 1) := dk_28 (dk_at dksX0_post_0 9 rfl rfl)
theorem dX0_post_10 : decode cX0_post 10 = .ok (.iconst 0, 1) := dk_3 (dk_at dksX0_post_0 10 rfl rfl)
theorem dX0_post_11 : decode cX0_post 11 = .ok (.bipush 9, 2) := dk_16 9 (dk_at dksX0_post_0 11 rfl rfl)
theorem dX0_post_13 : decode cX0_post 13 = .ok (.invokestatic 71, 3) := dk_184 0 71 (dk_at dksX0_post_0 13 rfl rfl)
theorem dX0_post_16 : decode cX0_post 16 = .ok (.ifCond .eq 15, 3) := dk_153 0 15 (dk_at dksX0_post_0 16 rfl rfl)
theorem dX0_post_19 : decode cX0_post 19 = .ok (.aload_n 0, 1) := dk_42 (dk_at dksX0_post_0 19 rfl rfl)
theorem dX0_post_20 : decode cX0_post 20 = .ok (.getfield 42, 3) := dk_180 0 42 (dk_at dksX0_post_0 20 rfl rfl)
theorem dX0_post_23 : decode cX0_post 23 = .ok (.iload_n 3, 1) := dk_29 (dk_at dksX0_post_0 23 rfl rfl)
theorem dX0_post_24 : decode cX0_post 24 = .ok (.i2l, 1) := dk_133 (dk_at dksX0_post_1 0 rfl rfl)
theorem dX0_post_25 : decode cX0_post 25 = .ok (.invokevirtual 170, 3) := dk_182 0 170 (dk_at dksX0_post_1 1 rfl rfl)
theorem dX0_post_28 : decode cX0_post 28 = .ok (.ifCond .ne 10, 3) := dk_154 0 10 (dk_at dksX0_post_1 4 rfl rfl)
theorem dX0_post_31 : decode cX0_post 31 = .ok (.aload_n 0, 1) := dk_42 (dk_at dksX0_post_1 7 rfl rfl)
theorem dX0_post_32 : decode cX0_post 32 = .ok (.bipush (-2), 2) := dk_16 254 (dk_at dksX0_post_1 8 rfl rfl)
theorem dX0_post_34 : decode cX0_post 34 = .ok (.invokevirtual 91, 3) := dk_182 0 91 (dk_at dksX0_post_1 10 rfl rfl)
theorem dX0_post_37 : decode cX0_post 37 = .ok (.ireturn, 1) := dk_172 (dk_at dksX0_post_1 13 rfl rfl)
theorem dX0_post_38 : decode cX0_post 38 = .ok (.aload_n 0, 1) := dk_42 (dk_at dksX0_post_1 14 rfl rfl)
theorem dX0_post_39 : decode cX0_post 39 = .ok (.getfield 42, 3) := dk_180 0 42 (dk_at dksX0_post_1 15 rfl rfl)
theorem dX0_post_42 : decode cX0_post 42 = .ok (.getfield 186, 3) := dk_180 0 186 (dk_at dksX0_post_1 18 rfl rfl)
theorem dX0_post_45 : decode cX0_post 45 = .ok (.bipush 8, 2) := dk_16 8 (dk_at dksX0_post_1 21 rfl rfl)
theorem dX0_post_47 : decode cX0_post 47 = .ok (.if_icmp .ne 12, 3) := dk_160 0 12 (dk_at dksX0_post_2 0 rfl rfl)
theorem dX0_post_50 : decode cX0_post 50 = .ok (.aload_n 0, 1) := dk_42 (dk_at dksX0_post_2 3 rfl rfl)
theorem dX0_post_51 : decode cX0_post 51 = .ok (.bipush (-6), 2) := dk_16 250 (dk_at dksX0_post_2 4 rfl rfl)
theorem dX0_post_53 : decode cX0_post 53 = .ok (.invokevirtual 91, 3) := dk_182 0 91 (dk_at dksX0_post_2 6 rfl rfl)
theorem dX0_post_56 : decode cX0_post 56 = .ok (.goto 13, 3) := dk_167 0 13 (dk_at dksX0_post_2 9 rfl rfl)
theorem dX0_post_59 : decode cX0_post 59 = .ok (.aload_n 0, 1) := dk_42 (dk_at dksX0_post_2 12 rfl rfl)
theorem dX0_post_60 : decode cX0_post 60 = .ok (.getfield 42, 3) := dk_180 0 42 (dk_at dksX0_post_2 13 rfl rfl)
theorem dX0_post_63 : decode cX0_post 63 = .ok (.iload_n 1, 1) := dk_27 (dk_at dksX0_post_2 16 rfl rfl)
theorem dX0_post_64 : decode cX0_post 64 = .ok (.iload_n 2, 1) := dk_28 (dk_at dksX0_post_2 17 rfl rfl)
theorem dX0_post_65 : decode cX0_post 65 = .ok (.iload_n 3, 1) := dk_29 (dk_at dksX0_post_2 18 rfl rfl)
theorem dX0_post_66 : decode cX0_post 66 = .ok (.invokevirtual 189, 3) := dk_182 0 189 (dk_at dksX0_post_2 19 rfl rfl)
theorem dX0_post_69 : decode cX0_post 69 = .ok (.ireturn, 1) := dk_172 (dk_at dksX0_post_2 22 rfl rfl)
def dkwX0_made_4 : List UInt8 := [187, 0, 28, 89, 27, 28, 29, 183, 0, 30, 176, 187, 0, 31, 89, 27, 28, 29, 183, 0, 33, 176]
abbrev dktX0_made_4 : List UInt8 := dkwX0_made_4 ++ []
def dkwX0_made_3 : List UInt8 := [187, 0, 22, 89, 27, 28, 29, 183, 0, 24, 176, 187, 0, 25, 89, 27, 28, 29, 183, 0, 27, 176]
abbrev dktX0_made_3 : List UInt8 := dkwX0_made_3 ++ dktX0_made_4
def dkwX0_made_2 : List UInt8 := [187, 0, 13, 89, 27, 28, 29, 183, 0, 15, 176, 187, 0, 19, 89, 27, 28, 29, 183, 0, 21, 176]
abbrev dktX0_made_2 : List UInt8 := dkwX0_made_2 ++ dktX0_made_3
def dkwX0_made_1 : List UInt8 := [170, 0, 0, 0, 0, 0, 90, 0, 0, 0, 0, 0, 0, 0, 4, 0, 0, 0, 35, 0, 0, 0, 46, 0, 0, 0, 57, 0, 0, 0, 68, 0, 0, 0, 79]
abbrev dktX0_made_1 : List UInt8 := dkwX0_made_1 ++ dktX0_made_2
def dkwX0_made_0 : List UInt8 := [26]
abbrev dktX0_made_0 : List UInt8 := dkwX0_made_0 ++ dktX0_made_1
theorem dksX0_made_0 : cX0_made.data.toList.drop 0 = dktX0_made_0 := by decide +kernel
theorem dksX0_made_1 : cX0_made.data.toList.drop 1 = dktX0_made_1 := dk_seg dksX0_made_0 1 rfl rfl
theorem dksX0_made_2 : cX0_made.data.toList.drop 36 = dktX0_made_2 := dk_seg dksX0_made_1 35 rfl rfl
theorem dksX0_made_3 : cX0_made.data.toList.drop 58 = dktX0_made_3 := dk_seg dksX0_made_2 22 rfl rfl
theorem dksX0_made_4 : cX0_made.data.toList.drop 80 = dktX0_made_4 := dk_seg dksX0_made_3 22 rfl rfl
theorem dX0_made_0 : decode cX0_made 0 = .ok (.iload_n 0, 1) := dk_26 (dk_at dksX0_made_0 0 rfl rfl)
theorem dX0_made_1 : decode cX0_made 1 = .ok (.tableswitch 90 0 4 #[35, 46, 57, 68, 79], 35) := by decide +kernel
theorem dX0_made_36 : decode cX0_made 36 = .ok (.new 13, 3) := dk_187 0 13 (dk_at dksX0_made_2 0 rfl rfl)
theorem dX0_made_39 : decode cX0_made 39 = .ok (.dup, 1) := dk_89 (dk_at dksX0_made_2 3 rfl rfl)
theorem dX0_made_40 : decode cX0_made 40 = .ok (.iload_n 1, 1) := dk_27 (dk_at dksX0_made_2 4 rfl rfl)
theorem dX0_made_41 : decode cX0_made 41 = .ok (.iload_n 2, 1) := dk_28 (dk_at dksX0_made_2 5 rfl rfl)
theorem dX0_made_42 : decode cX0_made 42 = .ok (.iload_n 3, 1) := dk_29 (dk_at dksX0_made_2 6 rfl rfl)
theorem dX0_made_43 : decode cX0_made 43 = .ok (.invokespecial 15, 3) := dk_183 0 15 (dk_at dksX0_made_2 7 rfl rfl)
theorem dX0_made_46 : decode cX0_made 46 = .ok (.areturn, 1) := dk_176 (dk_at dksX0_made_2 10 rfl rfl)
theorem dX0_made_47 : decode cX0_made 47 = .ok (.new 19, 3) := dk_187 0 19 (dk_at dksX0_made_2 11 rfl rfl)
theorem dX0_made_50 : decode cX0_made 50 = .ok (.dup, 1) := dk_89 (dk_at dksX0_made_2 14 rfl rfl)
theorem dX0_made_51 : decode cX0_made 51 = .ok (.iload_n 1, 1) := dk_27 (dk_at dksX0_made_2 15 rfl rfl)
theorem dX0_made_52 : decode cX0_made 52 = .ok (.iload_n 2, 1) := dk_28 (dk_at dksX0_made_2 16 rfl rfl)
theorem dX0_made_53 : decode cX0_made 53 = .ok (.iload_n 3, 1) := dk_29 (dk_at dksX0_made_2 17 rfl rfl)
theorem dX0_made_54 : decode cX0_made 54 = .ok (.invokespecial 21, 3) := dk_183 0 21 (dk_at dksX0_made_2 18 rfl rfl)
theorem dX0_made_57 : decode cX0_made 57 = .ok (.areturn, 1) := dk_176 (dk_at dksX0_made_2 21 rfl rfl)
theorem dX0_made_58 : decode cX0_made 58 = .ok (.new 22, 3) := dk_187 0 22 (dk_at dksX0_made_3 0 rfl rfl)
theorem dX0_made_61 : decode cX0_made 61 = .ok (.dup, 1) := dk_89 (dk_at dksX0_made_3 3 rfl rfl)
theorem dX0_made_62 : decode cX0_made 62 = .ok (.iload_n 1, 1) := dk_27 (dk_at dksX0_made_3 4 rfl rfl)
theorem dX0_made_63 : decode cX0_made 63 = .ok (.iload_n 2, 1) := dk_28 (dk_at dksX0_made_3 5 rfl rfl)
theorem dX0_made_64 : decode cX0_made 64 = .ok (.iload_n 3, 1) := dk_29 (dk_at dksX0_made_3 6 rfl rfl)
theorem dX0_made_65 : decode cX0_made 65 = .ok (.invokespecial 24, 3) := dk_183 0 24 (dk_at dksX0_made_3 7 rfl rfl)
theorem dX0_made_68 : decode cX0_made 68 = .ok (.areturn, 1) := dk_176 (dk_at dksX0_made_3 10 rfl rfl)
theorem dX0_made_69 : decode cX0_made 69 = .ok (.new 25, 3) := dk_187 0 25 (dk_at dksX0_made_3 11 rfl rfl)
theorem dX0_made_72 : decode cX0_made 72 = .ok (.dup, 1) := dk_89 (dk_at dksX0_made_3 14 rfl rfl)
theorem dX0_made_73 : decode cX0_made 73 = .ok (.iload_n 1, 1) := dk_27 (dk_at dksX0_made_3 15 rfl rfl)
theorem dX0_made_74 : decode cX0_made 74 = .ok (.iload_n 2, 1) := dk_28 (dk_at dksX0_made_3 16 rfl rfl)
theorem dX0_made_75 : decode cX0_made 75 = .ok (.iload_n 3, 1) := dk_29 (dk_at dksX0_made_3 17 rfl rfl)
theorem dX0_made_76 : decode cX0_made 76 = .ok (.invokespecial 27, 3) := dk_183 0 27 (dk_at dksX0_made_3 18 rfl rfl)
theorem dX0_made_79 : decode cX0_made 79 = .ok (.areturn, 1) := dk_176 (dk_at dksX0_made_3 21 rfl rfl)
theorem dX0_made_80 : decode cX0_made 80 = .ok (.new 28, 3) := dk_187 0 28 (dk_at dksX0_made_4 0 rfl rfl)
theorem dX0_made_83 : decode cX0_made 83 = .ok (.dup, 1) := dk_89 (dk_at dksX0_made_4 3 rfl rfl)
theorem dX0_made_84 : decode cX0_made 84 = .ok (.iload_n 1, 1) := dk_27 (dk_at dksX0_made_4 4 rfl rfl)
theorem dX0_made_85 : decode cX0_made 85 = .ok (.iload_n 2, 1) := dk_28 (dk_at dksX0_made_4 5 rfl rfl)
theorem dX0_made_86 : decode cX0_made 86 = .ok (.iload_n 3, 1) := dk_29 (dk_at dksX0_made_4 6 rfl rfl)
theorem dX0_made_87 : decode cX0_made 87 = .ok (.invokespecial 30, 3) := dk_183 0 30 (dk_at dksX0_made_4 7 rfl rfl)
theorem dX0_made_90 : decode cX0_made 90 = .ok (.areturn, 1) := dk_176 (dk_at dksX0_made_4 10 rfl rfl)
theorem dX0_made_91 : decode cX0_made 91 = .ok (.new 31, 3) := dk_187 0 31 (dk_at dksX0_made_4 11 rfl rfl)
theorem dX0_made_94 : decode cX0_made 94 = .ok (.dup, 1) := dk_89 (dk_at dksX0_made_4 14 rfl rfl)
theorem dX0_made_95 : decode cX0_made 95 = .ok (.iload_n 1, 1) := dk_27 (dk_at dksX0_made_4 15 rfl rfl)
theorem dX0_made_96 : decode cX0_made 96 = .ok (.iload_n 2, 1) := dk_28 (dk_at dksX0_made_4 16 rfl rfl)
theorem dX0_made_97 : decode cX0_made 97 = .ok (.iload_n 3, 1) := dk_29 (dk_at dksX0_made_4 17 rfl rfl)
theorem dX0_made_98 : decode cX0_made 98 = .ok (.invokespecial 33, 3) := dk_183 0 33 (dk_at dksX0_made_4 18 rfl rfl)
theorem dX0_made_101 : decode cX0_made 101 = .ok (.areturn, 1) := dk_176 (dk_at dksX0_made_4 21 rfl rfl)
def dkwX0_walker_3 : List UInt8 := [27, 28, 182, 0, 196, 172]
abbrev dktX0_walker_3 : List UInt8 := dkwX0_walker_3 ++ []
def dkwX0_walker_2 : List UInt8 := [42, 180, 0, 42, 180, 0, 193, 7, 160, 0, 12, 42, 16, 250, 182, 0, 91, 167, 0, 12, 42, 180, 0, 42]
abbrev dktX0_walker_2 : List UInt8 := dkwX0_walker_2 ++ dktX0_walker_3
def dkwX0_walker_1 : List UInt8 := [16, 254, 182, 0, 91, 172, 42, 180, 0, 42, 27, 182, 0, 176, 153, 0, 10, 42, 16, 251, 182, 0, 91, 172]
abbrev dktX0_walker_1 : List UInt8 := dkwX0_walker_1 ++ dktX0_walker_2
def dkwX0_walker_0 : List UInt8 := [42, 180, 0, 42, 27, 133, 182, 0, 170, 153, 0, 13, 28, 3, 16, 9, 184, 0, 71, 154, 0, 10, 42]
abbrev dktX0_walker_0 : List UInt8 := dkwX0_walker_0 ++ dktX0_walker_1
theorem dksX0_walker_0 : cX0_walker.data.toList.drop 0 = dktX0_walker_0 := by decide +kernel
theorem dksX0_walker_1 : cX0_walker.data.toList.drop 23 = dktX0_walker_1 := dk_seg dksX0_walker_0 23 rfl rfl
theorem dksX0_walker_2 : cX0_walker.data.toList.drop 47 = dktX0_walker_2 := dk_seg dksX0_walker_1 24 rfl rfl
theorem dksX0_walker_3 : cX0_walker.data.toList.drop 71 = dktX0_walker_3 := dk_seg dksX0_walker_2 24 rfl rfl
theorem dX0_walker_0 : decode cX0_walker 0 = .ok (.aload_n 0, 1) := dk_42 (dk_at dksX0_walker_0 0 rfl rfl)
theorem dX0_walker_1 : decode cX0_walker 1 = .ok (.getfield 42, 3) := dk_180 0 42 (dk_at dksX0_walker_0 1 rfl rfl)
theorem dX0_walker_4 : decode cX0_walker 4 = .ok (.iload_n 1, 1) := dk_27 (dk_at dksX0_walker_0 4 rfl rfl)
theorem dX0_walker_5 : decode cX0_walker 5 = .ok (.i2l, 1) := dk_133 (dk_at dksX0_walker_0 5 rfl rfl)
theorem dX0_walker_6 : decode cX0_walker 6 = .ok (.invokevirtual 170, 3) := dk_182 0 170 (dk_at dksX0_walker_0 6 rfl rfl)
theorem dX0_walker_9 : decode cX0_walker 9 = .ok (.ifCond .eq 13, 3) := dk_153 0 13 (dk_at dksX0_walker_0 9 rfl rfl)
theorem dX0_walker_12 : decode cX0_walker 12 = .ok (.iload_n 2, 1) := dk_28 (dk_at dksX0_walker_0 12 rfl rfl)
theorem dX0_walker_13 : decode cX0_walker 13 = .ok (.iconst 0, 1) := dk_3 (dk_at dksX0_walker_0 13 rfl rfl)
theorem dX0_walker_14 : decode cX0_walker 14 = .ok (.bipush 9, 2) := dk_16 9 (dk_at dksX0_walker_0 14 rfl rfl)
theorem dX0_walker_16 : decode cX0_walker 16 = .ok (.invokestatic 71, 3) := dk_184 0 71 (dk_at dksX0_walker_0 16 rfl rfl)
theorem dX0_walker_19 : decode cX0_walker 19 = .ok (.ifCond .ne 10, 3) := dk_154 0 10 (dk_at dksX0_walker_0 19 rfl rfl)
theorem dX0_walker_22 : decode cX0_walker 22 = .ok (.aload_n 0, 1) := dk_42 (dk_at dksX0_walker_0 22 rfl rfl)
theorem dX0_walker_23 : decode cX0_walker 23 = .ok (.bipush (-2), 2) := dk_16 254 (dk_at dksX0_walker_1 0 rfl rfl)
theorem dX0_walker_25 : decode cX0_walker 25 = .ok (.invokevirtual 91, 3) := dk_182 0 91 (dk_at dksX0_walker_1 2 rfl rfl)
theorem dX0_walker_28 : decode cX0_walker 28 = .ok (.ireturn, 1) := dk_172 (dk_at dksX0_walker_1 5 rfl rfl)
theorem dX0_walker_29 : decode cX0_walker 29 = .ok (.aload_n 0, 1) := dk_42 (dk_at dksX0_walker_1 6 rfl rfl)
theorem dX0_walker_30 : decode cX0_walker 30 = .ok (.getfield 42, 3) := dk_180 0 42 (dk_at dksX0_walker_1 7 rfl rfl)
theorem dX0_walker_33 : decode cX0_walker 33 = .ok (.iload_n 1, 1) := dk_27 (dk_at dksX0_walker_1 10 rfl rfl)
theorem dX0_walker_34 : decode cX0_walker 34 = .ok (.invokevirtual 176, 3) := dk_182 0 176 (dk_at dksX0_walker_1 11 rfl rfl)
theorem dX0_walker_37 : decode cX0_walker 37 = .ok (.ifCond .eq 10, 3) := dk_153 0 10 (dk_at dksX0_walker_1 14 rfl rfl)
theorem dX0_walker_40 : decode cX0_walker 40 = .ok (.aload_n 0, 1) := dk_42 (dk_at dksX0_walker_1 17 rfl rfl)
theorem dX0_walker_41 : decode cX0_walker 41 = .ok (.bipush (-5), 2) := dk_16 251 (dk_at dksX0_walker_1 18 rfl rfl)
theorem dX0_walker_43 : decode cX0_walker 43 = .ok (.invokevirtual 91, 3) := dk_182 0 91 (dk_at dksX0_walker_1 20 rfl rfl)
theorem dX0_walker_46 : decode cX0_walker 46 = .ok (.ireturn, 1) := dk_172 (dk_at dksX0_walker_1 23 rfl rfl)
theorem dX0_walker_47 : decode cX0_walker 47 = .ok (.aload_n 0, 1) := dk_42 (dk_at dksX0_walker_2 0 rfl rfl)
theorem dX0_walker_48 : decode cX0_walker 48 = .ok (.getfield 42, 3) := dk_180 0 42 (dk_at dksX0_walker_2 1 rfl rfl)
theorem dX0_walker_51 : decode cX0_walker 51 = .ok (.getfield 193, 3) := dk_180 0 193 (dk_at dksX0_walker_2 4 rfl rfl)
theorem dX0_walker_54 : decode cX0_walker 54 = .ok (.iconst 4, 1) := dk_7 (dk_at dksX0_walker_2 7 rfl rfl)
theorem dX0_walker_55 : decode cX0_walker 55 = .ok (.if_icmp .ne 12, 3) := dk_160 0 12 (dk_at dksX0_walker_2 8 rfl rfl)
theorem dX0_walker_58 : decode cX0_walker 58 = .ok (.aload_n 0, 1) := dk_42 (dk_at dksX0_walker_2 11 rfl rfl)
theorem dX0_walker_59 : decode cX0_walker 59 = .ok (.bipush (-6), 2) := dk_16 250 (dk_at dksX0_walker_2 12 rfl rfl)
theorem dX0_walker_61 : decode cX0_walker 61 = .ok (.invokevirtual 91, 3) := dk_182 0 91 (dk_at dksX0_walker_2 14 rfl rfl)
theorem dX0_walker_64 : decode cX0_walker 64 = .ok (.goto 12, 3) := dk_167 0 12 (dk_at dksX0_walker_2 17 rfl rfl)
theorem dX0_walker_67 : decode cX0_walker 67 = .ok (.aload_n 0, 1) := dk_42 (dk_at dksX0_walker_2 20 rfl rfl)
theorem dX0_walker_68 : decode cX0_walker 68 = .ok (.getfield 42, 3) := dk_180 0 42 (dk_at dksX0_walker_2 21 rfl rfl)
theorem dX0_walker_71 : decode cX0_walker 71 = .ok (.iload_n 1, 1) := dk_27 (dk_at dksX0_walker_3 0 rfl rfl)
theorem dX0_walker_72 : decode cX0_walker 72 = .ok (.iload_n 2, 1) := dk_28 (dk_at dksX0_walker_3 1 rfl rfl)
theorem dX0_walker_73 : decode cX0_walker 73 = .ok (.invokevirtual 196, 3) := dk_182 0 196 (dk_at dksX0_walker_3 2 rfl rfl)
theorem dX0_walker_76 : decode cX0_walker 76 = .ok (.ireturn, 1) := dk_172 (dk_at dksX0_walker_3 5 rfl rfl)
def dkwX0_sure_2 : List UInt8 := [29, 172]
abbrev dktX0_sure_2 : List UInt8 := dkwX0_sure_2 ++ []
def dkwX0_sure_1 : List UInt8 := [182, 0, 91, 172, 42, 180, 0, 42, 180, 0, 202, 27, 46, 62, 42, 180, 0, 42, 180, 0, 202, 27, 28, 79]
abbrev dktX0_sure_1 : List UInt8 := dkwX0_sure_1 ++ dktX0_sure_2
def dkwX0_sure_0 : List UInt8 := [42, 180, 0, 42, 27, 182, 0, 199, 153, 0, 13, 28, 3, 16, 9, 184, 0, 71, 154, 0, 10, 42, 16, 254]
abbrev dktX0_sure_0 : List UInt8 := dkwX0_sure_0 ++ dktX0_sure_1
theorem dksX0_sure_0 : cX0_sure.data.toList.drop 0 = dktX0_sure_0 := by decide +kernel
theorem dksX0_sure_1 : cX0_sure.data.toList.drop 24 = dktX0_sure_1 := dk_seg dksX0_sure_0 24 rfl rfl
theorem dksX0_sure_2 : cX0_sure.data.toList.drop 48 = dktX0_sure_2 := dk_seg dksX0_sure_1 24 rfl rfl
theorem dX0_sure_0 : decode cX0_sure 0 = .ok (.aload_n 0, 1) := dk_42 (dk_at dksX0_sure_0 0 rfl rfl)
theorem dX0_sure_1 : decode cX0_sure 1 = .ok (.getfield 42, 3) := dk_180 0 42 (dk_at dksX0_sure_0 1 rfl rfl)
theorem dX0_sure_4 : decode cX0_sure 4 = .ok (.iload_n 1, 1) := dk_27 (dk_at dksX0_sure_0 4 rfl rfl)
theorem dX0_sure_5 : decode cX0_sure 5 = .ok (.invokevirtual 199, 3) := dk_182 0 199 (dk_at dksX0_sure_0 5 rfl rfl)
theorem dX0_sure_8 : decode cX0_sure 8 = .ok (.ifCond .eq 13, 3) := dk_153 0 13 (dk_at dksX0_sure_0 8 rfl rfl)
theorem dX0_sure_11 : decode cX0_sure 11 = .ok (.iload_n 2, 1) := dk_28 (dk_at dksX0_sure_0 11 rfl rfl)
theorem dX0_sure_12 : decode cX0_sure 12 = .ok (.iconst 0, 1) := dk_3 (dk_at dksX0_sure_0 12 rfl rfl)
theorem dX0_sure_13 : decode cX0_sure 13 = .ok (.bipush 9, 2) := dk_16 9 (dk_at dksX0_sure_0 13 rfl rfl)
theorem dX0_sure_15 : decode cX0_sure 15 = .ok (.invokestatic 71, 3) := dk_184 0 71 (dk_at dksX0_sure_0 15 rfl rfl)
theorem dX0_sure_18 : decode cX0_sure 18 = .ok (.ifCond .ne 10, 3) := dk_154 0 10 (dk_at dksX0_sure_0 18 rfl rfl)
theorem dX0_sure_21 : decode cX0_sure 21 = .ok (.aload_n 0, 1) := dk_42 (dk_at dksX0_sure_0 21 rfl rfl)
theorem dX0_sure_22 : decode cX0_sure 22 = .ok (.bipush (-2), 2) := dk_16 254 (dk_at dksX0_sure_0 22 rfl rfl)
theorem dX0_sure_24 : decode cX0_sure 24 = .ok (.invokevirtual 91, 3) := dk_182 0 91 (dk_at dksX0_sure_1 0 rfl rfl)
theorem dX0_sure_27 : decode cX0_sure 27 = .ok (.ireturn, 1) := dk_172 (dk_at dksX0_sure_1 3 rfl rfl)
theorem dX0_sure_28 : decode cX0_sure 28 = .ok (.aload_n 0, 1) := dk_42 (dk_at dksX0_sure_1 4 rfl rfl)
theorem dX0_sure_29 : decode cX0_sure 29 = .ok (.getfield 42, 3) := dk_180 0 42 (dk_at dksX0_sure_1 5 rfl rfl)
theorem dX0_sure_32 : decode cX0_sure 32 = .ok (.getfield 202, 3) := dk_180 0 202 (dk_at dksX0_sure_1 8 rfl rfl)
theorem dX0_sure_35 : decode cX0_sure 35 = .ok (.iload_n 1, 1) := dk_27 (dk_at dksX0_sure_1 11 rfl rfl)
theorem dX0_sure_36 : decode cX0_sure 36 = .ok (.iaload, 1) := dk_46 (dk_at dksX0_sure_1 12 rfl rfl)
theorem dX0_sure_37 : decode cX0_sure 37 = .ok (.istore_n 3, 1) := dk_62 (dk_at dksX0_sure_1 13 rfl rfl)
theorem dX0_sure_38 : decode cX0_sure 38 = .ok (.aload_n 0, 1) := dk_42 (dk_at dksX0_sure_1 14 rfl rfl)
theorem dX0_sure_39 : decode cX0_sure 39 = .ok (.getfield 42, 3) := dk_180 0 42 (dk_at dksX0_sure_1 15 rfl rfl)
theorem dX0_sure_42 : decode cX0_sure 42 = .ok (.getfield 202, 3) := dk_180 0 202 (dk_at dksX0_sure_1 18 rfl rfl)
theorem dX0_sure_45 : decode cX0_sure 45 = .ok (.iload_n 1, 1) := dk_27 (dk_at dksX0_sure_1 21 rfl rfl)
theorem dX0_sure_46 : decode cX0_sure 46 = .ok (.iload_n 2, 1) := dk_28 (dk_at dksX0_sure_1 22 rfl rfl)
theorem dX0_sure_47 : decode cX0_sure 47 = .ok (.iastore, 1) := dk_79 (dk_at dksX0_sure_1 23 rfl rfl)
theorem dX0_sure_48 : decode cX0_sure 48 = .ok (.iload_n 3, 1) := dk_29 (dk_at dksX0_sure_2 0 rfl rfl)
theorem dX0_sure_49 : decode cX0_sure 49 = .ok (.ireturn, 1) := dk_172 (dk_at dksX0_sure_2 1 rfl rfl)
def dkwX0_feed_2 : List UInt8 := [89, 180, 0, 205, 4, 96, 181, 0, 205, 42, 180, 0, 205, 172]
abbrev dktX0_feed_2 : List UInt8 := dkwX0_feed_2 ++ []
def dkwX0_feed_1 : List UInt8 := [17, 0, 250, 160, 0, 10, 42, 16, 250, 182, 0, 91, 172, 42, 180, 0, 63, 42, 180, 0, 205, 27, 79, 42]
abbrev dktX0_feed_1 : List UInt8 := dkwX0_feed_1 ++ dktX0_feed_2
def dkwX0_feed_0 : List UInt8 := [27, 3, 17, 0, 255, 184, 0, 71, 154, 0, 10, 42, 16, 254, 182, 0, 91, 172, 42, 180, 0, 205]
abbrev dktX0_feed_0 : List UInt8 := dkwX0_feed_0 ++ dktX0_feed_1
theorem dksX0_feed_0 : cX0_feed.data.toList.drop 0 = dktX0_feed_0 := by decide +kernel
theorem dksX0_feed_1 : cX0_feed.data.toList.drop 22 = dktX0_feed_1 := dk_seg dksX0_feed_0 22 rfl rfl
theorem dksX0_feed_2 : cX0_feed.data.toList.drop 46 = dktX0_feed_2 := dk_seg dksX0_feed_1 24 rfl rfl
theorem dX0_feed_0 : decode cX0_feed 0 = .ok (.iload_n 1, 1) := dk_27 (dk_at dksX0_feed_0 0 rfl rfl)
theorem dX0_feed_1 : decode cX0_feed 1 = .ok (.iconst 0, 1) := dk_3 (dk_at dksX0_feed_0 1 rfl rfl)
theorem dX0_feed_2 : decode cX0_feed 2 = .ok (.sipush 255, 3) := dk_17 0 255 (dk_at dksX0_feed_0 2 rfl rfl)
theorem dX0_feed_5 : decode cX0_feed 5 = .ok (.invokestatic 71, 3) := dk_184 0 71 (dk_at dksX0_feed_0 5 rfl rfl)
theorem dX0_feed_8 : decode cX0_feed 8 = .ok (.ifCond .ne 10, 3) := dk_154 0 10 (dk_at dksX0_feed_0 8 rfl rfl)
theorem dX0_feed_11 : decode cX0_feed 11 = .ok (.aload_n 0, 1) := dk_42 (dk_at dksX0_feed_0 11 rfl rfl)
theorem dX0_feed_12 : decode cX0_feed 12 = .ok (.bipush (-2), 2) := dk_16 254 (dk_at dksX0_feed_0 12 rfl rfl)
theorem dX0_feed_14 : decode cX0_feed 14 = .ok (.invokevirtual 91, 3) := dk_182 0 91 (dk_at dksX0_feed_0 14 rfl rfl)
theorem dX0_feed_17 : decode cX0_feed 17 = .ok (.ireturn, 1) := dk_172 (dk_at dksX0_feed_0 17 rfl rfl)
theorem dX0_feed_18 : decode cX0_feed 18 = .ok (.aload_n 0, 1) := dk_42 (dk_at dksX0_feed_0 18 rfl rfl)
theorem dX0_feed_19 : decode cX0_feed 19 = .ok (.getfield 205, 3) := dk_180 0 205 (dk_at dksX0_feed_0 19 rfl rfl)
theorem dX0_feed_22 : decode cX0_feed 22 = .ok (.sipush 250, 3) := dk_17 0 250 (dk_at dksX0_feed_1 0 rfl rfl)
theorem dX0_feed_25 : decode cX0_feed 25 = .ok (.if_icmp .ne 10, 3) := dk_160 0 10 (dk_at dksX0_feed_1 3 rfl rfl)
theorem dX0_feed_28 : decode cX0_feed 28 = .ok (.aload_n 0, 1) := dk_42 (dk_at dksX0_feed_1 6 rfl rfl)
theorem dX0_feed_29 : decode cX0_feed 29 = .ok (.bipush (-6), 2) := dk_16 250 (dk_at dksX0_feed_1 7 rfl rfl)
theorem dX0_feed_31 : decode cX0_feed 31 = .ok (.invokevirtual 91, 3) := dk_182 0 91 (dk_at dksX0_feed_1 9 rfl rfl)
theorem dX0_feed_34 : decode cX0_feed 34 = .ok (.ireturn, 1) := dk_172 (dk_at dksX0_feed_1 12 rfl rfl)
theorem dX0_feed_35 : decode cX0_feed 35 = .ok (.aload_n 0, 1) := dk_42 (dk_at dksX0_feed_1 13 rfl rfl)
theorem dX0_feed_36 : decode cX0_feed 36 = .ok (.getfield 63, 3) := dk_180 0 63 (dk_at dksX0_feed_1 14 rfl rfl)
theorem dX0_feed_39 : decode cX0_feed 39 = .ok (.aload_n 0, 1) := dk_42 (dk_at dksX0_feed_1 17 rfl rfl)
theorem dX0_feed_40 : decode cX0_feed 40 = .ok (.getfield 205, 3) := dk_180 0 205 (dk_at dksX0_feed_1 18 rfl rfl)
theorem dX0_feed_43 : decode cX0_feed 43 = .ok (.iload_n 1, 1) := dk_27 (dk_at dksX0_feed_1 21 rfl rfl)
theorem dX0_feed_44 : decode cX0_feed 44 = .ok (.iastore, 1) := dk_79 (dk_at dksX0_feed_1 22 rfl rfl)
theorem dX0_feed_45 : decode cX0_feed 45 = .ok (.aload_n 0, 1) := dk_42 (dk_at dksX0_feed_1 23 rfl rfl)
theorem dX0_feed_46 : decode cX0_feed 46 = .ok (.dup, 1) := dk_89 (dk_at dksX0_feed_2 0 rfl rfl)
theorem dX0_feed_47 : decode cX0_feed 47 = .ok (.getfield 205, 3) := dk_180 0 205 (dk_at dksX0_feed_2 1 rfl rfl)
theorem dX0_feed_50 : decode cX0_feed 50 = .ok (.iconst 1, 1) := dk_4 (dk_at dksX0_feed_2 4 rfl rfl)
theorem dX0_feed_51 : decode cX0_feed 51 = .ok (.iadd, 1) := dk_96 (dk_at dksX0_feed_2 5 rfl rfl)
theorem dX0_feed_52 : decode cX0_feed 52 = .ok (.putfield 205, 3) := dk_181 0 205 (dk_at dksX0_feed_2 6 rfl rfl)
theorem dX0_feed_55 : decode cX0_feed 55 = .ok (.aload_n 0, 1) := dk_42 (dk_at dksX0_feed_2 9 rfl rfl)
theorem dX0_feed_56 : decode cX0_feed 56 = .ok (.getfield 205, 3) := dk_180 0 205 (dk_at dksX0_feed_2 10 rfl rfl)
theorem dX0_feed_59 : decode cX0_feed 59 = .ok (.ireturn, 1) := dk_172 (dk_at dksX0_feed_2 13 rfl rfl)
def dkwX0_wipe_0 : List UInt8 := [42, 180, 0, 205, 60, 42, 3, 181, 0, 205, 27, 172]
abbrev dktX0_wipe_0 : List UInt8 := dkwX0_wipe_0 ++ []
theorem dksX0_wipe_0 : cX0_wipe.data.toList.drop 0 = dktX0_wipe_0 := by decide +kernel
theorem dX0_wipe_0 : decode cX0_wipe 0 = .ok (.aload_n 0, 1) := dk_42 (dk_at dksX0_wipe_0 0 rfl rfl)
theorem dX0_wipe_1 : decode cX0_wipe 1 = .ok (.getfield 205, 3) := dk_180 0 205 (dk_at dksX0_wipe_0 1 rfl rfl)
theorem dX0_wipe_4 : decode cX0_wipe 4 = .ok (.istore_n 1, 1) := dk_60 (dk_at dksX0_wipe_0 4 rfl rfl)
theorem dX0_wipe_5 : decode cX0_wipe 5 = .ok (.aload_n 0, 1) := dk_42 (dk_at dksX0_wipe_0 5 rfl rfl)
theorem dX0_wipe_6 : decode cX0_wipe 6 = .ok (.iconst 0, 1) := dk_3 (dk_at dksX0_wipe_0 6 rfl rfl)
theorem dX0_wipe_7 : decode cX0_wipe 7 = .ok (.putfield 205, 3) := dk_181 0 205 (dk_at dksX0_wipe_0 7 rfl rfl)
theorem dX0_wipe_10 : decode cX0_wipe 10 = .ok (.iload_n 1, 1) := dk_27 (dk_at dksX0_wipe_0 10 rfl rfl)
theorem dX0_wipe_11 : decode cX0_wipe 11 = .ok (.ireturn, 1) := dk_172 (dk_at dksX0_wipe_0 11 rfl rfl)
def dkwX0_fen_3 : List UInt8 := [3, 181, 0, 205, 25, 4, 191]
abbrev dktX0_fen_3 : List UInt8 := dkwX0_fen_3 ++ []
def dkwX0_fen_2 : List UInt8 := [16, 254, 182, 0, 91, 87, 16, 236, 43, 180, 0, 230, 100, 61, 42, 3, 181, 0, 205, 28, 172, 58, 4, 42]
abbrev dktX0_fen_2 : List UInt8 := dkwX0_fen_2 ++ dktX0_fen_3
def dkwX0_fen_1 : List UInt8 := [182, 0, 217, 61, 42, 43, 180, 0, 221, 182, 0, 224, 28, 62, 42, 3, 181, 0, 205, 29, 172, 76, 42]
abbrev dktX0_fen_1 : List UInt8 := dkwX0_fen_1 ++ dktX0_fen_2
def dkwX0_fen_0 : List UInt8 := [187, 0, 208, 89, 42, 180, 0, 63, 42, 180, 0, 205, 42, 180, 0, 42, 182, 0, 210, 183, 0, 214, 76, 43]
abbrev dktX0_fen_0 : List UInt8 := dkwX0_fen_0 ++ dktX0_fen_1
theorem dksX0_fen_0 : cX0_fen.data.toList.drop 0 = dktX0_fen_0 := by decide +kernel
theorem dksX0_fen_1 : cX0_fen.data.toList.drop 24 = dktX0_fen_1 := dk_seg dksX0_fen_0 24 rfl rfl
theorem dksX0_fen_2 : cX0_fen.data.toList.drop 47 = dktX0_fen_2 := dk_seg dksX0_fen_1 23 rfl rfl
theorem dksX0_fen_3 : cX0_fen.data.toList.drop 71 = dktX0_fen_3 := dk_seg dksX0_fen_2 24 rfl rfl
theorem dX0_fen_0 : decode cX0_fen 0 = .ok (.new 208, 3) := dk_187 0 208 (dk_at dksX0_fen_0 0 rfl rfl)
theorem dX0_fen_3 : decode cX0_fen 3 = .ok (.dup, 1) := dk_89 (dk_at dksX0_fen_0 3 rfl rfl)
theorem dX0_fen_4 : decode cX0_fen 4 = .ok (.aload_n 0, 1) := dk_42 (dk_at dksX0_fen_0 4 rfl rfl)
theorem dX0_fen_5 : decode cX0_fen 5 = .ok (.getfield 63, 3) := dk_180 0 63 (dk_at dksX0_fen_0 5 rfl rfl)
theorem dX0_fen_8 : decode cX0_fen 8 = .ok (.aload_n 0, 1) := dk_42 (dk_at dksX0_fen_0 8 rfl rfl)
theorem dX0_fen_9 : decode cX0_fen 9 = .ok (.getfield 205, 3) := dk_180 0 205 (dk_at dksX0_fen_0 9 rfl rfl)
theorem dX0_fen_12 : decode cX0_fen 12 = .ok (.aload_n 0, 1) := dk_42 (dk_at dksX0_fen_0 12 rfl rfl)
theorem dX0_fen_13 : decode cX0_fen 13 = .ok (.getfield 42, 3) := dk_180 0 42 (dk_at dksX0_fen_0 13 rfl rfl)
theorem dX0_fen_16 : decode cX0_fen 16 = .ok (.invokevirtual 210, 3) := dk_182 0 210 (dk_at dksX0_fen_0 16 rfl rfl)
theorem dX0_fen_19 : decode cX0_fen 19 = .ok (.invokespecial 214, 3) := dk_183 0 214 (dk_at dksX0_fen_0 19 rfl rfl)
theorem dX0_fen_22 : decode cX0_fen 22 = .ok (.astore_n 1, 1) := dk_76 (dk_at dksX0_fen_0 22 rfl rfl)
theorem dX0_fen_23 : decode cX0_fen 23 = .ok (.aload_n 1, 1) := dk_43 (dk_at dksX0_fen_0 23 rfl rfl)
theorem dX0_fen_24 : decode cX0_fen 24 = .ok (.invokevirtual 217, 3) := dk_182 0 217 (dk_at dksX0_fen_1 0 rfl rfl)
theorem dX0_fen_27 : decode cX0_fen 27 = .ok (.istore_n 2, 1) := dk_61 (dk_at dksX0_fen_1 3 rfl rfl)
theorem dX0_fen_28 : decode cX0_fen 28 = .ok (.aload_n 0, 1) := dk_42 (dk_at dksX0_fen_1 4 rfl rfl)
theorem dX0_fen_29 : decode cX0_fen 29 = .ok (.aload_n 1, 1) := dk_43 (dk_at dksX0_fen_1 5 rfl rfl)
theorem dX0_fen_30 : decode cX0_fen 30 = .ok (.getfield 221, 3) := dk_180 0 221 (dk_at dksX0_fen_1 6 rfl rfl)
theorem dX0_fen_33 : decode cX0_fen 33 = .ok (.invokevirtual 224, 3) := dk_182 0 224 (dk_at dksX0_fen_1 9 rfl rfl)
theorem dX0_fen_36 : decode cX0_fen 36 = .ok (.iload_n 2, 1) := dk_28 (dk_at dksX0_fen_1 12 rfl rfl)
theorem dX0_fen_37 : decode cX0_fen 37 = .ok (.istore_n 3, 1) := dk_62 (dk_at dksX0_fen_1 13 rfl rfl)
theorem dX0_fen_38 : decode cX0_fen 38 = .ok (.aload_n 0, 1) := dk_42 (dk_at dksX0_fen_1 14 rfl rfl)
theorem dX0_fen_39 : decode cX0_fen 39 = .ok (.iconst 0, 1) := dk_3 (dk_at dksX0_fen_1 15 rfl rfl)
theorem dX0_fen_40 : decode cX0_fen 40 = .ok (.putfield 205, 3) := dk_181 0 205 (dk_at dksX0_fen_1 16 rfl rfl)
theorem dX0_fen_43 : decode cX0_fen 43 = .ok (.iload_n 3, 1) := dk_29 (dk_at dksX0_fen_1 19 rfl rfl)
theorem dX0_fen_44 : decode cX0_fen 44 = .ok (.ireturn, 1) := dk_172 (dk_at dksX0_fen_1 20 rfl rfl)
theorem dX0_fen_45 : decode cX0_fen 45 = .ok (.astore_n 1, 1) := dk_76 (dk_at dksX0_fen_1 21 rfl rfl)
theorem dX0_fen_46 : decode cX0_fen 46 = .ok (.aload_n 0, 1) := dk_42 (dk_at dksX0_fen_1 22 rfl rfl)
theorem dX0_fen_47 : decode cX0_fen 47 = .ok (.bipush (-2), 2) := dk_16 254 (dk_at dksX0_fen_2 0 rfl rfl)
theorem dX0_fen_49 : decode cX0_fen 49 = .ok (.invokevirtual 91, 3) := dk_182 0 91 (dk_at dksX0_fen_2 2 rfl rfl)
theorem dX0_fen_52 : decode cX0_fen 52 = .ok (.pop, 1) := dk_87 (dk_at dksX0_fen_2 5 rfl rfl)
theorem dX0_fen_53 : decode cX0_fen 53 = .ok (.bipush (-20), 2) := dk_16 236 (dk_at dksX0_fen_2 6 rfl rfl)
theorem dX0_fen_55 : decode cX0_fen 55 = .ok (.aload_n 1, 1) := dk_43 (dk_at dksX0_fen_2 8 rfl rfl)
theorem dX0_fen_56 : decode cX0_fen 56 = .ok (.getfield 230, 3) := dk_180 0 230 (dk_at dksX0_fen_2 9 rfl rfl)
theorem dX0_fen_59 : decode cX0_fen 59 = .ok (.isub, 1) := dk_100 (dk_at dksX0_fen_2 12 rfl rfl)
theorem dX0_fen_60 : decode cX0_fen 60 = .ok (.istore_n 2, 1) := dk_61 (dk_at dksX0_fen_2 13 rfl rfl)
theorem dX0_fen_61 : decode cX0_fen 61 = .ok (.aload_n 0, 1) := dk_42 (dk_at dksX0_fen_2 14 rfl rfl)
theorem dX0_fen_62 : decode cX0_fen 62 = .ok (.iconst 0, 1) := dk_3 (dk_at dksX0_fen_2 15 rfl rfl)
theorem dX0_fen_63 : decode cX0_fen 63 = .ok (.putfield 205, 3) := dk_181 0 205 (dk_at dksX0_fen_2 16 rfl rfl)
theorem dX0_fen_66 : decode cX0_fen 66 = .ok (.iload_n 2, 1) := dk_28 (dk_at dksX0_fen_2 19 rfl rfl)
theorem dX0_fen_67 : decode cX0_fen 67 = .ok (.ireturn, 1) := dk_172 (dk_at dksX0_fen_2 20 rfl rfl)
theorem dX0_fen_68 : decode cX0_fen 68 = .ok (.astore 4, 2) := dk_58 4 (dk_at dksX0_fen_2 21 rfl rfl)
theorem dX0_fen_70 : decode cX0_fen 70 = .ok (.aload_n 0, 1) := dk_42 (dk_at dksX0_fen_2 23 rfl rfl)
theorem dX0_fen_71 : decode cX0_fen 71 = .ok (.iconst 0, 1) := dk_3 (dk_at dksX0_fen_3 0 rfl rfl)
theorem dX0_fen_72 : decode cX0_fen 72 = .ok (.putfield 205, 3) := dk_181 0 205 (dk_at dksX0_fen_3 1 rfl rfl)
theorem dX0_fen_75 : decode cX0_fen 75 = .ok (.aload 4, 2) := dk_25 4 (dk_at dksX0_fen_3 4 rfl rfl)
theorem dX0_fen_77 : decode cX0_fen 77 = .ok (.athrow, 1) := dk_191 (dk_at dksX0_fen_3 6 rfl rfl)
def dkwX0_becomes_3 : List UInt8 := [29, 50, 167, 0, 4, 1, 181, 0, 98, 132, 2, 1, 167, 255, 182, 177]
abbrev dktX0_becomes_3 : List UInt8 := dkwX0_becomes_3 ++ []
def dkwX0_becomes_2 : List UInt8 := [180, 0, 59, 28, 50, 42, 180, 0, 42, 29, 133, 182, 0, 142, 153, 0, 15, 42, 180, 0, 42, 180, 0, 146]
abbrev dktX0_becomes_2 : List UInt8 := dkwX0_becomes_2 ++ dktX0_becomes_3
def dkwX0_becomes_1 : List UInt8 := [193, 0, 13, 153, 0, 53, 42, 180, 0, 59, 28, 50, 180, 0, 98, 192, 0, 13, 180, 0, 139, 62, 42]
abbrev dktX0_becomes_1 : List UInt8 := dkwX0_becomes_1 ++ dktX0_becomes_2
def dkwX0_becomes_0 : List UInt8 := [42, 43, 181, 0, 42, 3, 61, 28, 16, 8, 162, 0, 74, 42, 180, 0, 59, 28, 50, 180, 0, 98]
abbrev dktX0_becomes_0 : List UInt8 := dkwX0_becomes_0 ++ dktX0_becomes_1
theorem dksX0_becomes_0 : cX0_becomes.data.toList.drop 0 = dktX0_becomes_0 := by decide +kernel
theorem dksX0_becomes_1 : cX0_becomes.data.toList.drop 22 = dktX0_becomes_1 := dk_seg dksX0_becomes_0 22 rfl rfl
theorem dksX0_becomes_2 : cX0_becomes.data.toList.drop 45 = dktX0_becomes_2 := dk_seg dksX0_becomes_1 23 rfl rfl
theorem dksX0_becomes_3 : cX0_becomes.data.toList.drop 69 = dktX0_becomes_3 := dk_seg dksX0_becomes_2 24 rfl rfl
theorem dX0_becomes_0 : decode cX0_becomes 0 = .ok (.aload_n 0, 1) := dk_42 (dk_at dksX0_becomes_0 0 rfl rfl)
theorem dX0_becomes_1 : decode cX0_becomes 1 = .ok (.aload_n 1, 1) := dk_43 (dk_at dksX0_becomes_0 1 rfl rfl)
theorem dX0_becomes_2 : decode cX0_becomes 2 = .ok (.putfield 42, 3) := dk_181 0 42 (dk_at dksX0_becomes_0 2 rfl rfl)
theorem dX0_becomes_5 : decode cX0_becomes 5 = .ok (.iconst 0, 1) := dk_3 (dk_at dksX0_becomes_0 5 rfl rfl)
theorem dX0_becomes_6 : decode cX0_becomes 6 = .ok (.istore_n 2, 1) := dk_61 (dk_at dksX0_becomes_0 6 rfl rfl)
theorem dX0_becomes_7 : decode cX0_becomes 7 = .ok (.iload_n 2, 1) := dk_28 (dk_at dksX0_becomes_0 7 rfl rfl)
theorem dX0_becomes_8 : decode cX0_becomes 8 = .ok (.bipush 8, 2) := dk_16 8 (dk_at dksX0_becomes_0 8 rfl rfl)
theorem dX0_becomes_10 : decode cX0_becomes 10 = .ok (.if_icmp .ge 74, 3) := dk_162 0 74 (dk_at dksX0_becomes_0 10 rfl rfl)
theorem dX0_becomes_13 : decode cX0_becomes 13 = .ok (.aload_n 0, 1) := dk_42 (dk_at dksX0_becomes_0 13 rfl rfl)
theorem dX0_becomes_14 : decode cX0_becomes 14 = .ok (.getfield 59, 3) := dk_180 0 59 (dk_at dksX0_becomes_0 14 rfl rfl)
theorem dX0_becomes_17 : decode cX0_becomes 17 = .ok (.iload_n 2, 1) := dk_28 (dk_at dksX0_becomes_0 17 rfl rfl)
theorem dX0_becomes_18 : decode cX0_becomes 18 = .ok (.aaload, 1) := dk_50 (dk_at dksX0_becomes_0 18 rfl rfl)
theorem dX0_becomes_19 : decode cX0_becomes 19 = .ok (.getfield 98, 3) := dk_180 0 98 (dk_at dksX0_becomes_0 19 rfl rfl)
theorem dX0_becomes_22 : decode cX0_becomes 22 = .ok (.instanceof 13, 3) := dk_193 0 13 (dk_at dksX0_becomes_1 0 rfl rfl)
theorem dX0_becomes_25 : decode cX0_becomes 25 = .ok (.ifCond .eq 53, 3) := dk_153 0 53 (dk_at dksX0_becomes_1 3 rfl rfl)
theorem dX0_becomes_28 : decode cX0_becomes 28 = .ok (.aload_n 0, 1) := dk_42 (dk_at dksX0_becomes_1 6 rfl rfl)
theorem dX0_becomes_29 : decode cX0_becomes 29 = .ok (.getfield 59, 3) := dk_180 0 59 (dk_at dksX0_becomes_1 7 rfl rfl)
theorem dX0_becomes_32 : decode cX0_becomes 32 = .ok (.iload_n 2, 1) := dk_28 (dk_at dksX0_becomes_1 10 rfl rfl)
theorem dX0_becomes_33 : decode cX0_becomes 33 = .ok (.aaload, 1) := dk_50 (dk_at dksX0_becomes_1 11 rfl rfl)
theorem dX0_becomes_34 : decode cX0_becomes 34 = .ok (.getfield 98, 3) := dk_180 0 98 (dk_at dksX0_becomes_1 12 rfl rfl)
theorem dX0_becomes_37 : decode cX0_becomes 37 = .ok (.checkcast 13, 3) := dk_192 0 13 (dk_at dksX0_becomes_1 15 rfl rfl)
theorem dX0_becomes_40 : decode cX0_becomes 40 = .ok (.getfield 139, 3) := dk_180 0 139 (dk_at dksX0_becomes_1 18 rfl rfl)
theorem dX0_becomes_43 : decode cX0_becomes 43 = .ok (.istore_n 3, 1) := dk_62 (dk_at dksX0_becomes_1 21 rfl rfl)
theorem dX0_becomes_44 : decode cX0_becomes 44 = .ok (.aload_n 0, 1) := dk_42 (dk_at dksX0_becomes_1 22 rfl rfl)
theorem dX0_becomes_45 : decode cX0_becomes 45 = .ok (.getfield 59, 3) := dk_180 0 59 (dk_at dksX0_becomes_2 0 rfl rfl)
theorem dX0_becomes_48 : decode cX0_becomes 48 = .ok (.iload_n 2, 1) := dk_28 (dk_at dksX0_becomes_2 3 rfl rfl)
theorem dX0_becomes_49 : decode cX0_becomes 49 = .ok (.aaload, 1) := dk_50 (dk_at dksX0_becomes_2 4 rfl rfl)
theorem dX0_becomes_50 : decode cX0_becomes 50 = .ok (.aload_n 0, 1) := dk_42 (dk_at dksX0_becomes_2 5 rfl rfl)
theorem dX0_becomes_51 : decode cX0_becomes 51 = .ok (.getfield 42, 3) := dk_180 0 42 (dk_at dksX0_becomes_2 6 rfl rfl)
theorem dX0_becomes_54 : decode cX0_becomes 54 = .ok (.iload_n 3, 1) := dk_29 (dk_at dksX0_becomes_2 9 rfl rfl)
theorem dX0_becomes_55 : decode cX0_becomes 55 = .ok (.i2l, 1) := dk_133 (dk_at dksX0_becomes_2 10 rfl rfl)
theorem dX0_becomes_56 : decode cX0_becomes 56 = .ok (.invokevirtual 142, 3) := dk_182 0 142 (dk_at dksX0_becomes_2 11 rfl rfl)
theorem dX0_becomes_59 : decode cX0_becomes 59 = .ok (.ifCond .eq 15, 3) := dk_153 0 15 (dk_at dksX0_becomes_2 14 rfl rfl)
theorem dX0_becomes_62 : decode cX0_becomes 62 = .ok (.aload_n 0, 1) := dk_42 (dk_at dksX0_becomes_2 17 rfl rfl)
theorem dX0_becomes_63 : decode cX0_becomes 63 = .ok (.getfield 42, 3) := dk_180 0 42 (dk_at dksX0_becomes_2 18 rfl rfl)
theorem dX0_becomes_66 : decode cX0_becomes 66 = .ok (.getfield 146, 3) := dk_180 0 146 (dk_at dksX0_becomes_2 21 rfl rfl)
theorem dX0_becomes_69 : decode cX0_becomes 69 = .ok (.iload_n 3, 1) := dk_29 (dk_at dksX0_becomes_3 0 rfl rfl)
theorem dX0_becomes_70 : decode cX0_becomes 70 = .ok (.aaload, 1) := dk_50 (dk_at dksX0_becomes_3 1 rfl rfl)
theorem dX0_becomes_71 : decode cX0_becomes 71 = .ok (.goto 4, 3) := dk_167 0 4 (dk_at dksX0_becomes_3 2 rfl rfl)
theorem dX0_becomes_74 : decode cX0_becomes 74 = .ok (.aconst_null, 1) := dk_1 (dk_at dksX0_becomes_3 5 rfl rfl)
theorem dX0_becomes_75 : decode cX0_becomes 75 = .ok (.putfield 98, 3) := dk_181 0 98 (dk_at dksX0_becomes_3 6 rfl rfl)
theorem dX0_becomes_78 : decode cX0_becomes 78 = .ok (.iinc 2 1, 3) := dk_132 2 1 (dk_at dksX0_becomes_3 9 rfl rfl)
theorem dX0_becomes_81 : decode cX0_becomes 81 = .ok (.goto (-74), 3) := dk_167 255 182 (dk_at dksX0_becomes_3 12 rfl rfl)
theorem dX0_becomes_84 : decode cX0_becomes 84 = .ok (.return_, 1) := dk_177 (dk_at dksX0_becomes_3 15 rfl rfl)
def dkwX0_postOf_4 : List UInt8 := [180, 0, 146, 27, 50, 182, 0, 161, 172, 42, 16, 254, 182, 0, 91, 172]
abbrev dktX0_postOf_4 : List UInt8 := dkwX0_postOf_4 ++ []
def dkwX0_postOf_3 : List UInt8 := [180, 0, 158, 172, 42, 180, 0, 42, 180, 0, 146, 27, 50, 180, 0, 236, 172, 42, 42, 180, 0, 42]
abbrev dktX0_postOf_3 : List UInt8 := dkwX0_postOf_3 ++ dktX0_postOf_4
def dkwX0_postOf_2 : List UInt8 := [42, 180, 0, 42, 180, 0, 146, 27, 50, 182, 0, 233, 172, 42, 180, 0, 42, 180, 0, 146, 27, 50]
abbrev dktX0_postOf_2 : List UInt8 := dkwX0_postOf_2 ++ dktX0_postOf_3
def dkwX0_postOf_1 : List UInt8 := [170, 0, 0, 0, 0, 0, 0, 85, 0, 0, 0, 0, 0, 0, 0, 3, 0, 0, 0, 32, 0, 0, 0, 45, 0, 0, 0, 58, 0, 0, 0, 71]
abbrev dktX0_postOf_1 : List UInt8 := dkwX0_postOf_1 ++ dktX0_postOf_2
def dkwX0_postOf_0 : List UInt8 := [42, 180, 0, 42, 27, 133, 182, 0, 142, 154, 0, 10, 42, 16, 254, 182, 0, 91, 172, 28]
abbrev dktX0_postOf_0 : List UInt8 := dkwX0_postOf_0 ++ dktX0_postOf_1
theorem dksX0_postOf_0 : cX0_postOf.data.toList.drop 0 = dktX0_postOf_0 := by decide +kernel
theorem dksX0_postOf_1 : cX0_postOf.data.toList.drop 20 = dktX0_postOf_1 := dk_seg dksX0_postOf_0 20 rfl rfl
theorem dksX0_postOf_2 : cX0_postOf.data.toList.drop 52 = dktX0_postOf_2 := dk_seg dksX0_postOf_1 32 rfl rfl
theorem dksX0_postOf_3 : cX0_postOf.data.toList.drop 74 = dktX0_postOf_3 := dk_seg dksX0_postOf_2 22 rfl rfl
theorem dksX0_postOf_4 : cX0_postOf.data.toList.drop 96 = dktX0_postOf_4 := dk_seg dksX0_postOf_3 22 rfl rfl
theorem dX0_postOf_0 : decode cX0_postOf 0 = .ok (.aload_n 0, 1) := dk_42 (dk_at dksX0_postOf_0 0 rfl rfl)
theorem dX0_postOf_1 : decode cX0_postOf 1 = .ok (.getfield 42, 3) := dk_180 0 42 (dk_at dksX0_postOf_0 1 rfl rfl)
theorem dX0_postOf_4 : decode cX0_postOf 4 = .ok (.iload_n 1, 1) := dk_27 (dk_at dksX0_postOf_0 4 rfl rfl)
theorem dX0_postOf_5 : decode cX0_postOf 5 = .ok (.i2l, 1) := dk_133 (dk_at dksX0_postOf_0 5 rfl rfl)
theorem dX0_postOf_6 : decode cX0_postOf 6 = .ok (.invokevirtual 142, 3) := dk_182 0 142 (dk_at dksX0_postOf_0 6 rfl rfl)
theorem dX0_postOf_9 : decode cX0_postOf 9 = .ok (.ifCond .ne 10, 3) := dk_154 0 10 (dk_at dksX0_postOf_0 9 rfl rfl)
theorem dX0_postOf_12 : decode cX0_postOf 12 = .ok (.aload_n 0, 1) := dk_42 (dk_at dksX0_postOf_0 12 rfl rfl)
theorem dX0_postOf_13 : decode cX0_postOf 13 = .ok (.bipush (-2), 2) := dk_16 254 (dk_at dksX0_postOf_0 13 rfl rfl)
theorem dX0_postOf_15 : decode cX0_postOf 15 = .ok (.invokevirtual 91, 3) := dk_182 0 91 (dk_at dksX0_postOf_0 15 rfl rfl)
theorem dX0_postOf_18 : decode cX0_postOf 18 = .ok (.ireturn, 1) := dk_172 (dk_at dksX0_postOf_0 18 rfl rfl)
theorem dX0_postOf_19 : decode cX0_postOf 19 = .ok (.iload_n 2, 1) := dk_28 (dk_at dksX0_postOf_0 19 rfl rfl)
theorem dX0_postOf_20 : decode cX0_postOf 20 = .ok (.tableswitch 85 0 3 #[32, 45, 58, 71], 32) := by decide +kernel
theorem dX0_postOf_52 : decode cX0_postOf 52 = .ok (.aload_n 0, 1) := dk_42 (dk_at dksX0_postOf_2 0 rfl rfl)
theorem dX0_postOf_53 : decode cX0_postOf 53 = .ok (.getfield 42, 3) := dk_180 0 42 (dk_at dksX0_postOf_2 1 rfl rfl)
theorem dX0_postOf_56 : decode cX0_postOf 56 = .ok (.getfield 146, 3) := dk_180 0 146 (dk_at dksX0_postOf_2 4 rfl rfl)
theorem dX0_postOf_59 : decode cX0_postOf 59 = .ok (.iload_n 1, 1) := dk_27 (dk_at dksX0_postOf_2 7 rfl rfl)
theorem dX0_postOf_60 : decode cX0_postOf 60 = .ok (.aaload, 1) := dk_50 (dk_at dksX0_postOf_2 8 rfl rfl)
theorem dX0_postOf_61 : decode cX0_postOf 61 = .ok (.invokevirtual 233, 3) := dk_182 0 233 (dk_at dksX0_postOf_2 9 rfl rfl)
theorem dX0_postOf_64 : decode cX0_postOf 64 = .ok (.ireturn, 1) := dk_172 (dk_at dksX0_postOf_2 12 rfl rfl)
theorem dX0_postOf_65 : decode cX0_postOf 65 = .ok (.aload_n 0, 1) := dk_42 (dk_at dksX0_postOf_2 13 rfl rfl)
theorem dX0_postOf_66 : decode cX0_postOf 66 = .ok (.getfield 42, 3) := dk_180 0 42 (dk_at dksX0_postOf_2 14 rfl rfl)
theorem dX0_postOf_69 : decode cX0_postOf 69 = .ok (.getfield 146, 3) := dk_180 0 146 (dk_at dksX0_postOf_2 17 rfl rfl)
theorem dX0_postOf_72 : decode cX0_postOf 72 = .ok (.iload_n 1, 1) := dk_27 (dk_at dksX0_postOf_2 20 rfl rfl)
theorem dX0_postOf_73 : decode cX0_postOf 73 = .ok (.aaload, 1) := dk_50 (dk_at dksX0_postOf_2 21 rfl rfl)
theorem dX0_postOf_74 : decode cX0_postOf 74 = .ok (.getfield 158, 3) := dk_180 0 158 (dk_at dksX0_postOf_3 0 rfl rfl)
theorem dX0_postOf_77 : decode cX0_postOf 77 = .ok (.ireturn, 1) := dk_172 (dk_at dksX0_postOf_3 3 rfl rfl)
theorem dX0_postOf_78 : decode cX0_postOf 78 = .ok (.aload_n 0, 1) := dk_42 (dk_at dksX0_postOf_3 4 rfl rfl)
theorem dX0_postOf_79 : decode cX0_postOf 79 = .ok (.getfield 42, 3) := dk_180 0 42 (dk_at dksX0_postOf_3 5 rfl rfl)
theorem dX0_postOf_82 : decode cX0_postOf 82 = .ok (.getfield 146, 3) := dk_180 0 146 (dk_at dksX0_postOf_3 8 rfl rfl)
theorem dX0_postOf_85 : decode cX0_postOf 85 = .ok (.iload_n 1, 1) := dk_27 (dk_at dksX0_postOf_3 11 rfl rfl)
theorem dX0_postOf_86 : decode cX0_postOf 86 = .ok (.aaload, 1) := dk_50 (dk_at dksX0_postOf_3 12 rfl rfl)
theorem dX0_postOf_87 : decode cX0_postOf 87 = .ok (.getfield 236, 3) := dk_180 0 236 (dk_at dksX0_postOf_3 13 rfl rfl)
theorem dX0_postOf_90 : decode cX0_postOf 90 = .ok (.ireturn, 1) := dk_172 (dk_at dksX0_postOf_3 16 rfl rfl)
theorem dX0_postOf_91 : decode cX0_postOf 91 = .ok (.aload_n 0, 1) := dk_42 (dk_at dksX0_postOf_3 17 rfl rfl)
theorem dX0_postOf_92 : decode cX0_postOf 92 = .ok (.aload_n 0, 1) := dk_42 (dk_at dksX0_postOf_3 18 rfl rfl)
theorem dX0_postOf_93 : decode cX0_postOf 93 = .ok (.getfield 42, 3) := dk_180 0 42 (dk_at dksX0_postOf_3 19 rfl rfl)
theorem dX0_postOf_96 : decode cX0_postOf 96 = .ok (.getfield 146, 3) := dk_180 0 146 (dk_at dksX0_postOf_4 0 rfl rfl)
theorem dX0_postOf_99 : decode cX0_postOf 99 = .ok (.iload_n 1, 1) := dk_27 (dk_at dksX0_postOf_4 3 rfl rfl)
theorem dX0_postOf_100 : decode cX0_postOf 100 = .ok (.aaload, 1) := dk_50 (dk_at dksX0_postOf_4 4 rfl rfl)
theorem dX0_postOf_101 : decode cX0_postOf 101 = .ok (.invokevirtual 161, 3) := dk_182 0 161 (dk_at dksX0_postOf_4 5 rfl rfl)
theorem dX0_postOf_104 : decode cX0_postOf 104 = .ok (.ireturn, 1) := dk_172 (dk_at dksX0_postOf_4 8 rfl rfl)
theorem dX0_postOf_105 : decode cX0_postOf 105 = .ok (.aload_n 0, 1) := dk_42 (dk_at dksX0_postOf_4 9 rfl rfl)
theorem dX0_postOf_106 : decode cX0_postOf 106 = .ok (.bipush (-2), 2) := dk_16 254 (dk_at dksX0_postOf_4 10 rfl rfl)
theorem dX0_postOf_108 : decode cX0_postOf 108 = .ok (.invokevirtual 91, 3) := dk_182 0 91 (dk_at dksX0_postOf_4 12 rfl rfl)
theorem dX0_postOf_111 : decode cX0_postOf 111 = .ok (.ireturn, 1) := dk_172 (dk_at dksX0_postOf_4 15 rfl rfl)
def dkwX0_walkerOf_4 : List UInt8 := [27, 46, 42, 180, 0, 42, 180, 0, 183, 182, 0, 244, 172, 42, 16, 254, 182, 0, 91, 172]
abbrev dktX0_walkerOf_4 : List UInt8 := dkwX0_walkerOf_4 ++ []
def dkwX0_walkerOf_3 : List UInt8 := [27, 182, 0, 241, 153, 0, 7, 4, 167, 0, 4, 3, 172, 42, 180, 0, 42, 42, 180, 0, 42, 180, 0, 239]
abbrev dktX0_walkerOf_3 : List UInt8 := dkwX0_walkerOf_3 ++ dktX0_walkerOf_4
def dkwX0_walkerOf_2 : List UInt8 := [42, 180, 0, 42, 180, 0, 239, 27, 46, 172, 42, 180, 0, 42, 180, 0, 202, 27, 46, 172, 42, 180, 0, 42]
abbrev dktX0_walkerOf_2 : List UInt8 := dkwX0_walkerOf_2 ++ dktX0_walkerOf_3
def dkwX0_walkerOf_1 : List UInt8 := [170, 0, 0, 0, 90, 0, 0, 0, 0, 0, 0, 0, 3, 0, 0, 0, 29, 0, 0, 0, 39, 0, 0, 0, 49, 0, 0, 0, 66]
abbrev dktX0_walkerOf_1 : List UInt8 := dkwX0_walkerOf_1 ++ dktX0_walkerOf_2
def dkwX0_walkerOf_0 : List UInt8 := [42, 180, 0, 42, 27, 182, 0, 199, 154, 0, 10, 42, 16, 254, 182, 0, 91, 172, 28]
abbrev dktX0_walkerOf_0 : List UInt8 := dkwX0_walkerOf_0 ++ dktX0_walkerOf_1
theorem dksX0_walkerOf_0 : cX0_walkerOf.data.toList.drop 0 = dktX0_walkerOf_0 := by decide +kernel
theorem dksX0_walkerOf_1 : cX0_walkerOf.data.toList.drop 19 = dktX0_walkerOf_1 := dk_seg dksX0_walkerOf_0 19 rfl rfl
theorem dksX0_walkerOf_2 : cX0_walkerOf.data.toList.drop 48 = dktX0_walkerOf_2 := dk_seg dksX0_walkerOf_1 29 rfl rfl
theorem dksX0_walkerOf_3 : cX0_walkerOf.data.toList.drop 72 = dktX0_walkerOf_3 := dk_seg dksX0_walkerOf_2 24 rfl rfl
theorem dksX0_walkerOf_4 : cX0_walkerOf.data.toList.drop 96 = dktX0_walkerOf_4 := dk_seg dksX0_walkerOf_3 24 rfl rfl
theorem dX0_walkerOf_0 : decode cX0_walkerOf 0 = .ok (.aload_n 0, 1) := dk_42 (dk_at dksX0_walkerOf_0 0 rfl rfl)
theorem dX0_walkerOf_1 : decode cX0_walkerOf 1 = .ok (.getfield 42, 3) := dk_180 0 42 (dk_at dksX0_walkerOf_0 1 rfl rfl)
theorem dX0_walkerOf_4 : decode cX0_walkerOf 4 = .ok (.iload_n 1, 1) := dk_27 (dk_at dksX0_walkerOf_0 4 rfl rfl)
theorem dX0_walkerOf_5 : decode cX0_walkerOf 5 = .ok (.invokevirtual 199, 3) := dk_182 0 199 (dk_at dksX0_walkerOf_0 5 rfl rfl)
theorem dX0_walkerOf_8 : decode cX0_walkerOf 8 = .ok (.ifCond .ne 10, 3) := dk_154 0 10 (dk_at dksX0_walkerOf_0 8 rfl rfl)
theorem dX0_walkerOf_11 : decode cX0_walkerOf 11 = .ok (.aload_n 0, 1) := dk_42 (dk_at dksX0_walkerOf_0 11 rfl rfl)
theorem dX0_walkerOf_12 : decode cX0_walkerOf 12 = .ok (.bipush (-2), 2) := dk_16 254 (dk_at dksX0_walkerOf_0 12 rfl rfl)
theorem dX0_walkerOf_14 : decode cX0_walkerOf 14 = .ok (.invokevirtual 91, 3) := dk_182 0 91 (dk_at dksX0_walkerOf_0 14 rfl rfl)
theorem dX0_walkerOf_17 : decode cX0_walkerOf 17 = .ok (.ireturn, 1) := dk_172 (dk_at dksX0_walkerOf_0 17 rfl rfl)
theorem dX0_walkerOf_18 : decode cX0_walkerOf 18 = .ok (.iload_n 2, 1) := dk_28 (dk_at dksX0_walkerOf_0 18 rfl rfl)
theorem dX0_walkerOf_19 : decode cX0_walkerOf 19 = .ok (.tableswitch 90 0 3 #[29, 39, 49, 66], 29) := by decide +kernel
theorem dX0_walkerOf_48 : decode cX0_walkerOf 48 = .ok (.aload_n 0, 1) := dk_42 (dk_at dksX0_walkerOf_2 0 rfl rfl)
theorem dX0_walkerOf_49 : decode cX0_walkerOf 49 = .ok (.getfield 42, 3) := dk_180 0 42 (dk_at dksX0_walkerOf_2 1 rfl rfl)
theorem dX0_walkerOf_52 : decode cX0_walkerOf 52 = .ok (.getfield 239, 3) := dk_180 0 239 (dk_at dksX0_walkerOf_2 4 rfl rfl)
theorem dX0_walkerOf_55 : decode cX0_walkerOf 55 = .ok (.iload_n 1, 1) := dk_27 (dk_at dksX0_walkerOf_2 7 rfl rfl)
theorem dX0_walkerOf_56 : decode cX0_walkerOf 56 = .ok (.iaload, 1) := dk_46 (dk_at dksX0_walkerOf_2 8 rfl rfl)
theorem dX0_walkerOf_57 : decode cX0_walkerOf 57 = .ok (.ireturn, 1) := dk_172 (dk_at dksX0_walkerOf_2 9 rfl rfl)
theorem dX0_walkerOf_58 : decode cX0_walkerOf 58 = .ok (.aload_n 0, 1) := dk_42 (dk_at dksX0_walkerOf_2 10 rfl rfl)
theorem dX0_walkerOf_59 : decode cX0_walkerOf 59 = .ok (.getfield 42, 3) := dk_180 0 42 (dk_at dksX0_walkerOf_2 11 rfl rfl)
theorem dX0_walkerOf_62 : decode cX0_walkerOf 62 = .ok (.getfield 202, 3) := dk_180 0 202 (dk_at dksX0_walkerOf_2 14 rfl rfl)
theorem dX0_walkerOf_65 : decode cX0_walkerOf 65 = .ok (.iload_n 1, 1) := dk_27 (dk_at dksX0_walkerOf_2 17 rfl rfl)
theorem dX0_walkerOf_66 : decode cX0_walkerOf 66 = .ok (.iaload, 1) := dk_46 (dk_at dksX0_walkerOf_2 18 rfl rfl)
theorem dX0_walkerOf_67 : decode cX0_walkerOf 67 = .ok (.ireturn, 1) := dk_172 (dk_at dksX0_walkerOf_2 19 rfl rfl)
theorem dX0_walkerOf_68 : decode cX0_walkerOf 68 = .ok (.aload_n 0, 1) := dk_42 (dk_at dksX0_walkerOf_2 20 rfl rfl)
theorem dX0_walkerOf_69 : decode cX0_walkerOf 69 = .ok (.getfield 42, 3) := dk_180 0 42 (dk_at dksX0_walkerOf_2 21 rfl rfl)
theorem dX0_walkerOf_72 : decode cX0_walkerOf 72 = .ok (.iload_n 1, 1) := dk_27 (dk_at dksX0_walkerOf_3 0 rfl rfl)
theorem dX0_walkerOf_73 : decode cX0_walkerOf 73 = .ok (.invokevirtual 241, 3) := dk_182 0 241 (dk_at dksX0_walkerOf_3 1 rfl rfl)
theorem dX0_walkerOf_76 : decode cX0_walkerOf 76 = .ok (.ifCond .eq 7, 3) := dk_153 0 7 (dk_at dksX0_walkerOf_3 4 rfl rfl)
theorem dX0_walkerOf_79 : decode cX0_walkerOf 79 = .ok (.iconst 1, 1) := dk_4 (dk_at dksX0_walkerOf_3 7 rfl rfl)
theorem dX0_walkerOf_80 : decode cX0_walkerOf 80 = .ok (.goto 4, 3) := dk_167 0 4 (dk_at dksX0_walkerOf_3 8 rfl rfl)
theorem dX0_walkerOf_83 : decode cX0_walkerOf 83 = .ok (.iconst 0, 1) := dk_3 (dk_at dksX0_walkerOf_3 11 rfl rfl)
theorem dX0_walkerOf_84 : decode cX0_walkerOf 84 = .ok (.ireturn, 1) := dk_172 (dk_at dksX0_walkerOf_3 12 rfl rfl)
theorem dX0_walkerOf_85 : decode cX0_walkerOf 85 = .ok (.aload_n 0, 1) := dk_42 (dk_at dksX0_walkerOf_3 13 rfl rfl)
theorem dX0_walkerOf_86 : decode cX0_walkerOf 86 = .ok (.getfield 42, 3) := dk_180 0 42 (dk_at dksX0_walkerOf_3 14 rfl rfl)
theorem dX0_walkerOf_89 : decode cX0_walkerOf 89 = .ok (.aload_n 0, 1) := dk_42 (dk_at dksX0_walkerOf_3 17 rfl rfl)
theorem dX0_walkerOf_90 : decode cX0_walkerOf 90 = .ok (.getfield 42, 3) := dk_180 0 42 (dk_at dksX0_walkerOf_3 18 rfl rfl)
theorem dX0_walkerOf_93 : decode cX0_walkerOf 93 = .ok (.getfield 239, 3) := dk_180 0 239 (dk_at dksX0_walkerOf_3 21 rfl rfl)
theorem dX0_walkerOf_96 : decode cX0_walkerOf 96 = .ok (.iload_n 1, 1) := dk_27 (dk_at dksX0_walkerOf_4 0 rfl rfl)
theorem dX0_walkerOf_97 : decode cX0_walkerOf 97 = .ok (.iaload, 1) := dk_46 (dk_at dksX0_walkerOf_4 1 rfl rfl)
theorem dX0_walkerOf_98 : decode cX0_walkerOf 98 = .ok (.aload_n 0, 1) := dk_42 (dk_at dksX0_walkerOf_4 2 rfl rfl)
theorem dX0_walkerOf_99 : decode cX0_walkerOf 99 = .ok (.getfield 42, 3) := dk_180 0 42 (dk_at dksX0_walkerOf_4 3 rfl rfl)
theorem dX0_walkerOf_102 : decode cX0_walkerOf 102 = .ok (.getfield 183, 3) := dk_180 0 183 (dk_at dksX0_walkerOf_4 6 rfl rfl)
theorem dX0_walkerOf_105 : decode cX0_walkerOf 105 = .ok (.invokevirtual 244, 3) := dk_182 0 244 (dk_at dksX0_walkerOf_4 9 rfl rfl)
theorem dX0_walkerOf_108 : decode cX0_walkerOf 108 = .ok (.ireturn, 1) := dk_172 (dk_at dksX0_walkerOf_4 12 rfl rfl)
theorem dX0_walkerOf_109 : decode cX0_walkerOf 109 = .ok (.aload_n 0, 1) := dk_42 (dk_at dksX0_walkerOf_4 13 rfl rfl)
theorem dX0_walkerOf_110 : decode cX0_walkerOf 110 = .ok (.bipush (-2), 2) := dk_16 254 (dk_at dksX0_walkerOf_4 14 rfl rfl)
theorem dX0_walkerOf_112 : decode cX0_walkerOf 112 = .ok (.invokevirtual 91, 3) := dk_182 0 91 (dk_at dksX0_walkerOf_4 16 rfl rfl)
theorem dX0_walkerOf_115 : decode cX0_walkerOf 115 = .ok (.ireturn, 1) := dk_172 (dk_at dksX0_walkerOf_4 19 rfl rfl)
def dkwX0_isBog_1 : List UInt8 := [180, 0, 42, 27, 182, 0, 176, 153, 0, 7, 4, 167, 0, 4, 3, 172]
abbrev dktX0_isBog_1 : List UInt8 := dkwX0_isBog_1 ++ []
def dkwX0_isBog_0 : List UInt8 := [42, 180, 0, 42, 27, 133, 182, 0, 170, 154, 0, 12, 42, 16, 254, 182, 0, 91, 167, 0, 19, 42]
abbrev dktX0_isBog_0 : List UInt8 := dkwX0_isBog_0 ++ dktX0_isBog_1
theorem dksX0_isBog_0 : cX0_isBog.data.toList.drop 0 = dktX0_isBog_0 := by decide +kernel
theorem dksX0_isBog_1 : cX0_isBog.data.toList.drop 22 = dktX0_isBog_1 := dk_seg dksX0_isBog_0 22 rfl rfl
theorem dX0_isBog_0 : decode cX0_isBog 0 = .ok (.aload_n 0, 1) := dk_42 (dk_at dksX0_isBog_0 0 rfl rfl)
theorem dX0_isBog_1 : decode cX0_isBog 1 = .ok (.getfield 42, 3) := dk_180 0 42 (dk_at dksX0_isBog_0 1 rfl rfl)
theorem dX0_isBog_4 : decode cX0_isBog 4 = .ok (.iload_n 1, 1) := dk_27 (dk_at dksX0_isBog_0 4 rfl rfl)
theorem dX0_isBog_5 : decode cX0_isBog 5 = .ok (.i2l, 1) := dk_133 (dk_at dksX0_isBog_0 5 rfl rfl)
theorem dX0_isBog_6 : decode cX0_isBog 6 = .ok (.invokevirtual 170, 3) := dk_182 0 170 (dk_at dksX0_isBog_0 6 rfl rfl)
theorem dX0_isBog_9 : decode cX0_isBog 9 = .ok (.ifCond .ne 12, 3) := dk_154 0 12 (dk_at dksX0_isBog_0 9 rfl rfl)
theorem dX0_isBog_12 : decode cX0_isBog 12 = .ok (.aload_n 0, 1) := dk_42 (dk_at dksX0_isBog_0 12 rfl rfl)
theorem dX0_isBog_13 : decode cX0_isBog 13 = .ok (.bipush (-2), 2) := dk_16 254 (dk_at dksX0_isBog_0 13 rfl rfl)
theorem dX0_isBog_15 : decode cX0_isBog 15 = .ok (.invokevirtual 91, 3) := dk_182 0 91 (dk_at dksX0_isBog_0 15 rfl rfl)
theorem dX0_isBog_18 : decode cX0_isBog 18 = .ok (.goto 19, 3) := dk_167 0 19 (dk_at dksX0_isBog_0 18 rfl rfl)
theorem dX0_isBog_21 : decode cX0_isBog 21 = .ok (.aload_n 0, 1) := dk_42 (dk_at dksX0_isBog_0 21 rfl rfl)
theorem dX0_isBog_22 : decode cX0_isBog 22 = .ok (.getfield 42, 3) := dk_180 0 42 (dk_at dksX0_isBog_1 0 rfl rfl)
theorem dX0_isBog_25 : decode cX0_isBog 25 = .ok (.iload_n 1, 1) := dk_27 (dk_at dksX0_isBog_1 3 rfl rfl)
theorem dX0_isBog_26 : decode cX0_isBog 26 = .ok (.invokevirtual 176, 3) := dk_182 0 176 (dk_at dksX0_isBog_1 4 rfl rfl)
theorem dX0_isBog_29 : decode cX0_isBog 29 = .ok (.ifCond .eq 7, 3) := dk_153 0 7 (dk_at dksX0_isBog_1 7 rfl rfl)
theorem dX0_isBog_32 : decode cX0_isBog 32 = .ok (.iconst 1, 1) := dk_4 (dk_at dksX0_isBog_1 10 rfl rfl)
theorem dX0_isBog_33 : decode cX0_isBog 33 = .ok (.goto 4, 3) := dk_167 0 4 (dk_at dksX0_isBog_1 11 rfl rfl)
theorem dX0_isBog_36 : decode cX0_isBog 36 = .ok (.iconst 0, 1) := dk_3 (dk_at dksX0_isBog_1 14 rfl rfl)
theorem dX0_isBog_37 : decode cX0_isBog 37 = .ok (.ireturn, 1) := dk_172 (dk_at dksX0_isBog_1 15 rfl rfl)
def dkwX0_way_1 : List UInt8 := [27, 28, 184, 0, 247, 167, 0, 9, 42, 16, 254, 182, 0, 91, 172]
abbrev dktX0_way_1 : List UInt8 := dkwX0_way_1 ++ []
def dkwX0_way_0 : List UInt8 := [42, 180, 0, 42, 27, 133, 182, 0, 170, 153, 0, 23, 42, 180, 0, 42, 28, 133, 182, 0, 170, 153, 0, 11]
abbrev dktX0_way_0 : List UInt8 := dkwX0_way_0 ++ dktX0_way_1
theorem dksX0_way_0 : cX0_way.data.toList.drop 0 = dktX0_way_0 := by decide +kernel
theorem dksX0_way_1 : cX0_way.data.toList.drop 24 = dktX0_way_1 := dk_seg dksX0_way_0 24 rfl rfl
theorem dX0_way_0 : decode cX0_way 0 = .ok (.aload_n 0, 1) := dk_42 (dk_at dksX0_way_0 0 rfl rfl)
theorem dX0_way_1 : decode cX0_way 1 = .ok (.getfield 42, 3) := dk_180 0 42 (dk_at dksX0_way_0 1 rfl rfl)
theorem dX0_way_4 : decode cX0_way 4 = .ok (.iload_n 1, 1) := dk_27 (dk_at dksX0_way_0 4 rfl rfl)
theorem dX0_way_5 : decode cX0_way 5 = .ok (.i2l, 1) := dk_133 (dk_at dksX0_way_0 5 rfl rfl)
theorem dX0_way_6 : decode cX0_way 6 = .ok (.invokevirtual 170, 3) := dk_182 0 170 (dk_at dksX0_way_0 6 rfl rfl)
theorem dX0_way_9 : decode cX0_way 9 = .ok (.ifCond .eq 23, 3) := dk_153 0 23 (dk_at dksX0_way_0 9 rfl rfl)
theorem dX0_way_12 : decode cX0_way 12 = .ok (.aload_n 0, 1) := dk_42 (dk_at dksX0_way_0 12 rfl rfl)
theorem dX0_way_13 : decode cX0_way 13 = .ok (.getfield 42, 3) := dk_180 0 42 (dk_at dksX0_way_0 13 rfl rfl)
theorem dX0_way_16 : decode cX0_way 16 = .ok (.iload_n 2, 1) := dk_28 (dk_at dksX0_way_0 16 rfl rfl)
theorem dX0_way_17 : decode cX0_way 17 = .ok (.i2l, 1) := dk_133 (dk_at dksX0_way_0 17 rfl rfl)
theorem dX0_way_18 : decode cX0_way 18 = .ok (.invokevirtual 170, 3) := dk_182 0 170 (dk_at dksX0_way_0 18 rfl rfl)
theorem dX0_way_21 : decode cX0_way 21 = .ok (.ifCond .eq 11, 3) := dk_153 0 11 (dk_at dksX0_way_0 21 rfl rfl)
theorem dX0_way_24 : decode cX0_way 24 = .ok (.iload_n 1, 1) := dk_27 (dk_at dksX0_way_1 0 rfl rfl)
theorem dX0_way_25 : decode cX0_way 25 = .ok (.iload_n 2, 1) := dk_28 (dk_at dksX0_way_1 1 rfl rfl)
theorem dX0_way_26 : decode cX0_way 26 = .ok (.invokestatic 247, 3) := dk_184 0 247 (dk_at dksX0_way_1 2 rfl rfl)
theorem dX0_way_29 : decode cX0_way 29 = .ok (.goto 9, 3) := dk_167 0 9 (dk_at dksX0_way_1 5 rfl rfl)
theorem dX0_way_32 : decode cX0_way 32 = .ok (.aload_n 0, 1) := dk_42 (dk_at dksX0_way_1 8 rfl rfl)
theorem dX0_way_33 : decode cX0_way 33 = .ok (.bipush (-2), 2) := dk_16 254 (dk_at dksX0_way_1 9 rfl rfl)
theorem dX0_way_35 : decode cX0_way 35 = .ok (.invokevirtual 91, 3) := dk_182 0 91 (dk_at dksX0_way_1 11 rfl rfl)
theorem dX0_way_38 : decode cX0_way 38 = .ok (.ireturn, 1) := dk_172 (dk_at dksX0_way_1 14 rfl rfl)
def dkwX0_arm_1 : List UInt8 := [42, 42, 180, 0, 42, 180, 0, 146, 27, 50, 28, 182, 0, 253, 167, 0, 9, 42, 16, 254, 182, 0, 91, 172]
abbrev dktX0_arm_1 : List UInt8 := dkwX0_arm_1 ++ []
def dkwX0_arm_0 : List UInt8 := [42, 180, 0, 42, 27, 133, 182, 0, 142, 153, 0, 32, 42, 180, 0, 42, 28, 133, 182, 0, 170, 153, 0, 20]
abbrev dktX0_arm_0 : List UInt8 := dkwX0_arm_0 ++ dktX0_arm_1
theorem dksX0_arm_0 : cX0_arm.data.toList.drop 0 = dktX0_arm_0 := by decide +kernel
theorem dksX0_arm_1 : cX0_arm.data.toList.drop 24 = dktX0_arm_1 := dk_seg dksX0_arm_0 24 rfl rfl
theorem dX0_arm_0 : decode cX0_arm 0 = .ok (.aload_n 0, 1) := dk_42 (dk_at dksX0_arm_0 0 rfl rfl)
theorem dX0_arm_1 : decode cX0_arm 1 = .ok (.getfield 42, 3) := dk_180 0 42 (dk_at dksX0_arm_0 1 rfl rfl)
theorem dX0_arm_4 : decode cX0_arm 4 = .ok (.iload_n 1, 1) := dk_27 (dk_at dksX0_arm_0 4 rfl rfl)
theorem dX0_arm_5 : decode cX0_arm 5 = .ok (.i2l, 1) := dk_133 (dk_at dksX0_arm_0 5 rfl rfl)
theorem dX0_arm_6 : decode cX0_arm 6 = .ok (.invokevirtual 142, 3) := dk_182 0 142 (dk_at dksX0_arm_0 6 rfl rfl)
theorem dX0_arm_9 : decode cX0_arm 9 = .ok (.ifCond .eq 32, 3) := dk_153 0 32 (dk_at dksX0_arm_0 9 rfl rfl)
theorem dX0_arm_12 : decode cX0_arm 12 = .ok (.aload_n 0, 1) := dk_42 (dk_at dksX0_arm_0 12 rfl rfl)
theorem dX0_arm_13 : decode cX0_arm 13 = .ok (.getfield 42, 3) := dk_180 0 42 (dk_at dksX0_arm_0 13 rfl rfl)
theorem dX0_arm_16 : decode cX0_arm 16 = .ok (.iload_n 2, 1) := dk_28 (dk_at dksX0_arm_0 16 rfl rfl)
theorem dX0_arm_17 : decode cX0_arm 17 = .ok (.i2l, 1) := dk_133 (dk_at dksX0_arm_0 17 rfl rfl)
theorem dX0_arm_18 : decode cX0_arm 18 = .ok (.invokevirtual 170, 3) := dk_182 0 170 (dk_at dksX0_arm_0 18 rfl rfl)
theorem dX0_arm_21 : decode cX0_arm 21 = .ok (.ifCond .eq 20, 3) := dk_153 0 20 (dk_at dksX0_arm_0 21 rfl rfl)
theorem dX0_arm_24 : decode cX0_arm 24 = .ok (.aload_n 0, 1) := dk_42 (dk_at dksX0_arm_1 0 rfl rfl)
theorem dX0_arm_25 : decode cX0_arm 25 = .ok (.aload_n 0, 1) := dk_42 (dk_at dksX0_arm_1 1 rfl rfl)
theorem dX0_arm_26 : decode cX0_arm 26 = .ok (.getfield 42, 3) := dk_180 0 42 (dk_at dksX0_arm_1 2 rfl rfl)
theorem dX0_arm_29 : decode cX0_arm 29 = .ok (.getfield 146, 3) := dk_180 0 146 (dk_at dksX0_arm_1 5 rfl rfl)
theorem dX0_arm_32 : decode cX0_arm 32 = .ok (.iload_n 1, 1) := dk_27 (dk_at dksX0_arm_1 8 rfl rfl)
theorem dX0_arm_33 : decode cX0_arm 33 = .ok (.aaload, 1) := dk_50 (dk_at dksX0_arm_1 9 rfl rfl)
theorem dX0_arm_34 : decode cX0_arm 34 = .ok (.iload_n 2, 1) := dk_28 (dk_at dksX0_arm_1 10 rfl rfl)
theorem dX0_arm_35 : decode cX0_arm 35 = .ok (.invokevirtual 253, 3) := dk_182 0 253 (dk_at dksX0_arm_1 11 rfl rfl)
theorem dX0_arm_38 : decode cX0_arm 38 = .ok (.goto 9, 3) := dk_167 0 9 (dk_at dksX0_arm_1 14 rfl rfl)
theorem dX0_arm_41 : decode cX0_arm 41 = .ok (.aload_n 0, 1) := dk_42 (dk_at dksX0_arm_1 17 rfl rfl)
theorem dX0_arm_42 : decode cX0_arm 42 = .ok (.bipush (-2), 2) := dk_16 254 (dk_at dksX0_arm_1 18 rfl rfl)
theorem dX0_arm_44 : decode cX0_arm 44 = .ok (.invokevirtual 91, 3) := dk_182 0 91 (dk_at dksX0_arm_1 20 rfl rfl)
theorem dX0_arm_47 : decode cX0_arm 47 = .ok (.ireturn, 1) := dk_172 (dk_at dksX0_arm_1 23 rfl rfl)
def dkwX0_armAt_0 : List UInt8 := [43, 42, 180, 0, 49, 28, 182, 0, 250, 182, 0, 154, 172]
abbrev dktX0_armAt_0 : List UInt8 := dkwX0_armAt_0 ++ []
theorem dksX0_armAt_0 : cX0_armAt.data.toList.drop 0 = dktX0_armAt_0 := by decide +kernel
theorem dX0_armAt_0 : decode cX0_armAt 0 = .ok (.aload_n 1, 1) := dk_43 (dk_at dksX0_armAt_0 0 rfl rfl)
theorem dX0_armAt_1 : decode cX0_armAt 1 = .ok (.aload_n 0, 1) := dk_42 (dk_at dksX0_armAt_0 1 rfl rfl)
theorem dX0_armAt_2 : decode cX0_armAt 2 = .ok (.getfield 49, 3) := dk_180 0 49 (dk_at dksX0_armAt_0 2 rfl rfl)
theorem dX0_armAt_5 : decode cX0_armAt 5 = .ok (.iload_n 2, 1) := dk_28 (dk_at dksX0_armAt_0 5 rfl rfl)
theorem dX0_armAt_6 : decode cX0_armAt 6 = .ok (.invokevirtual 250, 3) := dk_182 0 250 (dk_at dksX0_armAt_0 6 rfl rfl)
theorem dX0_armAt_9 : decode cX0_armAt 9 = .ok (.invokevirtual 154, 3) := dk_182 0 154 (dk_at dksX0_armAt_0 9 rfl rfl)
theorem dX0_armAt_12 : decode cX0_armAt 12 = .ok (.ireturn, 1) := dk_172 (dk_at dksX0_armAt_0 12 rfl rfl)
def dkwX0_where_4 : List UInt8 := [183, 0, 106, 191, 58, 4, 42, 25, 4, 180, 0, 117, 182, 0, 91, 172]
abbrev dktX0_where_4 : List UInt8 := dkwX0_where_4 ++ []
def dkwX0_where_3 : List UInt8 := [132, 5, 255, 42, 180, 0, 42, 21, 6, 182, 1, 9, 54, 6, 167, 255, 216, 187, 0, 104, 89, 16, 251]
abbrev dktX0_where_3 : List UInt8 := dkwX0_where_3 ++ dktX0_where_4
def dkwX0_where_2 : List UInt8 := [159, 0, 40, 42, 25, 4, 21, 6, 2, 182, 1, 12, 153, 0, 14, 21, 5, 154, 0, 6, 21, 6, 172]
abbrev dktX0_where_2 : List UInt8 := dkwX0_where_2 ++ dktX0_where_3
def dkwX0_where_1 : List UInt8 := [25, 4, 2, 182, 1, 20, 172, 29, 54, 5, 42, 180, 0, 42, 2, 182, 1, 9, 54, 6, 21, 6, 2]
abbrev dktX0_where_1 : List UInt8 := dkwX0_where_1 ++ dktX0_where_2
def dkwX0_where_0 : List UInt8 := [42, 29, 2, 161, 0, 7, 4, 167, 0, 4, 3, 27, 28, 182, 1, 16, 58, 4, 29, 2, 160, 0, 11, 42]
abbrev dktX0_where_0 : List UInt8 := dkwX0_where_0 ++ dktX0_where_1
theorem dksX0_where_0 : cX0_where.data.toList.drop 0 = dktX0_where_0 := by decide +kernel
theorem dksX0_where_1 : cX0_where.data.toList.drop 24 = dktX0_where_1 := dk_seg dksX0_where_0 24 rfl rfl
theorem dksX0_where_2 : cX0_where.data.toList.drop 47 = dktX0_where_2 := dk_seg dksX0_where_1 23 rfl rfl
theorem dksX0_where_3 : cX0_where.data.toList.drop 70 = dktX0_where_3 := dk_seg dksX0_where_2 23 rfl rfl
theorem dksX0_where_4 : cX0_where.data.toList.drop 93 = dktX0_where_4 := dk_seg dksX0_where_3 23 rfl rfl
theorem dX0_where_0 : decode cX0_where 0 = .ok (.aload_n 0, 1) := dk_42 (dk_at dksX0_where_0 0 rfl rfl)
theorem dX0_where_1 : decode cX0_where 1 = .ok (.iload_n 3, 1) := dk_29 (dk_at dksX0_where_0 1 rfl rfl)
theorem dX0_where_2 : decode cX0_where 2 = .ok (.iconst (-1), 1) := dk_2 (dk_at dksX0_where_0 2 rfl rfl)
theorem dX0_where_3 : decode cX0_where 3 = .ok (.if_icmp .lt 7, 3) := dk_161 0 7 (dk_at dksX0_where_0 3 rfl rfl)
theorem dX0_where_6 : decode cX0_where 6 = .ok (.iconst 1, 1) := dk_4 (dk_at dksX0_where_0 6 rfl rfl)
theorem dX0_where_7 : decode cX0_where 7 = .ok (.goto 4, 3) := dk_167 0 4 (dk_at dksX0_where_0 7 rfl rfl)
theorem dX0_where_10 : decode cX0_where 10 = .ok (.iconst 0, 1) := dk_3 (dk_at dksX0_where_0 10 rfl rfl)
theorem dX0_where_11 : decode cX0_where 11 = .ok (.iload_n 1, 1) := dk_27 (dk_at dksX0_where_0 11 rfl rfl)
theorem dX0_where_12 : decode cX0_where 12 = .ok (.iload_n 2, 1) := dk_28 (dk_at dksX0_where_0 12 rfl rfl)
theorem dX0_where_13 : decode cX0_where 13 = .ok (.invokevirtual 272, 3) := dk_182 1 16 (dk_at dksX0_where_0 13 rfl rfl)
theorem dX0_where_16 : decode cX0_where 16 = .ok (.astore 4, 2) := dk_58 4 (dk_at dksX0_where_0 16 rfl rfl)
theorem dX0_where_18 : decode cX0_where 18 = .ok (.iload_n 3, 1) := dk_29 (dk_at dksX0_where_0 18 rfl rfl)
theorem dX0_where_19 : decode cX0_where 19 = .ok (.iconst (-1), 1) := dk_2 (dk_at dksX0_where_0 19 rfl rfl)
theorem dX0_where_20 : decode cX0_where 20 = .ok (.if_icmp .ne 11, 3) := dk_160 0 11 (dk_at dksX0_where_0 20 rfl rfl)
theorem dX0_where_23 : decode cX0_where 23 = .ok (.aload_n 0, 1) := dk_42 (dk_at dksX0_where_0 23 rfl rfl)
theorem dX0_where_24 : decode cX0_where 24 = .ok (.aload 4, 2) := dk_25 4 (dk_at dksX0_where_1 0 rfl rfl)
theorem dX0_where_26 : decode cX0_where 26 = .ok (.iconst (-1), 1) := dk_2 (dk_at dksX0_where_1 2 rfl rfl)
theorem dX0_where_27 : decode cX0_where 27 = .ok (.invokevirtual 276, 3) := dk_182 1 20 (dk_at dksX0_where_1 3 rfl rfl)
theorem dX0_where_30 : decode cX0_where 30 = .ok (.ireturn, 1) := dk_172 (dk_at dksX0_where_1 6 rfl rfl)
theorem dX0_where_31 : decode cX0_where 31 = .ok (.iload_n 3, 1) := dk_29 (dk_at dksX0_where_1 7 rfl rfl)
theorem dX0_where_32 : decode cX0_where 32 = .ok (.istore 5, 2) := dk_54 5 (dk_at dksX0_where_1 8 rfl rfl)
theorem dX0_where_34 : decode cX0_where 34 = .ok (.aload_n 0, 1) := dk_42 (dk_at dksX0_where_1 10 rfl rfl)
theorem dX0_where_35 : decode cX0_where 35 = .ok (.getfield 42, 3) := dk_180 0 42 (dk_at dksX0_where_1 11 rfl rfl)
theorem dX0_where_38 : decode cX0_where 38 = .ok (.iconst (-1), 1) := dk_2 (dk_at dksX0_where_1 14 rfl rfl)
theorem dX0_where_39 : decode cX0_where 39 = .ok (.invokevirtual 265, 3) := dk_182 1 9 (dk_at dksX0_where_1 15 rfl rfl)
theorem dX0_where_42 : decode cX0_where 42 = .ok (.istore 6, 2) := dk_54 6 (dk_at dksX0_where_1 18 rfl rfl)
theorem dX0_where_44 : decode cX0_where 44 = .ok (.iload 6, 2) := dk_21 6 (dk_at dksX0_where_1 20 rfl rfl)
theorem dX0_where_46 : decode cX0_where 46 = .ok (.iconst (-1), 1) := dk_2 (dk_at dksX0_where_1 22 rfl rfl)
theorem dX0_where_47 : decode cX0_where 47 = .ok (.if_icmp .eq 40, 3) := dk_159 0 40 (dk_at dksX0_where_2 0 rfl rfl)
theorem dX0_where_50 : decode cX0_where 50 = .ok (.aload_n 0, 1) := dk_42 (dk_at dksX0_where_2 3 rfl rfl)
theorem dX0_where_51 : decode cX0_where 51 = .ok (.aload 4, 2) := dk_25 4 (dk_at dksX0_where_2 4 rfl rfl)
theorem dX0_where_53 : decode cX0_where 53 = .ok (.iload 6, 2) := dk_21 6 (dk_at dksX0_where_2 6 rfl rfl)
theorem dX0_where_55 : decode cX0_where 55 = .ok (.iconst (-1), 1) := dk_2 (dk_at dksX0_where_2 8 rfl rfl)
theorem dX0_where_56 : decode cX0_where 56 = .ok (.invokevirtual 268, 3) := dk_182 1 12 (dk_at dksX0_where_2 9 rfl rfl)
theorem dX0_where_59 : decode cX0_where 59 = .ok (.ifCond .eq 14, 3) := dk_153 0 14 (dk_at dksX0_where_2 12 rfl rfl)
theorem dX0_where_62 : decode cX0_where 62 = .ok (.iload 5, 2) := dk_21 5 (dk_at dksX0_where_2 15 rfl rfl)
theorem dX0_where_64 : decode cX0_where 64 = .ok (.ifCond .ne 6, 3) := dk_154 0 6 (dk_at dksX0_where_2 17 rfl rfl)
theorem dX0_where_67 : decode cX0_where 67 = .ok (.iload 6, 2) := dk_21 6 (dk_at dksX0_where_2 20 rfl rfl)
theorem dX0_where_69 : decode cX0_where 69 = .ok (.ireturn, 1) := dk_172 (dk_at dksX0_where_2 22 rfl rfl)
theorem dX0_where_70 : decode cX0_where 70 = .ok (.iinc 5 (-1), 3) := dk_132 5 255 (dk_at dksX0_where_3 0 rfl rfl)
theorem dX0_where_73 : decode cX0_where 73 = .ok (.aload_n 0, 1) := dk_42 (dk_at dksX0_where_3 3 rfl rfl)
theorem dX0_where_74 : decode cX0_where 74 = .ok (.getfield 42, 3) := dk_180 0 42 (dk_at dksX0_where_3 4 rfl rfl)
theorem dX0_where_77 : decode cX0_where 77 = .ok (.iload 6, 2) := dk_21 6 (dk_at dksX0_where_3 7 rfl rfl)
theorem dX0_where_79 : decode cX0_where 79 = .ok (.invokevirtual 265, 3) := dk_182 1 9 (dk_at dksX0_where_3 9 rfl rfl)
theorem dX0_where_82 : decode cX0_where 82 = .ok (.istore 6, 2) := dk_54 6 (dk_at dksX0_where_3 12 rfl rfl)
theorem dX0_where_84 : decode cX0_where 84 = .ok (.goto (-40), 3) := dk_167 255 216 (dk_at dksX0_where_3 14 rfl rfl)
theorem dX0_where_87 : decode cX0_where 87 = .ok (.new 104, 3) := dk_187 0 104 (dk_at dksX0_where_3 17 rfl rfl)
theorem dX0_where_90 : decode cX0_where 90 = .ok (.dup, 1) := dk_89 (dk_at dksX0_where_3 20 rfl rfl)
theorem dX0_where_91 : decode cX0_where 91 = .ok (.bipush (-5), 2) := dk_16 251 (dk_at dksX0_where_3 21 rfl rfl)
theorem dX0_where_93 : decode cX0_where 93 = .ok (.invokespecial 106, 3) := dk_183 0 106 (dk_at dksX0_where_4 0 rfl rfl)
theorem dX0_where_96 : decode cX0_where 96 = .ok (.athrow, 1) := dk_191 (dk_at dksX0_where_4 3 rfl rfl)
theorem dX0_where_97 : decode cX0_where 97 = .ok (.astore 4, 2) := dk_58 4 (dk_at dksX0_where_4 4 rfl rfl)
theorem dX0_where_99 : decode cX0_where 99 = .ok (.aload_n 0, 1) := dk_42 (dk_at dksX0_where_4 6 rfl rfl)
theorem dX0_where_100 : decode cX0_where 100 = .ok (.aload 4, 2) := dk_25 4 (dk_at dksX0_where_4 7 rfl rfl)
theorem dX0_where_102 : decode cX0_where 102 = .ok (.getfield 117, 3) := dk_180 0 117 (dk_at dksX0_where_4 9 rfl rfl)
theorem dX0_where_105 : decode cX0_where 105 = .ok (.invokevirtual 91, 3) := dk_182 0 91 (dk_at dksX0_where_4 12 rfl rfl)
theorem dX0_where_108 : decode cX0_where 108 = .ok (.ireturn, 1) := dk_172 (dk_at dksX0_where_4 15 rfl rfl)
def dkwX0_pairsIn_3 : List UInt8 := [183, 0, 106, 191, 132, 5, 2, 167, 255, 192, 25, 4, 176]
abbrev dktX0_pairsIn_3 : List UInt8 := dkwX0_pairsIn_3 ++ []
def dkwX0_pairsIn_2 : List UInt8 := [148, 155, 0, 17, 25, 4, 21, 5, 4, 96, 47, 20, 1, 7, 148, 158, 0, 13, 187, 0, 104, 89, 16, 251]
abbrev dktX0_pairsIn_2 : List UInt8 := dkwX0_pairsIn_2 ++ dktX0_pairsIn_3
def dkwX0_pairsIn_1 : List UInt8 := [180, 0, 42, 25, 4, 21, 5, 47, 182, 0, 142, 153, 0, 31, 25, 4, 21, 5, 4, 96, 47, 20, 1, 5]
abbrev dktX0_pairsIn_1 : List UInt8 := dkwX0_pairsIn_1 ++ dktX0_pairsIn_2
def dkwX0_pairsIn_0 : List UInt8 := [42, 27, 28, 29, 5, 182, 1, 1, 58, 4, 3, 54, 5, 21, 5, 25, 4, 190, 162, 0, 62, 42]
abbrev dktX0_pairsIn_0 : List UInt8 := dkwX0_pairsIn_0 ++ dktX0_pairsIn_1
theorem dksX0_pairsIn_0 : cX0_pairsIn.data.toList.drop 0 = dktX0_pairsIn_0 := by decide +kernel
theorem dksX0_pairsIn_1 : cX0_pairsIn.data.toList.drop 22 = dktX0_pairsIn_1 := dk_seg dksX0_pairsIn_0 22 rfl rfl
theorem dksX0_pairsIn_2 : cX0_pairsIn.data.toList.drop 46 = dktX0_pairsIn_2 := dk_seg dksX0_pairsIn_1 24 rfl rfl
theorem dksX0_pairsIn_3 : cX0_pairsIn.data.toList.drop 70 = dktX0_pairsIn_3 := dk_seg dksX0_pairsIn_2 24 rfl rfl
theorem dX0_pairsIn_0 : decode cX0_pairsIn 0 = .ok (.aload_n 0, 1) := dk_42 (dk_at dksX0_pairsIn_0 0 rfl rfl)
theorem dX0_pairsIn_1 : decode cX0_pairsIn 1 = .ok (.iload_n 1, 1) := dk_27 (dk_at dksX0_pairsIn_0 1 rfl rfl)
theorem dX0_pairsIn_2 : decode cX0_pairsIn 2 = .ok (.iload_n 2, 1) := dk_28 (dk_at dksX0_pairsIn_0 2 rfl rfl)
theorem dX0_pairsIn_3 : decode cX0_pairsIn 3 = .ok (.iload_n 3, 1) := dk_29 (dk_at dksX0_pairsIn_0 3 rfl rfl)
theorem dX0_pairsIn_4 : decode cX0_pairsIn 4 = .ok (.iconst 2, 1) := dk_5 (dk_at dksX0_pairsIn_0 4 rfl rfl)
theorem dX0_pairsIn_5 : decode cX0_pairsIn 5 = .ok (.invokevirtual 257, 3) := dk_182 1 1 (dk_at dksX0_pairsIn_0 5 rfl rfl)
theorem dX0_pairsIn_8 : decode cX0_pairsIn 8 = .ok (.astore 4, 2) := dk_58 4 (dk_at dksX0_pairsIn_0 8 rfl rfl)
theorem dX0_pairsIn_10 : decode cX0_pairsIn 10 = .ok (.iconst 0, 1) := dk_3 (dk_at dksX0_pairsIn_0 10 rfl rfl)
theorem dX0_pairsIn_11 : decode cX0_pairsIn 11 = .ok (.istore 5, 2) := dk_54 5 (dk_at dksX0_pairsIn_0 11 rfl rfl)
theorem dX0_pairsIn_13 : decode cX0_pairsIn 13 = .ok (.iload 5, 2) := dk_21 5 (dk_at dksX0_pairsIn_0 13 rfl rfl)
theorem dX0_pairsIn_15 : decode cX0_pairsIn 15 = .ok (.aload 4, 2) := dk_25 4 (dk_at dksX0_pairsIn_0 15 rfl rfl)
theorem dX0_pairsIn_17 : decode cX0_pairsIn 17 = .ok (.arraylength, 1) := dk_190 (dk_at dksX0_pairsIn_0 17 rfl rfl)
theorem dX0_pairsIn_18 : decode cX0_pairsIn 18 = .ok (.if_icmp .ge 62, 3) := dk_162 0 62 (dk_at dksX0_pairsIn_0 18 rfl rfl)
theorem dX0_pairsIn_21 : decode cX0_pairsIn 21 = .ok (.aload_n 0, 1) := dk_42 (dk_at dksX0_pairsIn_0 21 rfl rfl)
theorem dX0_pairsIn_22 : decode cX0_pairsIn 22 = .ok (.getfield 42, 3) := dk_180 0 42 (dk_at dksX0_pairsIn_1 0 rfl rfl)
theorem dX0_pairsIn_25 : decode cX0_pairsIn 25 = .ok (.aload 4, 2) := dk_25 4 (dk_at dksX0_pairsIn_1 3 rfl rfl)
theorem dX0_pairsIn_27 : decode cX0_pairsIn 27 = .ok (.iload 5, 2) := dk_21 5 (dk_at dksX0_pairsIn_1 5 rfl rfl)
theorem dX0_pairsIn_29 : decode cX0_pairsIn 29 = .ok (.laload, 1) := dk_47 (dk_at dksX0_pairsIn_1 7 rfl rfl)
theorem dX0_pairsIn_30 : decode cX0_pairsIn 30 = .ok (.invokevirtual 142, 3) := dk_182 0 142 (dk_at dksX0_pairsIn_1 8 rfl rfl)
theorem dX0_pairsIn_33 : decode cX0_pairsIn 33 = .ok (.ifCond .eq 31, 3) := dk_153 0 31 (dk_at dksX0_pairsIn_1 11 rfl rfl)
theorem dX0_pairsIn_36 : decode cX0_pairsIn 36 = .ok (.aload 4, 2) := dk_25 4 (dk_at dksX0_pairsIn_1 14 rfl rfl)
theorem dX0_pairsIn_38 : decode cX0_pairsIn 38 = .ok (.iload 5, 2) := dk_21 5 (dk_at dksX0_pairsIn_1 16 rfl rfl)
theorem dX0_pairsIn_40 : decode cX0_pairsIn 40 = .ok (.iconst 1, 1) := dk_4 (dk_at dksX0_pairsIn_1 18 rfl rfl)
theorem dX0_pairsIn_41 : decode cX0_pairsIn 41 = .ok (.iadd, 1) := dk_96 (dk_at dksX0_pairsIn_1 19 rfl rfl)
theorem dX0_pairsIn_42 : decode cX0_pairsIn 42 = .ok (.laload, 1) := dk_47 (dk_at dksX0_pairsIn_1 20 rfl rfl)
theorem dX0_pairsIn_43 : decode cX0_pairsIn 43 = .ok (.ldc2_w 261, 3) := dk_20 1 5 (dk_at dksX0_pairsIn_1 21 rfl rfl)
theorem dX0_pairsIn_46 : decode cX0_pairsIn 46 = .ok (.lcmp, 1) := dk_148 (dk_at dksX0_pairsIn_2 0 rfl rfl)
theorem dX0_pairsIn_47 : decode cX0_pairsIn 47 = .ok (.ifCond .lt 17, 3) := dk_155 0 17 (dk_at dksX0_pairsIn_2 1 rfl rfl)
theorem dX0_pairsIn_50 : decode cX0_pairsIn 50 = .ok (.aload 4, 2) := dk_25 4 (dk_at dksX0_pairsIn_2 4 rfl rfl)
theorem dX0_pairsIn_52 : decode cX0_pairsIn 52 = .ok (.iload 5, 2) := dk_21 5 (dk_at dksX0_pairsIn_2 6 rfl rfl)
theorem dX0_pairsIn_54 : decode cX0_pairsIn 54 = .ok (.iconst 1, 1) := dk_4 (dk_at dksX0_pairsIn_2 8 rfl rfl)
theorem dX0_pairsIn_55 : decode cX0_pairsIn 55 = .ok (.iadd, 1) := dk_96 (dk_at dksX0_pairsIn_2 9 rfl rfl)
theorem dX0_pairsIn_56 : decode cX0_pairsIn 56 = .ok (.laload, 1) := dk_47 (dk_at dksX0_pairsIn_2 10 rfl rfl)
theorem dX0_pairsIn_57 : decode cX0_pairsIn 57 = .ok (.ldc2_w 263, 3) := dk_20 1 7 (dk_at dksX0_pairsIn_2 11 rfl rfl)
theorem dX0_pairsIn_60 : decode cX0_pairsIn 60 = .ok (.lcmp, 1) := dk_148 (dk_at dksX0_pairsIn_2 14 rfl rfl)
theorem dX0_pairsIn_61 : decode cX0_pairsIn 61 = .ok (.ifCond .le 13, 3) := dk_158 0 13 (dk_at dksX0_pairsIn_2 15 rfl rfl)
theorem dX0_pairsIn_64 : decode cX0_pairsIn 64 = .ok (.new 104, 3) := dk_187 0 104 (dk_at dksX0_pairsIn_2 18 rfl rfl)
theorem dX0_pairsIn_67 : decode cX0_pairsIn 67 = .ok (.dup, 1) := dk_89 (dk_at dksX0_pairsIn_2 21 rfl rfl)
theorem dX0_pairsIn_68 : decode cX0_pairsIn 68 = .ok (.bipush (-5), 2) := dk_16 251 (dk_at dksX0_pairsIn_2 22 rfl rfl)
theorem dX0_pairsIn_70 : decode cX0_pairsIn 70 = .ok (.invokespecial 106, 3) := dk_183 0 106 (dk_at dksX0_pairsIn_3 0 rfl rfl)
theorem dX0_pairsIn_73 : decode cX0_pairsIn 73 = .ok (.athrow, 1) := dk_191 (dk_at dksX0_pairsIn_3 3 rfl rfl)
theorem dX0_pairsIn_74 : decode cX0_pairsIn 74 = .ok (.iinc 5 2, 3) := dk_132 5 2 (dk_at dksX0_pairsIn_3 4 rfl rfl)
theorem dX0_pairsIn_77 : decode cX0_pairsIn 77 = .ok (.goto (-64), 3) := dk_167 255 192 (dk_at dksX0_pairsIn_3 7 rfl rfl)
theorem dX0_pairsIn_80 : decode cX0_pairsIn 80 = .ok (.aload 4, 2) := dk_25 4 (dk_at dksX0_pairsIn_3 10 rfl rfl)
theorem dX0_pairsIn_82 : decode cX0_pairsIn 82 = .ok (.areturn, 1) := dk_176 (dk_at dksX0_pairsIn_3 12 rfl rfl)
def dkwX0_toldIn_4 : List UInt8 := [176]
abbrev dktX0_toldIn_4 : List UInt8 := dkwX0_toldIn_4 ++ []
def dkwX0_toldIn_3 : List UInt8 := [80, 132, 7, 1, 167, 255, 233, 167, 0, 15, 58, 7, 187, 0, 104, 89, 16, 254, 183, 0, 106, 191, 25, 6]
abbrev dktX0_toldIn_3 : List UInt8 := dkwX0_toldIn_3 ++ dktX0_toldIn_4
def dkwX0_toldIn_2 : List UInt8 := [58, 6, 3, 54, 7, 21, 7, 25, 6, 190, 162, 0, 21, 25, 6, 21, 7, 25, 5, 21, 7, 184, 0, 135]
abbrev dktX0_toldIn_2 : List UInt8 := dkwX0_toldIn_2 ++ dktX0_toldIn_3
def dkwX0_toldIn_1 : List UInt8 := [187, 0, 104, 89, 16, 254, 183, 0, 106, 191, 42, 28, 182, 0, 109, 58, 5, 21, 4, 29, 104, 188, 11]
abbrev dktX0_toldIn_1 : List UInt8 := dkwX0_toldIn_1 ++ dktX0_toldIn_2
def dkwX0_toldIn_0 : List UInt8 := [27, 153, 0, 23, 28, 184, 0, 87, 153, 0, 16, 29, 3, 16, 40, 21, 4, 108, 184, 0, 71, 154, 0, 13]
abbrev dktX0_toldIn_0 : List UInt8 := dkwX0_toldIn_0 ++ dktX0_toldIn_1
theorem dksX0_toldIn_0 : cX0_toldIn.data.toList.drop 0 = dktX0_toldIn_0 := by decide +kernel
theorem dksX0_toldIn_1 : cX0_toldIn.data.toList.drop 24 = dktX0_toldIn_1 := dk_seg dksX0_toldIn_0 24 rfl rfl
theorem dksX0_toldIn_2 : cX0_toldIn.data.toList.drop 47 = dktX0_toldIn_2 := dk_seg dksX0_toldIn_1 23 rfl rfl
theorem dksX0_toldIn_3 : cX0_toldIn.data.toList.drop 71 = dktX0_toldIn_3 := dk_seg dksX0_toldIn_2 24 rfl rfl
theorem dksX0_toldIn_4 : cX0_toldIn.data.toList.drop 95 = dktX0_toldIn_4 := dk_seg dksX0_toldIn_3 24 rfl rfl
theorem dX0_toldIn_0 : decode cX0_toldIn 0 = .ok (.iload_n 1, 1) := dk_27 (dk_at dksX0_toldIn_0 0 rfl rfl)
theorem dX0_toldIn_1 : decode cX0_toldIn 1 = .ok (.ifCond .eq 23, 3) := dk_153 0 23 (dk_at dksX0_toldIn_0 1 rfl rfl)
theorem dX0_toldIn_4 : decode cX0_toldIn 4 = .ok (.iload_n 2, 1) := dk_28 (dk_at dksX0_toldIn_0 4 rfl rfl)
theorem dX0_toldIn_5 : decode cX0_toldIn 5 = .ok (.invokestatic 87, 3) := dk_184 0 87 (dk_at dksX0_toldIn_0 5 rfl rfl)
theorem dX0_toldIn_8 : decode cX0_toldIn 8 = .ok (.ifCond .eq 16, 3) := dk_153 0 16 (dk_at dksX0_toldIn_0 8 rfl rfl)
theorem dX0_toldIn_11 : decode cX0_toldIn 11 = .ok (.iload_n 3, 1) := dk_29 (dk_at dksX0_toldIn_0 11 rfl rfl)
theorem dX0_toldIn_12 : decode cX0_toldIn 12 = .ok (.iconst 0, 1) := dk_3 (dk_at dksX0_toldIn_0 12 rfl rfl)
theorem dX0_toldIn_13 : decode cX0_toldIn 13 = .ok (.bipush 40, 2) := dk_16 40 (dk_at dksX0_toldIn_0 13 rfl rfl)
theorem dX0_toldIn_15 : decode cX0_toldIn 15 = .ok (.iload 4, 2) := dk_21 4 (dk_at dksX0_toldIn_0 15 rfl rfl)
theorem dX0_toldIn_17 : decode cX0_toldIn 17 = .ok (.idiv, 1) := dk_108 (dk_at dksX0_toldIn_0 17 rfl rfl)
theorem dX0_toldIn_18 : decode cX0_toldIn 18 = .ok (.invokestatic 71, 3) := dk_184 0 71 (dk_at dksX0_toldIn_0 18 rfl rfl)
theorem dX0_toldIn_21 : decode cX0_toldIn 21 = .ok (.ifCond .ne 13, 3) := dk_154 0 13 (dk_at dksX0_toldIn_0 21 rfl rfl)
theorem dX0_toldIn_24 : decode cX0_toldIn 24 = .ok (.new 104, 3) := dk_187 0 104 (dk_at dksX0_toldIn_1 0 rfl rfl)
theorem dX0_toldIn_27 : decode cX0_toldIn 27 = .ok (.dup, 1) := dk_89 (dk_at dksX0_toldIn_1 3 rfl rfl)
theorem dX0_toldIn_28 : decode cX0_toldIn 28 = .ok (.bipush (-2), 2) := dk_16 254 (dk_at dksX0_toldIn_1 4 rfl rfl)
theorem dX0_toldIn_30 : decode cX0_toldIn 30 = .ok (.invokespecial 106, 3) := dk_183 0 106 (dk_at dksX0_toldIn_1 6 rfl rfl)
theorem dX0_toldIn_33 : decode cX0_toldIn 33 = .ok (.athrow, 1) := dk_191 (dk_at dksX0_toldIn_1 9 rfl rfl)
theorem dX0_toldIn_34 : decode cX0_toldIn 34 = .ok (.aload_n 0, 1) := dk_42 (dk_at dksX0_toldIn_1 10 rfl rfl)
theorem dX0_toldIn_35 : decode cX0_toldIn 35 = .ok (.iload_n 2, 1) := dk_28 (dk_at dksX0_toldIn_1 11 rfl rfl)
theorem dX0_toldIn_36 : decode cX0_toldIn 36 = .ok (.invokevirtual 109, 3) := dk_182 0 109 (dk_at dksX0_toldIn_1 12 rfl rfl)
theorem dX0_toldIn_39 : decode cX0_toldIn 39 = .ok (.astore 5, 2) := dk_58 5 (dk_at dksX0_toldIn_1 15 rfl rfl)
theorem dX0_toldIn_41 : decode cX0_toldIn 41 = .ok (.iload 4, 2) := dk_21 4 (dk_at dksX0_toldIn_1 17 rfl rfl)
theorem dX0_toldIn_43 : decode cX0_toldIn 43 = .ok (.iload_n 3, 1) := dk_29 (dk_at dksX0_toldIn_1 19 rfl rfl)
theorem dX0_toldIn_44 : decode cX0_toldIn 44 = .ok (.imul, 1) := dk_104 (dk_at dksX0_toldIn_1 20 rfl rfl)
theorem dX0_toldIn_45 : decode cX0_toldIn 45 = .ok (.newarray .long, 2) := dk_188_11 (dk_at dksX0_toldIn_1 21 rfl rfl)
theorem dX0_toldIn_47 : decode cX0_toldIn 47 = .ok (.astore 6, 2) := dk_58 6 (dk_at dksX0_toldIn_2 0 rfl rfl)
theorem dX0_toldIn_49 : decode cX0_toldIn 49 = .ok (.iconst 0, 1) := dk_3 (dk_at dksX0_toldIn_2 2 rfl rfl)
theorem dX0_toldIn_50 : decode cX0_toldIn 50 = .ok (.istore 7, 2) := dk_54 7 (dk_at dksX0_toldIn_2 3 rfl rfl)
theorem dX0_toldIn_52 : decode cX0_toldIn 52 = .ok (.iload 7, 2) := dk_21 7 (dk_at dksX0_toldIn_2 5 rfl rfl)
theorem dX0_toldIn_54 : decode cX0_toldIn 54 = .ok (.aload 6, 2) := dk_25 6 (dk_at dksX0_toldIn_2 7 rfl rfl)
theorem dX0_toldIn_56 : decode cX0_toldIn 56 = .ok (.arraylength, 1) := dk_190 (dk_at dksX0_toldIn_2 9 rfl rfl)
theorem dX0_toldIn_57 : decode cX0_toldIn 57 = .ok (.if_icmp .ge 21, 3) := dk_162 0 21 (dk_at dksX0_toldIn_2 10 rfl rfl)
theorem dX0_toldIn_60 : decode cX0_toldIn 60 = .ok (.aload 6, 2) := dk_25 6 (dk_at dksX0_toldIn_2 13 rfl rfl)
theorem dX0_toldIn_62 : decode cX0_toldIn 62 = .ok (.iload 7, 2) := dk_21 7 (dk_at dksX0_toldIn_2 15 rfl rfl)
theorem dX0_toldIn_64 : decode cX0_toldIn 64 = .ok (.aload 5, 2) := dk_25 5 (dk_at dksX0_toldIn_2 17 rfl rfl)
theorem dX0_toldIn_66 : decode cX0_toldIn 66 = .ok (.iload 7, 2) := dk_21 7 (dk_at dksX0_toldIn_2 19 rfl rfl)
theorem dX0_toldIn_68 : decode cX0_toldIn 68 = .ok (.invokestatic 135, 3) := dk_184 0 135 (dk_at dksX0_toldIn_2 21 rfl rfl)
theorem dX0_toldIn_71 : decode cX0_toldIn 71 = .ok (.lastore, 1) := dk_80 (dk_at dksX0_toldIn_3 0 rfl rfl)
theorem dX0_toldIn_72 : decode cX0_toldIn 72 = .ok (.iinc 7 1, 3) := dk_132 7 1 (dk_at dksX0_toldIn_3 1 rfl rfl)
theorem dX0_toldIn_75 : decode cX0_toldIn 75 = .ok (.goto (-23), 3) := dk_167 255 233 (dk_at dksX0_toldIn_3 4 rfl rfl)
theorem dX0_toldIn_78 : decode cX0_toldIn 78 = .ok (.goto 15, 3) := dk_167 0 15 (dk_at dksX0_toldIn_3 7 rfl rfl)
theorem dX0_toldIn_81 : decode cX0_toldIn 81 = .ok (.astore 7, 2) := dk_58 7 (dk_at dksX0_toldIn_3 10 rfl rfl)
theorem dX0_toldIn_83 : decode cX0_toldIn 83 = .ok (.new 104, 3) := dk_187 0 104 (dk_at dksX0_toldIn_3 12 rfl rfl)
theorem dX0_toldIn_86 : decode cX0_toldIn 86 = .ok (.dup, 1) := dk_89 (dk_at dksX0_toldIn_3 15 rfl rfl)
theorem dX0_toldIn_87 : decode cX0_toldIn 87 = .ok (.bipush (-2), 2) := dk_16 254 (dk_at dksX0_toldIn_3 16 rfl rfl)
theorem dX0_toldIn_89 : decode cX0_toldIn 89 = .ok (.invokespecial 106, 3) := dk_183 0 106 (dk_at dksX0_toldIn_3 18 rfl rfl)
theorem dX0_toldIn_92 : decode cX0_toldIn 92 = .ok (.athrow, 1) := dk_191 (dk_at dksX0_toldIn_3 21 rfl rfl)
theorem dX0_toldIn_93 : decode cX0_toldIn 93 = .ok (.aload 6, 2) := dk_25 6 (dk_at dksX0_toldIn_3 22 rfl rfl)
theorem dX0_toldIn_95 : decode cX0_toldIn 95 = .ok (.areturn, 1) := dk_176 (dk_at dksX0_toldIn_4 0 rfl rfl)
def dkwX0_many_2 : List UInt8 := [167, 255, 220, 29, 172]
abbrev dktX0_many_2 : List UInt8 := dkwX0_many_2 ++ []
def dkwX0_many_1 : List UInt8 := [182, 1, 12, 153, 0, 7, 4, 167, 0, 4, 3, 96, 62, 42, 180, 0, 42, 21, 4, 182, 1, 9, 54, 4]
abbrev dktX0_many_1 : List UInt8 := dkwX0_many_1 ++ dktX0_many_2
def dkwX0_many_0 : List UInt8 := [3, 62, 42, 180, 0, 42, 2, 182, 1, 9, 54, 4, 21, 4, 2, 159, 0, 36, 29, 42, 43, 21, 4, 28]
abbrev dktX0_many_0 : List UInt8 := dkwX0_many_0 ++ dktX0_many_1
theorem dksX0_many_0 : cX0_many.data.toList.drop 0 = dktX0_many_0 := by decide +kernel
theorem dksX0_many_1 : cX0_many.data.toList.drop 24 = dktX0_many_1 := dk_seg dksX0_many_0 24 rfl rfl
theorem dksX0_many_2 : cX0_many.data.toList.drop 48 = dktX0_many_2 := dk_seg dksX0_many_1 24 rfl rfl
theorem dX0_many_0 : decode cX0_many 0 = .ok (.iconst 0, 1) := dk_3 (dk_at dksX0_many_0 0 rfl rfl)
theorem dX0_many_1 : decode cX0_many 1 = .ok (.istore_n 3, 1) := dk_62 (dk_at dksX0_many_0 1 rfl rfl)
theorem dX0_many_2 : decode cX0_many 2 = .ok (.aload_n 0, 1) := dk_42 (dk_at dksX0_many_0 2 rfl rfl)
theorem dX0_many_3 : decode cX0_many 3 = .ok (.getfield 42, 3) := dk_180 0 42 (dk_at dksX0_many_0 3 rfl rfl)
theorem dX0_many_6 : decode cX0_many 6 = .ok (.iconst (-1), 1) := dk_2 (dk_at dksX0_many_0 6 rfl rfl)
theorem dX0_many_7 : decode cX0_many 7 = .ok (.invokevirtual 265, 3) := dk_182 1 9 (dk_at dksX0_many_0 7 rfl rfl)
theorem dX0_many_10 : decode cX0_many 10 = .ok (.istore 4, 2) := dk_54 4 (dk_at dksX0_many_0 10 rfl rfl)
theorem dX0_many_12 : decode cX0_many 12 = .ok (.iload 4, 2) := dk_21 4 (dk_at dksX0_many_0 12 rfl rfl)
theorem dX0_many_14 : decode cX0_many 14 = .ok (.iconst (-1), 1) := dk_2 (dk_at dksX0_many_0 14 rfl rfl)
theorem dX0_many_15 : decode cX0_many 15 = .ok (.if_icmp .eq 36, 3) := dk_159 0 36 (dk_at dksX0_many_0 15 rfl rfl)
theorem dX0_many_18 : decode cX0_many 18 = .ok (.iload_n 3, 1) := dk_29 (dk_at dksX0_many_0 18 rfl rfl)
theorem dX0_many_19 : decode cX0_many 19 = .ok (.aload_n 0, 1) := dk_42 (dk_at dksX0_many_0 19 rfl rfl)
theorem dX0_many_20 : decode cX0_many 20 = .ok (.aload_n 1, 1) := dk_43 (dk_at dksX0_many_0 20 rfl rfl)
theorem dX0_many_21 : decode cX0_many 21 = .ok (.iload 4, 2) := dk_21 4 (dk_at dksX0_many_0 21 rfl rfl)
theorem dX0_many_23 : decode cX0_many 23 = .ok (.iload_n 2, 1) := dk_28 (dk_at dksX0_many_0 23 rfl rfl)
theorem dX0_many_24 : decode cX0_many 24 = .ok (.invokevirtual 268, 3) := dk_182 1 12 (dk_at dksX0_many_1 0 rfl rfl)
theorem dX0_many_27 : decode cX0_many 27 = .ok (.ifCond .eq 7, 3) := dk_153 0 7 (dk_at dksX0_many_1 3 rfl rfl)
theorem dX0_many_30 : decode cX0_many 30 = .ok (.iconst 1, 1) := dk_4 (dk_at dksX0_many_1 6 rfl rfl)
theorem dX0_many_31 : decode cX0_many 31 = .ok (.goto 4, 3) := dk_167 0 4 (dk_at dksX0_many_1 7 rfl rfl)
theorem dX0_many_34 : decode cX0_many 34 = .ok (.iconst 0, 1) := dk_3 (dk_at dksX0_many_1 10 rfl rfl)
theorem dX0_many_35 : decode cX0_many 35 = .ok (.iadd, 1) := dk_96 (dk_at dksX0_many_1 11 rfl rfl)
theorem dX0_many_36 : decode cX0_many 36 = .ok (.istore_n 3, 1) := dk_62 (dk_at dksX0_many_1 12 rfl rfl)
theorem dX0_many_37 : decode cX0_many 37 = .ok (.aload_n 0, 1) := dk_42 (dk_at dksX0_many_1 13 rfl rfl)
theorem dX0_many_38 : decode cX0_many 38 = .ok (.getfield 42, 3) := dk_180 0 42 (dk_at dksX0_many_1 14 rfl rfl)
theorem dX0_many_41 : decode cX0_many 41 = .ok (.iload 4, 2) := dk_21 4 (dk_at dksX0_many_1 17 rfl rfl)
theorem dX0_many_43 : decode cX0_many 43 = .ok (.invokevirtual 265, 3) := dk_182 1 9 (dk_at dksX0_many_1 19 rfl rfl)
theorem dX0_many_46 : decode cX0_many 46 = .ok (.istore 4, 2) := dk_54 4 (dk_at dksX0_many_1 22 rfl rfl)
theorem dX0_many_48 : decode cX0_many 48 = .ok (.goto (-36), 3) := dk_167 255 220 (dk_at dksX0_many_2 0 rfl rfl)
theorem dX0_many_51 : decode cX0_many 51 = .ok (.iload_n 3, 1) := dk_29 (dk_at dksX0_many_2 3 rfl rfl)
theorem dX0_many_52 : decode cX0_many 52 = .ok (.ireturn, 1) := dk_172 (dk_at dksX0_many_2 4 rfl rfl)
def dkwX0_fits_2 : List UInt8 := [3, 172, 132, 4, 2, 167, 255, 207, 4, 172]
abbrev dktX0_fits_2 : List UInt8 := dkwX0_fits_2 ++ []
def dkwX0_fits_1 : List UInt8 := [180, 0, 146, 43, 21, 4, 47, 136, 50, 28, 182, 0, 253, 133, 43, 21, 4, 4, 96, 47, 148, 153, 0, 5]
abbrev dktX0_fits_1 : List UInt8 := dkwX0_fits_1 ++ dktX0_fits_2
def dkwX0_fits_0 : List UInt8 := [3, 54, 4, 21, 4, 43, 190, 162, 0, 48, 21, 4, 5, 108, 29, 159, 0, 34, 42, 42, 180, 0, 42]
abbrev dktX0_fits_0 : List UInt8 := dkwX0_fits_0 ++ dktX0_fits_1
theorem dksX0_fits_0 : cX0_fits.data.toList.drop 0 = dktX0_fits_0 := by decide +kernel
theorem dksX0_fits_1 : cX0_fits.data.toList.drop 23 = dktX0_fits_1 := dk_seg dksX0_fits_0 23 rfl rfl
theorem dksX0_fits_2 : cX0_fits.data.toList.drop 47 = dktX0_fits_2 := dk_seg dksX0_fits_1 24 rfl rfl
theorem dX0_fits_0 : decode cX0_fits 0 = .ok (.iconst 0, 1) := dk_3 (dk_at dksX0_fits_0 0 rfl rfl)
theorem dX0_fits_1 : decode cX0_fits 1 = .ok (.istore 4, 2) := dk_54 4 (dk_at dksX0_fits_0 1 rfl rfl)
theorem dX0_fits_3 : decode cX0_fits 3 = .ok (.iload 4, 2) := dk_21 4 (dk_at dksX0_fits_0 3 rfl rfl)
theorem dX0_fits_5 : decode cX0_fits 5 = .ok (.aload_n 1, 1) := dk_43 (dk_at dksX0_fits_0 5 rfl rfl)
theorem dX0_fits_6 : decode cX0_fits 6 = .ok (.arraylength, 1) := dk_190 (dk_at dksX0_fits_0 6 rfl rfl)
theorem dX0_fits_7 : decode cX0_fits 7 = .ok (.if_icmp .ge 48, 3) := dk_162 0 48 (dk_at dksX0_fits_0 7 rfl rfl)
theorem dX0_fits_10 : decode cX0_fits 10 = .ok (.iload 4, 2) := dk_21 4 (dk_at dksX0_fits_0 10 rfl rfl)
theorem dX0_fits_12 : decode cX0_fits 12 = .ok (.iconst 2, 1) := dk_5 (dk_at dksX0_fits_0 12 rfl rfl)
theorem dX0_fits_13 : decode cX0_fits 13 = .ok (.idiv, 1) := dk_108 (dk_at dksX0_fits_0 13 rfl rfl)
theorem dX0_fits_14 : decode cX0_fits 14 = .ok (.iload_n 3, 1) := dk_29 (dk_at dksX0_fits_0 14 rfl rfl)
theorem dX0_fits_15 : decode cX0_fits 15 = .ok (.if_icmp .eq 34, 3) := dk_159 0 34 (dk_at dksX0_fits_0 15 rfl rfl)
theorem dX0_fits_18 : decode cX0_fits 18 = .ok (.aload_n 0, 1) := dk_42 (dk_at dksX0_fits_0 18 rfl rfl)
theorem dX0_fits_19 : decode cX0_fits 19 = .ok (.aload_n 0, 1) := dk_42 (dk_at dksX0_fits_0 19 rfl rfl)
theorem dX0_fits_20 : decode cX0_fits 20 = .ok (.getfield 42, 3) := dk_180 0 42 (dk_at dksX0_fits_0 20 rfl rfl)
theorem dX0_fits_23 : decode cX0_fits 23 = .ok (.getfield 146, 3) := dk_180 0 146 (dk_at dksX0_fits_1 0 rfl rfl)
theorem dX0_fits_26 : decode cX0_fits 26 = .ok (.aload_n 1, 1) := dk_43 (dk_at dksX0_fits_1 3 rfl rfl)
theorem dX0_fits_27 : decode cX0_fits 27 = .ok (.iload 4, 2) := dk_21 4 (dk_at dksX0_fits_1 4 rfl rfl)
theorem dX0_fits_29 : decode cX0_fits 29 = .ok (.laload, 1) := dk_47 (dk_at dksX0_fits_1 6 rfl rfl)
theorem dX0_fits_30 : decode cX0_fits 30 = .ok (.l2i, 1) := dk_136 (dk_at dksX0_fits_1 7 rfl rfl)
theorem dX0_fits_31 : decode cX0_fits 31 = .ok (.aaload, 1) := dk_50 (dk_at dksX0_fits_1 8 rfl rfl)
theorem dX0_fits_32 : decode cX0_fits 32 = .ok (.iload_n 2, 1) := dk_28 (dk_at dksX0_fits_1 9 rfl rfl)
theorem dX0_fits_33 : decode cX0_fits 33 = .ok (.invokevirtual 253, 3) := dk_182 0 253 (dk_at dksX0_fits_1 10 rfl rfl)
theorem dX0_fits_36 : decode cX0_fits 36 = .ok (.i2l, 1) := dk_133 (dk_at dksX0_fits_1 13 rfl rfl)
theorem dX0_fits_37 : decode cX0_fits 37 = .ok (.aload_n 1, 1) := dk_43 (dk_at dksX0_fits_1 14 rfl rfl)
theorem dX0_fits_38 : decode cX0_fits 38 = .ok (.iload 4, 2) := dk_21 4 (dk_at dksX0_fits_1 15 rfl rfl)
theorem dX0_fits_40 : decode cX0_fits 40 = .ok (.iconst 1, 1) := dk_4 (dk_at dksX0_fits_1 17 rfl rfl)
theorem dX0_fits_41 : decode cX0_fits 41 = .ok (.iadd, 1) := dk_96 (dk_at dksX0_fits_1 18 rfl rfl)
theorem dX0_fits_42 : decode cX0_fits 42 = .ok (.laload, 1) := dk_47 (dk_at dksX0_fits_1 19 rfl rfl)
theorem dX0_fits_43 : decode cX0_fits 43 = .ok (.lcmp, 1) := dk_148 (dk_at dksX0_fits_1 20 rfl rfl)
theorem dX0_fits_44 : decode cX0_fits 44 = .ok (.ifCond .eq 5, 3) := dk_153 0 5 (dk_at dksX0_fits_1 21 rfl rfl)
theorem dX0_fits_47 : decode cX0_fits 47 = .ok (.iconst 0, 1) := dk_3 (dk_at dksX0_fits_2 0 rfl rfl)
theorem dX0_fits_48 : decode cX0_fits 48 = .ok (.ireturn, 1) := dk_172 (dk_at dksX0_fits_2 1 rfl rfl)
theorem dX0_fits_49 : decode cX0_fits 49 = .ok (.iinc 4 2, 3) := dk_132 4 2 (dk_at dksX0_fits_2 2 rfl rfl)
theorem dX0_fits_52 : decode cX0_fits 52 = .ok (.goto (-49), 3) := dk_167 255 207 (dk_at dksX0_fits_2 5 rfl rfl)
theorem dX0_fits_55 : decode cX0_fits 55 = .ok (.iconst 1, 1) := dk_4 (dk_at dksX0_fits_2 8 rfl rfl)
theorem dX0_fits_56 : decode cX0_fits 56 = .ok (.ireturn, 1) := dk_172 (dk_at dksX0_fits_2 9 rfl rfl)
def dkwX0_of_1 : List UInt8 := [167, 0, 9, 42, 25, 4, 182, 1, 38, 172, 58, 4, 42, 25, 4, 180, 0, 117, 182, 0, 91, 172]
abbrev dktX0_of_1 : List UInt8 := dkwX0_of_1 ++ []
def dkwX0_of_0 : List UInt8 := [42, 29, 3, 4, 184, 0, 71, 27, 28, 182, 1, 16, 58, 4, 29, 154, 0, 12, 42, 25, 4, 182, 1, 34]
abbrev dktX0_of_0 : List UInt8 := dkwX0_of_0 ++ dktX0_of_1
theorem dksX0_of_0 : cX0_of.data.toList.drop 0 = dktX0_of_0 := by decide +kernel
theorem dksX0_of_1 : cX0_of.data.toList.drop 24 = dktX0_of_1 := dk_seg dksX0_of_0 24 rfl rfl
theorem dX0_of_0 : decode cX0_of 0 = .ok (.aload_n 0, 1) := dk_42 (dk_at dksX0_of_0 0 rfl rfl)
theorem dX0_of_1 : decode cX0_of 1 = .ok (.iload_n 3, 1) := dk_29 (dk_at dksX0_of_0 1 rfl rfl)
theorem dX0_of_2 : decode cX0_of 2 = .ok (.iconst 0, 1) := dk_3 (dk_at dksX0_of_0 2 rfl rfl)
theorem dX0_of_3 : decode cX0_of 3 = .ok (.iconst 1, 1) := dk_4 (dk_at dksX0_of_0 3 rfl rfl)
theorem dX0_of_4 : decode cX0_of 4 = .ok (.invokestatic 71, 3) := dk_184 0 71 (dk_at dksX0_of_0 4 rfl rfl)
theorem dX0_of_7 : decode cX0_of 7 = .ok (.iload_n 1, 1) := dk_27 (dk_at dksX0_of_0 7 rfl rfl)
theorem dX0_of_8 : decode cX0_of 8 = .ok (.iload_n 2, 1) := dk_28 (dk_at dksX0_of_0 8 rfl rfl)
theorem dX0_of_9 : decode cX0_of 9 = .ok (.invokevirtual 272, 3) := dk_182 1 16 (dk_at dksX0_of_0 9 rfl rfl)
theorem dX0_of_12 : decode cX0_of 12 = .ok (.astore 4, 2) := dk_58 4 (dk_at dksX0_of_0 12 rfl rfl)
theorem dX0_of_14 : decode cX0_of 14 = .ok (.iload_n 3, 1) := dk_29 (dk_at dksX0_of_0 14 rfl rfl)
theorem dX0_of_15 : decode cX0_of 15 = .ok (.ifCond .ne 12, 3) := dk_154 0 12 (dk_at dksX0_of_0 15 rfl rfl)
theorem dX0_of_18 : decode cX0_of 18 = .ok (.aload_n 0, 1) := dk_42 (dk_at dksX0_of_0 18 rfl rfl)
theorem dX0_of_19 : decode cX0_of 19 = .ok (.aload 4, 2) := dk_25 4 (dk_at dksX0_of_0 19 rfl rfl)
theorem dX0_of_21 : decode cX0_of 21 = .ok (.invokevirtual 290, 3) := dk_182 1 34 (dk_at dksX0_of_0 21 rfl rfl)
theorem dX0_of_24 : decode cX0_of 24 = .ok (.goto 9, 3) := dk_167 0 9 (dk_at dksX0_of_1 0 rfl rfl)
theorem dX0_of_27 : decode cX0_of 27 = .ok (.aload_n 0, 1) := dk_42 (dk_at dksX0_of_1 3 rfl rfl)
theorem dX0_of_28 : decode cX0_of 28 = .ok (.aload 4, 2) := dk_25 4 (dk_at dksX0_of_1 4 rfl rfl)
theorem dX0_of_30 : decode cX0_of 30 = .ok (.invokevirtual 294, 3) := dk_182 1 38 (dk_at dksX0_of_1 6 rfl rfl)
theorem dX0_of_33 : decode cX0_of 33 = .ok (.ireturn, 1) := dk_172 (dk_at dksX0_of_1 9 rfl rfl)
theorem dX0_of_34 : decode cX0_of 34 = .ok (.astore 4, 2) := dk_58 4 (dk_at dksX0_of_1 10 rfl rfl)
theorem dX0_of_36 : decode cX0_of 36 = .ok (.aload_n 0, 1) := dk_42 (dk_at dksX0_of_1 12 rfl rfl)
theorem dX0_of_37 : decode cX0_of 37 = .ok (.aload 4, 2) := dk_25 4 (dk_at dksX0_of_1 13 rfl rfl)
theorem dX0_of_39 : decode cX0_of 39 = .ok (.getfield 117, 3) := dk_180 0 117 (dk_at dksX0_of_1 15 rfl rfl)
theorem dX0_of_42 : decode cX0_of 42 = .ok (.invokevirtual 91, 3) := dk_182 0 91 (dk_at dksX0_of_1 18 rfl rfl)
theorem dX0_of_45 : decode cX0_of 45 = .ok (.ireturn, 1) := dk_172 (dk_at dksX0_of_1 21 rfl rfl)
def dkwX0_nextOf_2 : List UInt8 := [167, 0, 4, 28, 61, 29, 21, 5, 184, 1, 31, 62, 132, 4, 1, 167, 255, 202, 28, 172]
abbrev dktX0_nextOf_2 : List UInt8 := dkwX0_nextOf_2 ++ []
def dkwX0_nextOf_1 : List UInt8 := [182, 1, 20, 4, 164, 0, 38, 42, 43, 21, 4, 182, 1, 28, 54, 5, 21, 5, 29, 162, 0, 8, 21, 4]
abbrev dktX0_nextOf_1 : List UInt8 := dkwX0_nextOf_1 ++ dktX0_nextOf_2
def dkwX0_nextOf_0 : List UInt8 := [2, 61, 19, 1, 27, 62, 3, 54, 4, 21, 4, 42, 180, 0, 42, 180, 0, 186, 162, 0, 48, 42, 43, 2]
abbrev dktX0_nextOf_0 : List UInt8 := dkwX0_nextOf_0 ++ dktX0_nextOf_1
theorem dksX0_nextOf_0 : cX0_nextOf.data.toList.drop 0 = dktX0_nextOf_0 := by decide +kernel
theorem dksX0_nextOf_1 : cX0_nextOf.data.toList.drop 24 = dktX0_nextOf_1 := dk_seg dksX0_nextOf_0 24 rfl rfl
theorem dksX0_nextOf_2 : cX0_nextOf.data.toList.drop 48 = dktX0_nextOf_2 := dk_seg dksX0_nextOf_1 24 rfl rfl
theorem dX0_nextOf_0 : decode cX0_nextOf 0 = .ok (.iconst (-1), 1) := dk_2 (dk_at dksX0_nextOf_0 0 rfl rfl)
theorem dX0_nextOf_1 : decode cX0_nextOf 1 = .ok (.istore_n 2, 1) := dk_61 (dk_at dksX0_nextOf_0 1 rfl rfl)
theorem dX0_nextOf_2 : decode cX0_nextOf 2 = .ok (.ldc_w 283, 3) := dk_19 1 27 (dk_at dksX0_nextOf_0 2 rfl rfl)
theorem dX0_nextOf_5 : decode cX0_nextOf 5 = .ok (.istore_n 3, 1) := dk_62 (dk_at dksX0_nextOf_0 5 rfl rfl)
theorem dX0_nextOf_6 : decode cX0_nextOf 6 = .ok (.iconst 0, 1) := dk_3 (dk_at dksX0_nextOf_0 6 rfl rfl)
theorem dX0_nextOf_7 : decode cX0_nextOf 7 = .ok (.istore 4, 2) := dk_54 4 (dk_at dksX0_nextOf_0 7 rfl rfl)
theorem dX0_nextOf_9 : decode cX0_nextOf 9 = .ok (.iload 4, 2) := dk_21 4 (dk_at dksX0_nextOf_0 9 rfl rfl)
theorem dX0_nextOf_11 : decode cX0_nextOf 11 = .ok (.aload_n 0, 1) := dk_42 (dk_at dksX0_nextOf_0 11 rfl rfl)
theorem dX0_nextOf_12 : decode cX0_nextOf 12 = .ok (.getfield 42, 3) := dk_180 0 42 (dk_at dksX0_nextOf_0 12 rfl rfl)
theorem dX0_nextOf_15 : decode cX0_nextOf 15 = .ok (.getfield 186, 3) := dk_180 0 186 (dk_at dksX0_nextOf_0 15 rfl rfl)
theorem dX0_nextOf_18 : decode cX0_nextOf 18 = .ok (.if_icmp .ge 48, 3) := dk_162 0 48 (dk_at dksX0_nextOf_0 18 rfl rfl)
theorem dX0_nextOf_21 : decode cX0_nextOf 21 = .ok (.aload_n 0, 1) := dk_42 (dk_at dksX0_nextOf_0 21 rfl rfl)
theorem dX0_nextOf_22 : decode cX0_nextOf 22 = .ok (.aload_n 1, 1) := dk_43 (dk_at dksX0_nextOf_0 22 rfl rfl)
theorem dX0_nextOf_23 : decode cX0_nextOf 23 = .ok (.iconst (-1), 1) := dk_2 (dk_at dksX0_nextOf_0 23 rfl rfl)
theorem dX0_nextOf_24 : decode cX0_nextOf 24 = .ok (.invokevirtual 276, 3) := dk_182 1 20 (dk_at dksX0_nextOf_1 0 rfl rfl)
theorem dX0_nextOf_27 : decode cX0_nextOf 27 = .ok (.iconst 1, 1) := dk_4 (dk_at dksX0_nextOf_1 3 rfl rfl)
theorem dX0_nextOf_28 : decode cX0_nextOf 28 = .ok (.if_icmp .le 38, 3) := dk_164 0 38 (dk_at dksX0_nextOf_1 4 rfl rfl)
theorem dX0_nextOf_31 : decode cX0_nextOf 31 = .ok (.aload_n 0, 1) := dk_42 (dk_at dksX0_nextOf_1 7 rfl rfl)
theorem dX0_nextOf_32 : decode cX0_nextOf 32 = .ok (.aload_n 1, 1) := dk_43 (dk_at dksX0_nextOf_1 8 rfl rfl)
theorem dX0_nextOf_33 : decode cX0_nextOf 33 = .ok (.iload 4, 2) := dk_21 4 (dk_at dksX0_nextOf_1 9 rfl rfl)
theorem dX0_nextOf_35 : decode cX0_nextOf 35 = .ok (.invokevirtual 284, 3) := dk_182 1 28 (dk_at dksX0_nextOf_1 11 rfl rfl)
theorem dX0_nextOf_38 : decode cX0_nextOf 38 = .ok (.istore 5, 2) := dk_54 5 (dk_at dksX0_nextOf_1 14 rfl rfl)
theorem dX0_nextOf_40 : decode cX0_nextOf 40 = .ok (.iload 5, 2) := dk_21 5 (dk_at dksX0_nextOf_1 16 rfl rfl)
theorem dX0_nextOf_42 : decode cX0_nextOf 42 = .ok (.iload_n 3, 1) := dk_29 (dk_at dksX0_nextOf_1 18 rfl rfl)
theorem dX0_nextOf_43 : decode cX0_nextOf 43 = .ok (.if_icmp .ge 8, 3) := dk_162 0 8 (dk_at dksX0_nextOf_1 19 rfl rfl)
theorem dX0_nextOf_46 : decode cX0_nextOf 46 = .ok (.iload 4, 2) := dk_21 4 (dk_at dksX0_nextOf_1 22 rfl rfl)
theorem dX0_nextOf_48 : decode cX0_nextOf 48 = .ok (.goto 4, 3) := dk_167 0 4 (dk_at dksX0_nextOf_2 0 rfl rfl)
theorem dX0_nextOf_51 : decode cX0_nextOf 51 = .ok (.iload_n 2, 1) := dk_28 (dk_at dksX0_nextOf_2 3 rfl rfl)
theorem dX0_nextOf_52 : decode cX0_nextOf 52 = .ok (.istore_n 2, 1) := dk_61 (dk_at dksX0_nextOf_2 4 rfl rfl)
theorem dX0_nextOf_53 : decode cX0_nextOf 53 = .ok (.iload_n 3, 1) := dk_29 (dk_at dksX0_nextOf_2 5 rfl rfl)
theorem dX0_nextOf_54 : decode cX0_nextOf 54 = .ok (.iload 5, 2) := dk_21 5 (dk_at dksX0_nextOf_2 6 rfl rfl)
theorem dX0_nextOf_56 : decode cX0_nextOf 56 = .ok (.invokestatic 287, 3) := dk_184 1 31 (dk_at dksX0_nextOf_2 8 rfl rfl)
theorem dX0_nextOf_59 : decode cX0_nextOf 59 = .ok (.istore_n 3, 1) := dk_62 (dk_at dksX0_nextOf_2 11 rfl rfl)
theorem dX0_nextOf_60 : decode cX0_nextOf 60 = .ok (.iinc 4 1, 3) := dk_132 4 1 (dk_at dksX0_nextOf_2 12 rfl rfl)
theorem dX0_nextOf_63 : decode cX0_nextOf 63 = .ok (.goto (-54), 3) := dk_167 255 202 (dk_at dksX0_nextOf_2 15 rfl rfl)
theorem dX0_nextOf_66 : decode cX0_nextOf 66 = .ok (.iload_n 2, 1) := dk_28 (dk_at dksX0_nextOf_2 18 rfl rfl)
theorem dX0_nextOf_67 : decode cX0_nextOf 67 = .ok (.ireturn, 1) := dk_172 (dk_at dksX0_nextOf_2 19 rfl rfl)
def dkwX0_worstOf_4 : List UInt8 := [132, 4, 1, 167, 255, 165, 29, 172]
abbrev dktX0_worstOf_4 : List UInt8 := dkwX0_worstOf_4 ++ []
def dkwX0_worstOf_3 : List UInt8 := [54, 5, 42, 180, 0, 42, 21, 6, 182, 1, 9, 54, 6, 167, 255, 198, 29, 21, 5, 184, 1, 24, 62]
abbrev dktX0_worstOf_3 : List UInt8 := dkwX0_worstOf_3 ++ dktX0_worstOf_4
def dkwX0_worstOf_2 : List UInt8 := [180, 0, 42, 180, 0, 146, 28, 50, 21, 6, 182, 0, 253, 21, 4, 160, 0, 7, 4, 167, 0, 4, 3, 96]
abbrev dktX0_worstOf_2 : List UInt8 := dkwX0_worstOf_2 ++ dktX0_worstOf_3
def dkwX0_worstOf_1 : List UInt8 := [54, 6, 21, 6, 2, 159, 0, 58, 21, 5, 42, 43, 21, 6, 2, 182, 1, 12, 153, 0, 27, 42, 42]
abbrev dktX0_worstOf_1 : List UInt8 := dkwX0_worstOf_1 ++ dktX0_worstOf_2
def dkwX0_worstOf_0 : List UInt8 := [3, 62, 2, 54, 4, 21, 4, 16, 8, 163, 0, 90, 3, 54, 5, 42, 180, 0, 42, 2, 182, 1, 9]
abbrev dktX0_worstOf_0 : List UInt8 := dkwX0_worstOf_0 ++ dktX0_worstOf_1
theorem dksX0_worstOf_0 : cX0_worstOf.data.toList.drop 0 = dktX0_worstOf_0 := by decide +kernel
theorem dksX0_worstOf_1 : cX0_worstOf.data.toList.drop 23 = dktX0_worstOf_1 := dk_seg dksX0_worstOf_0 23 rfl rfl
theorem dksX0_worstOf_2 : cX0_worstOf.data.toList.drop 46 = dktX0_worstOf_2 := dk_seg dksX0_worstOf_1 23 rfl rfl
theorem dksX0_worstOf_3 : cX0_worstOf.data.toList.drop 70 = dktX0_worstOf_3 := dk_seg dksX0_worstOf_2 24 rfl rfl
theorem dksX0_worstOf_4 : cX0_worstOf.data.toList.drop 93 = dktX0_worstOf_4 := dk_seg dksX0_worstOf_3 23 rfl rfl
theorem dX0_worstOf_0 : decode cX0_worstOf 0 = .ok (.iconst 0, 1) := dk_3 (dk_at dksX0_worstOf_0 0 rfl rfl)
theorem dX0_worstOf_1 : decode cX0_worstOf 1 = .ok (.istore_n 3, 1) := dk_62 (dk_at dksX0_worstOf_0 1 rfl rfl)
theorem dX0_worstOf_2 : decode cX0_worstOf 2 = .ok (.iconst (-1), 1) := dk_2 (dk_at dksX0_worstOf_0 2 rfl rfl)
theorem dX0_worstOf_3 : decode cX0_worstOf 3 = .ok (.istore 4, 2) := dk_54 4 (dk_at dksX0_worstOf_0 3 rfl rfl)
theorem dX0_worstOf_5 : decode cX0_worstOf 5 = .ok (.iload 4, 2) := dk_21 4 (dk_at dksX0_worstOf_0 5 rfl rfl)
theorem dX0_worstOf_7 : decode cX0_worstOf 7 = .ok (.bipush 8, 2) := dk_16 8 (dk_at dksX0_worstOf_0 7 rfl rfl)
theorem dX0_worstOf_9 : decode cX0_worstOf 9 = .ok (.if_icmp .gt 90, 3) := dk_163 0 90 (dk_at dksX0_worstOf_0 9 rfl rfl)
theorem dX0_worstOf_12 : decode cX0_worstOf 12 = .ok (.iconst 0, 1) := dk_3 (dk_at dksX0_worstOf_0 12 rfl rfl)
theorem dX0_worstOf_13 : decode cX0_worstOf 13 = .ok (.istore 5, 2) := dk_54 5 (dk_at dksX0_worstOf_0 13 rfl rfl)
theorem dX0_worstOf_15 : decode cX0_worstOf 15 = .ok (.aload_n 0, 1) := dk_42 (dk_at dksX0_worstOf_0 15 rfl rfl)
theorem dX0_worstOf_16 : decode cX0_worstOf 16 = .ok (.getfield 42, 3) := dk_180 0 42 (dk_at dksX0_worstOf_0 16 rfl rfl)
theorem dX0_worstOf_19 : decode cX0_worstOf 19 = .ok (.iconst (-1), 1) := dk_2 (dk_at dksX0_worstOf_0 19 rfl rfl)
theorem dX0_worstOf_20 : decode cX0_worstOf 20 = .ok (.invokevirtual 265, 3) := dk_182 1 9 (dk_at dksX0_worstOf_0 20 rfl rfl)
theorem dX0_worstOf_23 : decode cX0_worstOf 23 = .ok (.istore 6, 2) := dk_54 6 (dk_at dksX0_worstOf_1 0 rfl rfl)
theorem dX0_worstOf_25 : decode cX0_worstOf 25 = .ok (.iload 6, 2) := dk_21 6 (dk_at dksX0_worstOf_1 2 rfl rfl)
theorem dX0_worstOf_27 : decode cX0_worstOf 27 = .ok (.iconst (-1), 1) := dk_2 (dk_at dksX0_worstOf_1 4 rfl rfl)
theorem dX0_worstOf_28 : decode cX0_worstOf 28 = .ok (.if_icmp .eq 58, 3) := dk_159 0 58 (dk_at dksX0_worstOf_1 5 rfl rfl)
theorem dX0_worstOf_31 : decode cX0_worstOf 31 = .ok (.iload 5, 2) := dk_21 5 (dk_at dksX0_worstOf_1 8 rfl rfl)
theorem dX0_worstOf_33 : decode cX0_worstOf 33 = .ok (.aload_n 0, 1) := dk_42 (dk_at dksX0_worstOf_1 10 rfl rfl)
theorem dX0_worstOf_34 : decode cX0_worstOf 34 = .ok (.aload_n 1, 1) := dk_43 (dk_at dksX0_worstOf_1 11 rfl rfl)
theorem dX0_worstOf_35 : decode cX0_worstOf 35 = .ok (.iload 6, 2) := dk_21 6 (dk_at dksX0_worstOf_1 12 rfl rfl)
theorem dX0_worstOf_37 : decode cX0_worstOf 37 = .ok (.iconst (-1), 1) := dk_2 (dk_at dksX0_worstOf_1 14 rfl rfl)
theorem dX0_worstOf_38 : decode cX0_worstOf 38 = .ok (.invokevirtual 268, 3) := dk_182 1 12 (dk_at dksX0_worstOf_1 15 rfl rfl)
theorem dX0_worstOf_41 : decode cX0_worstOf 41 = .ok (.ifCond .eq 27, 3) := dk_153 0 27 (dk_at dksX0_worstOf_1 18 rfl rfl)
theorem dX0_worstOf_44 : decode cX0_worstOf 44 = .ok (.aload_n 0, 1) := dk_42 (dk_at dksX0_worstOf_1 21 rfl rfl)
theorem dX0_worstOf_45 : decode cX0_worstOf 45 = .ok (.aload_n 0, 1) := dk_42 (dk_at dksX0_worstOf_1 22 rfl rfl)
theorem dX0_worstOf_46 : decode cX0_worstOf 46 = .ok (.getfield 42, 3) := dk_180 0 42 (dk_at dksX0_worstOf_2 0 rfl rfl)
theorem dX0_worstOf_49 : decode cX0_worstOf 49 = .ok (.getfield 146, 3) := dk_180 0 146 (dk_at dksX0_worstOf_2 3 rfl rfl)
theorem dX0_worstOf_52 : decode cX0_worstOf 52 = .ok (.iload_n 2, 1) := dk_28 (dk_at dksX0_worstOf_2 6 rfl rfl)
theorem dX0_worstOf_53 : decode cX0_worstOf 53 = .ok (.aaload, 1) := dk_50 (dk_at dksX0_worstOf_2 7 rfl rfl)
theorem dX0_worstOf_54 : decode cX0_worstOf 54 = .ok (.iload 6, 2) := dk_21 6 (dk_at dksX0_worstOf_2 8 rfl rfl)
theorem dX0_worstOf_56 : decode cX0_worstOf 56 = .ok (.invokevirtual 253, 3) := dk_182 0 253 (dk_at dksX0_worstOf_2 10 rfl rfl)
theorem dX0_worstOf_59 : decode cX0_worstOf 59 = .ok (.iload 4, 2) := dk_21 4 (dk_at dksX0_worstOf_2 13 rfl rfl)
theorem dX0_worstOf_61 : decode cX0_worstOf 61 = .ok (.if_icmp .ne 7, 3) := dk_160 0 7 (dk_at dksX0_worstOf_2 15 rfl rfl)
theorem dX0_worstOf_64 : decode cX0_worstOf 64 = .ok (.iconst 1, 1) := dk_4 (dk_at dksX0_worstOf_2 18 rfl rfl)
theorem dX0_worstOf_65 : decode cX0_worstOf 65 = .ok (.goto 4, 3) := dk_167 0 4 (dk_at dksX0_worstOf_2 19 rfl rfl)
theorem dX0_worstOf_68 : decode cX0_worstOf 68 = .ok (.iconst 0, 1) := dk_3 (dk_at dksX0_worstOf_2 22 rfl rfl)
theorem dX0_worstOf_69 : decode cX0_worstOf 69 = .ok (.iadd, 1) := dk_96 (dk_at dksX0_worstOf_2 23 rfl rfl)
theorem dX0_worstOf_70 : decode cX0_worstOf 70 = .ok (.istore 5, 2) := dk_54 5 (dk_at dksX0_worstOf_3 0 rfl rfl)
theorem dX0_worstOf_72 : decode cX0_worstOf 72 = .ok (.aload_n 0, 1) := dk_42 (dk_at dksX0_worstOf_3 2 rfl rfl)
theorem dX0_worstOf_73 : decode cX0_worstOf 73 = .ok (.getfield 42, 3) := dk_180 0 42 (dk_at dksX0_worstOf_3 3 rfl rfl)
theorem dX0_worstOf_76 : decode cX0_worstOf 76 = .ok (.iload 6, 2) := dk_21 6 (dk_at dksX0_worstOf_3 6 rfl rfl)
theorem dX0_worstOf_78 : decode cX0_worstOf 78 = .ok (.invokevirtual 265, 3) := dk_182 1 9 (dk_at dksX0_worstOf_3 8 rfl rfl)
theorem dX0_worstOf_81 : decode cX0_worstOf 81 = .ok (.istore 6, 2) := dk_54 6 (dk_at dksX0_worstOf_3 11 rfl rfl)
theorem dX0_worstOf_83 : decode cX0_worstOf 83 = .ok (.goto (-58), 3) := dk_167 255 198 (dk_at dksX0_worstOf_3 13 rfl rfl)
theorem dX0_worstOf_86 : decode cX0_worstOf 86 = .ok (.iload_n 3, 1) := dk_29 (dk_at dksX0_worstOf_3 16 rfl rfl)
theorem dX0_worstOf_87 : decode cX0_worstOf 87 = .ok (.iload 5, 2) := dk_21 5 (dk_at dksX0_worstOf_3 17 rfl rfl)
theorem dX0_worstOf_89 : decode cX0_worstOf 89 = .ok (.invokestatic 280, 3) := dk_184 1 24 (dk_at dksX0_worstOf_3 19 rfl rfl)
theorem dX0_worstOf_92 : decode cX0_worstOf 92 = .ok (.istore_n 3, 1) := dk_62 (dk_at dksX0_worstOf_3 22 rfl rfl)
theorem dX0_worstOf_93 : decode cX0_worstOf 93 = .ok (.iinc 4 1, 3) := dk_132 4 1 (dk_at dksX0_worstOf_4 0 rfl rfl)
theorem dX0_worstOf_96 : decode cX0_worstOf 96 = .ok (.goto (-91), 3) := dk_167 255 165 (dk_at dksX0_worstOf_4 3 rfl rfl)
theorem dX0_worstOf_99 : decode cX0_worstOf 99 = .ok (.iload_n 3, 1) := dk_29 (dk_at dksX0_worstOf_4 6 rfl rfl)
theorem dX0_worstOf_100 : decode cX0_worstOf 100 = .ok (.ireturn, 1) := dk_172 (dk_at dksX0_worstOf_4 7 rfl rfl)
def dkwX0_falseOf_2 : List UInt8 := [167, 255, 224, 28, 172]
abbrev dktX0_falseOf_2 : List UInt8 := dkwX0_falseOf_2 ++ []
def dkwX0_falseOf_1 : List UInt8 := [43, 29, 182, 1, 20, 42, 43, 28, 182, 1, 20, 164, 0, 7, 29, 167, 0, 4, 28, 61, 132, 3, 1]
abbrev dktX0_falseOf_1 : List UInt8 := dkwX0_falseOf_1 ++ dktX0_falseOf_2
def dkwX0_falseOf_0 : List UInt8 := [42, 43, 2, 182, 1, 20, 158, 0, 5, 2, 172, 3, 61, 4, 62, 29, 43, 190, 5, 108, 162, 0, 30, 42]
abbrev dktX0_falseOf_0 : List UInt8 := dkwX0_falseOf_0 ++ dktX0_falseOf_1
theorem dksX0_falseOf_0 : cX0_falseOf.data.toList.drop 0 = dktX0_falseOf_0 := by decide +kernel
theorem dksX0_falseOf_1 : cX0_falseOf.data.toList.drop 24 = dktX0_falseOf_1 := dk_seg dksX0_falseOf_0 24 rfl rfl
theorem dksX0_falseOf_2 : cX0_falseOf.data.toList.drop 47 = dktX0_falseOf_2 := dk_seg dksX0_falseOf_1 23 rfl rfl
theorem dX0_falseOf_0 : decode cX0_falseOf 0 = .ok (.aload_n 0, 1) := dk_42 (dk_at dksX0_falseOf_0 0 rfl rfl)
theorem dX0_falseOf_1 : decode cX0_falseOf 1 = .ok (.aload_n 1, 1) := dk_43 (dk_at dksX0_falseOf_0 1 rfl rfl)
theorem dX0_falseOf_2 : decode cX0_falseOf 2 = .ok (.iconst (-1), 1) := dk_2 (dk_at dksX0_falseOf_0 2 rfl rfl)
theorem dX0_falseOf_3 : decode cX0_falseOf 3 = .ok (.invokevirtual 276, 3) := dk_182 1 20 (dk_at dksX0_falseOf_0 3 rfl rfl)
theorem dX0_falseOf_6 : decode cX0_falseOf 6 = .ok (.ifCond .le 5, 3) := dk_158 0 5 (dk_at dksX0_falseOf_0 6 rfl rfl)
theorem dX0_falseOf_9 : decode cX0_falseOf 9 = .ok (.iconst (-1), 1) := dk_2 (dk_at dksX0_falseOf_0 9 rfl rfl)
theorem dX0_falseOf_10 : decode cX0_falseOf 10 = .ok (.ireturn, 1) := dk_172 (dk_at dksX0_falseOf_0 10 rfl rfl)
theorem dX0_falseOf_11 : decode cX0_falseOf 11 = .ok (.iconst 0, 1) := dk_3 (dk_at dksX0_falseOf_0 11 rfl rfl)
theorem dX0_falseOf_12 : decode cX0_falseOf 12 = .ok (.istore_n 2, 1) := dk_61 (dk_at dksX0_falseOf_0 12 rfl rfl)
theorem dX0_falseOf_13 : decode cX0_falseOf 13 = .ok (.iconst 1, 1) := dk_4 (dk_at dksX0_falseOf_0 13 rfl rfl)
theorem dX0_falseOf_14 : decode cX0_falseOf 14 = .ok (.istore_n 3, 1) := dk_62 (dk_at dksX0_falseOf_0 14 rfl rfl)
theorem dX0_falseOf_15 : decode cX0_falseOf 15 = .ok (.iload_n 3, 1) := dk_29 (dk_at dksX0_falseOf_0 15 rfl rfl)
theorem dX0_falseOf_16 : decode cX0_falseOf 16 = .ok (.aload_n 1, 1) := dk_43 (dk_at dksX0_falseOf_0 16 rfl rfl)
theorem dX0_falseOf_17 : decode cX0_falseOf 17 = .ok (.arraylength, 1) := dk_190 (dk_at dksX0_falseOf_0 17 rfl rfl)
theorem dX0_falseOf_18 : decode cX0_falseOf 18 = .ok (.iconst 2, 1) := dk_5 (dk_at dksX0_falseOf_0 18 rfl rfl)
theorem dX0_falseOf_19 : decode cX0_falseOf 19 = .ok (.idiv, 1) := dk_108 (dk_at dksX0_falseOf_0 19 rfl rfl)
theorem dX0_falseOf_20 : decode cX0_falseOf 20 = .ok (.if_icmp .ge 30, 3) := dk_162 0 30 (dk_at dksX0_falseOf_0 20 rfl rfl)
theorem dX0_falseOf_23 : decode cX0_falseOf 23 = .ok (.aload_n 0, 1) := dk_42 (dk_at dksX0_falseOf_0 23 rfl rfl)
theorem dX0_falseOf_24 : decode cX0_falseOf 24 = .ok (.aload_n 1, 1) := dk_43 (dk_at dksX0_falseOf_1 0 rfl rfl)
theorem dX0_falseOf_25 : decode cX0_falseOf 25 = .ok (.iload_n 3, 1) := dk_29 (dk_at dksX0_falseOf_1 1 rfl rfl)
theorem dX0_falseOf_26 : decode cX0_falseOf 26 = .ok (.invokevirtual 276, 3) := dk_182 1 20 (dk_at dksX0_falseOf_1 2 rfl rfl)
theorem dX0_falseOf_29 : decode cX0_falseOf 29 = .ok (.aload_n 0, 1) := dk_42 (dk_at dksX0_falseOf_1 5 rfl rfl)
theorem dX0_falseOf_30 : decode cX0_falseOf 30 = .ok (.aload_n 1, 1) := dk_43 (dk_at dksX0_falseOf_1 6 rfl rfl)
theorem dX0_falseOf_31 : decode cX0_falseOf 31 = .ok (.iload_n 2, 1) := dk_28 (dk_at dksX0_falseOf_1 7 rfl rfl)
theorem dX0_falseOf_32 : decode cX0_falseOf 32 = .ok (.invokevirtual 276, 3) := dk_182 1 20 (dk_at dksX0_falseOf_1 8 rfl rfl)
theorem dX0_falseOf_35 : decode cX0_falseOf 35 = .ok (.if_icmp .le 7, 3) := dk_164 0 7 (dk_at dksX0_falseOf_1 11 rfl rfl)
theorem dX0_falseOf_38 : decode cX0_falseOf 38 = .ok (.iload_n 3, 1) := dk_29 (dk_at dksX0_falseOf_1 14 rfl rfl)
theorem dX0_falseOf_39 : decode cX0_falseOf 39 = .ok (.goto 4, 3) := dk_167 0 4 (dk_at dksX0_falseOf_1 15 rfl rfl)
theorem dX0_falseOf_42 : decode cX0_falseOf 42 = .ok (.iload_n 2, 1) := dk_28 (dk_at dksX0_falseOf_1 18 rfl rfl)
theorem dX0_falseOf_43 : decode cX0_falseOf 43 = .ok (.istore_n 2, 1) := dk_61 (dk_at dksX0_falseOf_1 19 rfl rfl)
theorem dX0_falseOf_44 : decode cX0_falseOf 44 = .ok (.iinc 3 1, 3) := dk_132 3 1 (dk_at dksX0_falseOf_1 20 rfl rfl)
theorem dX0_falseOf_47 : decode cX0_falseOf 47 = .ok (.goto (-32), 3) := dk_167 255 224 (dk_at dksX0_falseOf_2 0 rfl rfl)
theorem dX0_falseOf_50 : decode cX0_falseOf 50 = .ok (.iload_n 2, 1) := dk_28 (dk_at dksX0_falseOf_2 3 rfl rfl)
theorem dX0_falseOf_51 : decode cX0_falseOf 51 = .ok (.ireturn, 1) := dk_172 (dk_at dksX0_falseOf_2 4 rfl rfl)
def dkwX0_armed_3 : List UInt8 := [167, 0, 4, 3, 128, 62, 132, 4, 1, 167, 255, 211, 29, 172]
abbrev dktX0_armed_3 : List UInt8 := dkwX0_armed_3 ++ []
def dkwX0_armed_2 : List UInt8 := [42, 42, 180, 0, 42, 180, 0, 146, 21, 4, 50, 27, 182, 0, 253, 28, 160, 0, 10, 4, 21, 4, 120]
abbrev dktX0_armed_2 : List UInt8 := dkwX0_armed_2 ++ dktX0_armed_3
def dkwX0_armed_1 : List UInt8 := [16, 254, 182, 0, 91, 172, 3, 62, 3, 54, 4, 21, 4, 42, 180, 0, 42, 180, 0, 186, 162, 0, 39, 29]
abbrev dktX0_armed_1 : List UInt8 := dkwX0_armed_1 ++ dktX0_armed_2
def dkwX0_armed_0 : List UInt8 := [42, 180, 0, 42, 27, 133, 182, 0, 170, 153, 0, 13, 28, 2, 16, 8, 184, 0, 71, 154, 0, 10, 42]
abbrev dktX0_armed_0 : List UInt8 := dkwX0_armed_0 ++ dktX0_armed_1
theorem dksX0_armed_0 : cX0_armed.data.toList.drop 0 = dktX0_armed_0 := by decide +kernel
theorem dksX0_armed_1 : cX0_armed.data.toList.drop 23 = dktX0_armed_1 := dk_seg dksX0_armed_0 23 rfl rfl
theorem dksX0_armed_2 : cX0_armed.data.toList.drop 47 = dktX0_armed_2 := dk_seg dksX0_armed_1 24 rfl rfl
theorem dksX0_armed_3 : cX0_armed.data.toList.drop 70 = dktX0_armed_3 := dk_seg dksX0_armed_2 23 rfl rfl
theorem dX0_armed_0 : decode cX0_armed 0 = .ok (.aload_n 0, 1) := dk_42 (dk_at dksX0_armed_0 0 rfl rfl)
theorem dX0_armed_1 : decode cX0_armed 1 = .ok (.getfield 42, 3) := dk_180 0 42 (dk_at dksX0_armed_0 1 rfl rfl)
theorem dX0_armed_4 : decode cX0_armed 4 = .ok (.iload_n 1, 1) := dk_27 (dk_at dksX0_armed_0 4 rfl rfl)
theorem dX0_armed_5 : decode cX0_armed 5 = .ok (.i2l, 1) := dk_133 (dk_at dksX0_armed_0 5 rfl rfl)
theorem dX0_armed_6 : decode cX0_armed 6 = .ok (.invokevirtual 170, 3) := dk_182 0 170 (dk_at dksX0_armed_0 6 rfl rfl)
theorem dX0_armed_9 : decode cX0_armed 9 = .ok (.ifCond .eq 13, 3) := dk_153 0 13 (dk_at dksX0_armed_0 9 rfl rfl)
theorem dX0_armed_12 : decode cX0_armed 12 = .ok (.iload_n 2, 1) := dk_28 (dk_at dksX0_armed_0 12 rfl rfl)
theorem dX0_armed_13 : decode cX0_armed 13 = .ok (.iconst (-1), 1) := dk_2 (dk_at dksX0_armed_0 13 rfl rfl)
theorem dX0_armed_14 : decode cX0_armed 14 = .ok (.bipush 8, 2) := dk_16 8 (dk_at dksX0_armed_0 14 rfl rfl)
theorem dX0_armed_16 : decode cX0_armed 16 = .ok (.invokestatic 71, 3) := dk_184 0 71 (dk_at dksX0_armed_0 16 rfl rfl)
theorem dX0_armed_19 : decode cX0_armed 19 = .ok (.ifCond .ne 10, 3) := dk_154 0 10 (dk_at dksX0_armed_0 19 rfl rfl)
theorem dX0_armed_22 : decode cX0_armed 22 = .ok (.aload_n 0, 1) := dk_42 (dk_at dksX0_armed_0 22 rfl rfl)
theorem dX0_armed_23 : decode cX0_armed 23 = .ok (.bipush (-2), 2) := dk_16 254 (dk_at dksX0_armed_1 0 rfl rfl)
theorem dX0_armed_25 : decode cX0_armed 25 = .ok (.invokevirtual 91, 3) := dk_182 0 91 (dk_at dksX0_armed_1 2 rfl rfl)
theorem dX0_armed_28 : decode cX0_armed 28 = .ok (.ireturn, 1) := dk_172 (dk_at dksX0_armed_1 5 rfl rfl)
theorem dX0_armed_29 : decode cX0_armed 29 = .ok (.iconst 0, 1) := dk_3 (dk_at dksX0_armed_1 6 rfl rfl)
theorem dX0_armed_30 : decode cX0_armed 30 = .ok (.istore_n 3, 1) := dk_62 (dk_at dksX0_armed_1 7 rfl rfl)
theorem dX0_armed_31 : decode cX0_armed 31 = .ok (.iconst 0, 1) := dk_3 (dk_at dksX0_armed_1 8 rfl rfl)
theorem dX0_armed_32 : decode cX0_armed 32 = .ok (.istore 4, 2) := dk_54 4 (dk_at dksX0_armed_1 9 rfl rfl)
theorem dX0_armed_34 : decode cX0_armed 34 = .ok (.iload 4, 2) := dk_21 4 (dk_at dksX0_armed_1 11 rfl rfl)
theorem dX0_armed_36 : decode cX0_armed 36 = .ok (.aload_n 0, 1) := dk_42 (dk_at dksX0_armed_1 13 rfl rfl)
theorem dX0_armed_37 : decode cX0_armed 37 = .ok (.getfield 42, 3) := dk_180 0 42 (dk_at dksX0_armed_1 14 rfl rfl)
theorem dX0_armed_40 : decode cX0_armed 40 = .ok (.getfield 186, 3) := dk_180 0 186 (dk_at dksX0_armed_1 17 rfl rfl)
theorem dX0_armed_43 : decode cX0_armed 43 = .ok (.if_icmp .ge 39, 3) := dk_162 0 39 (dk_at dksX0_armed_1 20 rfl rfl)
theorem dX0_armed_46 : decode cX0_armed 46 = .ok (.iload_n 3, 1) := dk_29 (dk_at dksX0_armed_1 23 rfl rfl)
theorem dX0_armed_47 : decode cX0_armed 47 = .ok (.aload_n 0, 1) := dk_42 (dk_at dksX0_armed_2 0 rfl rfl)
theorem dX0_armed_48 : decode cX0_armed 48 = .ok (.aload_n 0, 1) := dk_42 (dk_at dksX0_armed_2 1 rfl rfl)
theorem dX0_armed_49 : decode cX0_armed 49 = .ok (.getfield 42, 3) := dk_180 0 42 (dk_at dksX0_armed_2 2 rfl rfl)
theorem dX0_armed_52 : decode cX0_armed 52 = .ok (.getfield 146, 3) := dk_180 0 146 (dk_at dksX0_armed_2 5 rfl rfl)
theorem dX0_armed_55 : decode cX0_armed 55 = .ok (.iload 4, 2) := dk_21 4 (dk_at dksX0_armed_2 8 rfl rfl)
theorem dX0_armed_57 : decode cX0_armed 57 = .ok (.aaload, 1) := dk_50 (dk_at dksX0_armed_2 10 rfl rfl)
theorem dX0_armed_58 : decode cX0_armed 58 = .ok (.iload_n 1, 1) := dk_27 (dk_at dksX0_armed_2 11 rfl rfl)
theorem dX0_armed_59 : decode cX0_armed 59 = .ok (.invokevirtual 253, 3) := dk_182 0 253 (dk_at dksX0_armed_2 12 rfl rfl)
theorem dX0_armed_62 : decode cX0_armed 62 = .ok (.iload_n 2, 1) := dk_28 (dk_at dksX0_armed_2 15 rfl rfl)
theorem dX0_armed_63 : decode cX0_armed 63 = .ok (.if_icmp .ne 10, 3) := dk_160 0 10 (dk_at dksX0_armed_2 16 rfl rfl)
theorem dX0_armed_66 : decode cX0_armed 66 = .ok (.iconst 1, 1) := dk_4 (dk_at dksX0_armed_2 19 rfl rfl)
theorem dX0_armed_67 : decode cX0_armed 67 = .ok (.iload 4, 2) := dk_21 4 (dk_at dksX0_armed_2 20 rfl rfl)
theorem dX0_armed_69 : decode cX0_armed 69 = .ok (.ishl, 1) := dk_120 (dk_at dksX0_armed_2 22 rfl rfl)
theorem dX0_armed_70 : decode cX0_armed 70 = .ok (.goto 4, 3) := dk_167 0 4 (dk_at dksX0_armed_3 0 rfl rfl)
theorem dX0_armed_73 : decode cX0_armed 73 = .ok (.iconst 0, 1) := dk_3 (dk_at dksX0_armed_3 3 rfl rfl)
theorem dX0_armed_74 : decode cX0_armed 74 = .ok (.ior, 1) := dk_128 (dk_at dksX0_armed_3 4 rfl rfl)
theorem dX0_armed_75 : decode cX0_armed 75 = .ok (.istore_n 3, 1) := dk_62 (dk_at dksX0_armed_3 5 rfl rfl)
theorem dX0_armed_76 : decode cX0_armed 76 = .ok (.iinc 4 1, 3) := dk_132 4 1 (dk_at dksX0_armed_3 6 rfl rfl)
theorem dX0_armed_79 : decode cX0_armed 79 = .ok (.goto (-45), 3) := dk_167 255 211 (dk_at dksX0_armed_3 9 rfl rfl)
theorem dX0_armed_82 : decode cX0_armed 82 = .ok (.iload_n 3, 1) := dk_29 (dk_at dksX0_armed_3 12 rfl rfl)
theorem dX0_armed_83 : decode cX0_armed 83 = .ok (.ireturn, 1) := dk_172 (dk_at dksX0_armed_3 13 rfl rfl)
def dkwX0_alike_1 : List UInt8 := [1, 182, 1, 47, 42, 27, 182, 1, 51, 172]
abbrev dktX0_alike_1 : List UInt8 := dkwX0_alike_1 ++ []
def dkwX0_alike_0 : List UInt8 := [42, 180, 0, 42, 27, 133, 182, 1, 41, 154, 0, 10, 42, 16, 254, 182, 0, 91, 172, 42, 42, 182, 1, 44]
abbrev dktX0_alike_0 : List UInt8 := dkwX0_alike_0 ++ dktX0_alike_1
theorem dksX0_alike_0 : cX0_alike.data.toList.drop 0 = dktX0_alike_0 := by decide +kernel
theorem dksX0_alike_1 : cX0_alike.data.toList.drop 24 = dktX0_alike_1 := dk_seg dksX0_alike_0 24 rfl rfl
theorem dX0_alike_0 : decode cX0_alike 0 = .ok (.aload_n 0, 1) := dk_42 (dk_at dksX0_alike_0 0 rfl rfl)
theorem dX0_alike_1 : decode cX0_alike 1 = .ok (.getfield 42, 3) := dk_180 0 42 (dk_at dksX0_alike_0 1 rfl rfl)
theorem dX0_alike_4 : decode cX0_alike 4 = .ok (.iload_n 1, 1) := dk_27 (dk_at dksX0_alike_0 4 rfl rfl)
theorem dX0_alike_5 : decode cX0_alike 5 = .ok (.i2l, 1) := dk_133 (dk_at dksX0_alike_0 5 rfl rfl)
theorem dX0_alike_6 : decode cX0_alike 6 = .ok (.invokevirtual 297, 3) := dk_182 1 41 (dk_at dksX0_alike_0 6 rfl rfl)
theorem dX0_alike_9 : decode cX0_alike 9 = .ok (.ifCond .ne 10, 3) := dk_154 0 10 (dk_at dksX0_alike_0 9 rfl rfl)
theorem dX0_alike_12 : decode cX0_alike 12 = .ok (.aload_n 0, 1) := dk_42 (dk_at dksX0_alike_0 12 rfl rfl)
theorem dX0_alike_13 : decode cX0_alike 13 = .ok (.bipush (-2), 2) := dk_16 254 (dk_at dksX0_alike_0 13 rfl rfl)
theorem dX0_alike_15 : decode cX0_alike 15 = .ok (.invokevirtual 91, 3) := dk_182 0 91 (dk_at dksX0_alike_0 15 rfl rfl)
theorem dX0_alike_18 : decode cX0_alike 18 = .ok (.ireturn, 1) := dk_172 (dk_at dksX0_alike_0 18 rfl rfl)
theorem dX0_alike_19 : decode cX0_alike 19 = .ok (.aload_n 0, 1) := dk_42 (dk_at dksX0_alike_0 19 rfl rfl)
theorem dX0_alike_20 : decode cX0_alike 20 = .ok (.aload_n 0, 1) := dk_42 (dk_at dksX0_alike_0 20 rfl rfl)
theorem dX0_alike_21 : decode cX0_alike 21 = .ok (.invokevirtual 300, 3) := dk_182 1 44 (dk_at dksX0_alike_0 21 rfl rfl)
theorem dX0_alike_24 : decode cX0_alike 24 = .ok (.aconst_null, 1) := dk_1 (dk_at dksX0_alike_1 0 rfl rfl)
theorem dX0_alike_25 : decode cX0_alike 25 = .ok (.invokevirtual 303, 3) := dk_182 1 47 (dk_at dksX0_alike_1 1 rfl rfl)
theorem dX0_alike_28 : decode cX0_alike 28 = .ok (.aload_n 0, 1) := dk_42 (dk_at dksX0_alike_1 4 rfl rfl)
theorem dX0_alike_29 : decode cX0_alike 29 = .ok (.iload_n 1, 1) := dk_27 (dk_at dksX0_alike_1 5 rfl rfl)
theorem dX0_alike_30 : decode cX0_alike 30 = .ok (.invokevirtual 307, 3) := dk_182 1 51 (dk_at dksX0_alike_1 6 rfl rfl)
theorem dX0_alike_33 : decode cX0_alike 33 = .ok (.ireturn, 1) := dk_172 (dk_at dksX0_alike_1 9 rfl rfl)
def dkwX0_allPosts_0 : List UInt8 := [4, 42, 180, 0, 42, 180, 0, 186, 120, 4, 100, 172]
abbrev dktX0_allPosts_0 : List UInt8 := dkwX0_allPosts_0 ++ []
theorem dksX0_allPosts_0 : cX0_allPosts.data.toList.drop 0 = dktX0_allPosts_0 := by decide +kernel
theorem dX0_allPosts_0 : decode cX0_allPosts 0 = .ok (.iconst 1, 1) := dk_4 (dk_at dksX0_allPosts_0 0 rfl rfl)
theorem dX0_allPosts_1 : decode cX0_allPosts 1 = .ok (.aload_n 0, 1) := dk_42 (dk_at dksX0_allPosts_0 1 rfl rfl)
theorem dX0_allPosts_2 : decode cX0_allPosts 2 = .ok (.getfield 42, 3) := dk_180 0 42 (dk_at dksX0_allPosts_0 2 rfl rfl)
theorem dX0_allPosts_5 : decode cX0_allPosts 5 = .ok (.getfield 186, 3) := dk_180 0 186 (dk_at dksX0_allPosts_0 5 rfl rfl)
theorem dX0_allPosts_8 : decode cX0_allPosts 8 = .ok (.ishl, 1) := dk_120 (dk_at dksX0_allPosts_0 8 rfl rfl)
theorem dX0_allPosts_9 : decode cX0_allPosts 9 = .ok (.iconst 1, 1) := dk_4 (dk_at dksX0_allPosts_0 9 rfl rfl)
theorem dX0_allPosts_10 : decode cX0_allPosts 10 = .ok (.isub, 1) := dk_100 (dk_at dksX0_allPosts_0 10 rfl rfl)
theorem dX0_allPosts_11 : decode cX0_allPosts 11 = .ok (.ireturn, 1) := dk_172 (dk_at dksX0_allPosts_0 11 rfl rfl)
def dkwX0_tells_4 : List UInt8 := [42, 180, 0, 53, 29, 22, 4, 80, 42, 180, 0, 42, 29, 182, 1, 9, 62, 167, 255, 153, 177]
abbrev dktX0_tells_4 : List UInt8 := dkwX0_tells_4 ++ []
def dkwX0_tells_3 : List UInt8 := [21, 6, 50, 29, 182, 0, 253, 133, 97, 10, 97, 167, 0, 5, 22, 4, 55, 4, 132, 6, 1, 167, 255, 200]
abbrev dktX0_tells_3 : List UInt8 := dkwX0_tells_3 ++ dktX0_tells_4
def dkwX0_tells_2 : List UInt8 := [27, 21, 6, 184, 1, 62, 153, 0, 31, 20, 1, 66, 22, 4, 105, 42, 42, 180, 0, 42, 180, 0, 146]
abbrev dktX0_tells_2 : List UInt8 := dkwX0_tells_2 ++ dktX0_tells_3
def dkwX0_tells_1 : List UInt8 := [29, 182, 0, 253, 4, 96, 133, 55, 4, 3, 54, 6, 21, 6, 42, 180, 0, 42, 180, 0, 186, 162, 0, 50]
abbrev dktX0_tells_1 : List UInt8 := dkwX0_tells_1 ++ dktX0_tells_2
def dkwX0_tells_0 : List UInt8 := [42, 180, 0, 42, 2, 182, 1, 9, 62, 29, 2, 159, 0, 104, 44, 199, 0, 7, 9, 167, 0, 12, 42, 44]
abbrev dktX0_tells_0 : List UInt8 := dkwX0_tells_0 ++ dktX0_tells_1
theorem dksX0_tells_0 : cX0_tells.data.toList.drop 0 = dktX0_tells_0 := by decide +kernel
theorem dksX0_tells_1 : cX0_tells.data.toList.drop 24 = dktX0_tells_1 := dk_seg dksX0_tells_0 24 rfl rfl
theorem dksX0_tells_2 : cX0_tells.data.toList.drop 48 = dktX0_tells_2 := dk_seg dksX0_tells_1 24 rfl rfl
theorem dksX0_tells_3 : cX0_tells.data.toList.drop 71 = dktX0_tells_3 := dk_seg dksX0_tells_2 23 rfl rfl
theorem dksX0_tells_4 : cX0_tells.data.toList.drop 95 = dktX0_tells_4 := dk_seg dksX0_tells_3 24 rfl rfl
theorem dX0_tells_0 : decode cX0_tells 0 = .ok (.aload_n 0, 1) := dk_42 (dk_at dksX0_tells_0 0 rfl rfl)
theorem dX0_tells_1 : decode cX0_tells 1 = .ok (.getfield 42, 3) := dk_180 0 42 (dk_at dksX0_tells_0 1 rfl rfl)
theorem dX0_tells_4 : decode cX0_tells 4 = .ok (.iconst (-1), 1) := dk_2 (dk_at dksX0_tells_0 4 rfl rfl)
theorem dX0_tells_5 : decode cX0_tells 5 = .ok (.invokevirtual 265, 3) := dk_182 1 9 (dk_at dksX0_tells_0 5 rfl rfl)
theorem dX0_tells_8 : decode cX0_tells 8 = .ok (.istore_n 3, 1) := dk_62 (dk_at dksX0_tells_0 8 rfl rfl)
theorem dX0_tells_9 : decode cX0_tells 9 = .ok (.iload_n 3, 1) := dk_29 (dk_at dksX0_tells_0 9 rfl rfl)
theorem dX0_tells_10 : decode cX0_tells 10 = .ok (.iconst (-1), 1) := dk_2 (dk_at dksX0_tells_0 10 rfl rfl)
theorem dX0_tells_11 : decode cX0_tells 11 = .ok (.if_icmp .eq 104, 3) := dk_159 0 104 (dk_at dksX0_tells_0 11 rfl rfl)
theorem dX0_tells_14 : decode cX0_tells 14 = .ok (.aload_n 2, 1) := dk_44 (dk_at dksX0_tells_0 14 rfl rfl)
theorem dX0_tells_15 : decode cX0_tells 15 = .ok (.ifnonnull 7, 3) := dk_199 0 7 (dk_at dksX0_tells_0 15 rfl rfl)
theorem dX0_tells_18 : decode cX0_tells 18 = .ok (.lconst 0, 1) := dk_9 (dk_at dksX0_tells_0 18 rfl rfl)
theorem dX0_tells_19 : decode cX0_tells 19 = .ok (.goto 12, 3) := dk_167 0 12 (dk_at dksX0_tells_0 19 rfl rfl)
theorem dX0_tells_22 : decode cX0_tells 22 = .ok (.aload_n 0, 1) := dk_42 (dk_at dksX0_tells_0 22 rfl rfl)
theorem dX0_tells_23 : decode cX0_tells 23 = .ok (.aload_n 2, 1) := dk_44 (dk_at dksX0_tells_0 23 rfl rfl)
theorem dX0_tells_24 : decode cX0_tells 24 = .ok (.iload_n 3, 1) := dk_29 (dk_at dksX0_tells_1 0 rfl rfl)
theorem dX0_tells_25 : decode cX0_tells 25 = .ok (.invokevirtual 253, 3) := dk_182 0 253 (dk_at dksX0_tells_1 1 rfl rfl)
theorem dX0_tells_28 : decode cX0_tells 28 = .ok (.iconst 1, 1) := dk_4 (dk_at dksX0_tells_1 4 rfl rfl)
theorem dX0_tells_29 : decode cX0_tells 29 = .ok (.iadd, 1) := dk_96 (dk_at dksX0_tells_1 5 rfl rfl)
theorem dX0_tells_30 : decode cX0_tells 30 = .ok (.i2l, 1) := dk_133 (dk_at dksX0_tells_1 6 rfl rfl)
theorem dX0_tells_31 : decode cX0_tells 31 = .ok (.lstore 4, 2) := dk_55 4 (dk_at dksX0_tells_1 7 rfl rfl)
theorem dX0_tells_33 : decode cX0_tells 33 = .ok (.iconst 0, 1) := dk_3 (dk_at dksX0_tells_1 9 rfl rfl)
theorem dX0_tells_34 : decode cX0_tells 34 = .ok (.istore 6, 2) := dk_54 6 (dk_at dksX0_tells_1 10 rfl rfl)
theorem dX0_tells_36 : decode cX0_tells 36 = .ok (.iload 6, 2) := dk_21 6 (dk_at dksX0_tells_1 12 rfl rfl)
theorem dX0_tells_38 : decode cX0_tells 38 = .ok (.aload_n 0, 1) := dk_42 (dk_at dksX0_tells_1 14 rfl rfl)
theorem dX0_tells_39 : decode cX0_tells 39 = .ok (.getfield 42, 3) := dk_180 0 42 (dk_at dksX0_tells_1 15 rfl rfl)
theorem dX0_tells_42 : decode cX0_tells 42 = .ok (.getfield 186, 3) := dk_180 0 186 (dk_at dksX0_tells_1 18 rfl rfl)
theorem dX0_tells_45 : decode cX0_tells 45 = .ok (.if_icmp .ge 50, 3) := dk_162 0 50 (dk_at dksX0_tells_1 21 rfl rfl)
theorem dX0_tells_48 : decode cX0_tells 48 = .ok (.iload_n 1, 1) := dk_27 (dk_at dksX0_tells_2 0 rfl rfl)
theorem dX0_tells_49 : decode cX0_tells 49 = .ok (.iload 6, 2) := dk_21 6 (dk_at dksX0_tells_2 1 rfl rfl)
theorem dX0_tells_51 : decode cX0_tells 51 = .ok (.invokestatic 318, 3) := dk_184 1 62 (dk_at dksX0_tells_2 3 rfl rfl)
theorem dX0_tells_54 : decode cX0_tells 54 = .ok (.ifCond .eq 31, 3) := dk_153 0 31 (dk_at dksX0_tells_2 6 rfl rfl)
theorem dX0_tells_57 : decode cX0_tells 57 = .ok (.ldc2_w 322, 3) := dk_20 1 66 (dk_at dksX0_tells_2 9 rfl rfl)
theorem dX0_tells_60 : decode cX0_tells 60 = .ok (.lload 4, 2) := dk_22 4 (dk_at dksX0_tells_2 12 rfl rfl)
theorem dX0_tells_62 : decode cX0_tells 62 = .ok (.lmul, 1) := dk_105 (dk_at dksX0_tells_2 14 rfl rfl)
theorem dX0_tells_63 : decode cX0_tells 63 = .ok (.aload_n 0, 1) := dk_42 (dk_at dksX0_tells_2 15 rfl rfl)
theorem dX0_tells_64 : decode cX0_tells 64 = .ok (.aload_n 0, 1) := dk_42 (dk_at dksX0_tells_2 16 rfl rfl)
theorem dX0_tells_65 : decode cX0_tells 65 = .ok (.getfield 42, 3) := dk_180 0 42 (dk_at dksX0_tells_2 17 rfl rfl)
theorem dX0_tells_68 : decode cX0_tells 68 = .ok (.getfield 146, 3) := dk_180 0 146 (dk_at dksX0_tells_2 20 rfl rfl)
theorem dX0_tells_71 : decode cX0_tells 71 = .ok (.iload 6, 2) := dk_21 6 (dk_at dksX0_tells_3 0 rfl rfl)
theorem dX0_tells_73 : decode cX0_tells 73 = .ok (.aaload, 1) := dk_50 (dk_at dksX0_tells_3 2 rfl rfl)
theorem dX0_tells_74 : decode cX0_tells 74 = .ok (.iload_n 3, 1) := dk_29 (dk_at dksX0_tells_3 3 rfl rfl)
theorem dX0_tells_75 : decode cX0_tells 75 = .ok (.invokevirtual 253, 3) := dk_182 0 253 (dk_at dksX0_tells_3 4 rfl rfl)
theorem dX0_tells_78 : decode cX0_tells 78 = .ok (.i2l, 1) := dk_133 (dk_at dksX0_tells_3 7 rfl rfl)
theorem dX0_tells_79 : decode cX0_tells 79 = .ok (.ladd, 1) := dk_97 (dk_at dksX0_tells_3 8 rfl rfl)
theorem dX0_tells_80 : decode cX0_tells 80 = .ok (.lconst 1, 1) := dk_10 (dk_at dksX0_tells_3 9 rfl rfl)
theorem dX0_tells_81 : decode cX0_tells 81 = .ok (.ladd, 1) := dk_97 (dk_at dksX0_tells_3 10 rfl rfl)
theorem dX0_tells_82 : decode cX0_tells 82 = .ok (.goto 5, 3) := dk_167 0 5 (dk_at dksX0_tells_3 11 rfl rfl)
theorem dX0_tells_85 : decode cX0_tells 85 = .ok (.lload 4, 2) := dk_22 4 (dk_at dksX0_tells_3 14 rfl rfl)
theorem dX0_tells_87 : decode cX0_tells 87 = .ok (.lstore 4, 2) := dk_55 4 (dk_at dksX0_tells_3 16 rfl rfl)
theorem dX0_tells_89 : decode cX0_tells 89 = .ok (.iinc 6 1, 3) := dk_132 6 1 (dk_at dksX0_tells_3 18 rfl rfl)
theorem dX0_tells_92 : decode cX0_tells 92 = .ok (.goto (-56), 3) := dk_167 255 200 (dk_at dksX0_tells_3 21 rfl rfl)
theorem dX0_tells_95 : decode cX0_tells 95 = .ok (.aload_n 0, 1) := dk_42 (dk_at dksX0_tells_4 0 rfl rfl)
theorem dX0_tells_96 : decode cX0_tells 96 = .ok (.getfield 53, 3) := dk_180 0 53 (dk_at dksX0_tells_4 1 rfl rfl)
theorem dX0_tells_99 : decode cX0_tells 99 = .ok (.iload_n 3, 1) := dk_29 (dk_at dksX0_tells_4 4 rfl rfl)
theorem dX0_tells_100 : decode cX0_tells 100 = .ok (.lload 4, 2) := dk_22 4 (dk_at dksX0_tells_4 5 rfl rfl)
theorem dX0_tells_102 : decode cX0_tells 102 = .ok (.lastore, 1) := dk_80 (dk_at dksX0_tells_4 7 rfl rfl)
theorem dX0_tells_103 : decode cX0_tells 103 = .ok (.aload_n 0, 1) := dk_42 (dk_at dksX0_tells_4 8 rfl rfl)
theorem dX0_tells_104 : decode cX0_tells 104 = .ok (.getfield 42, 3) := dk_180 0 42 (dk_at dksX0_tells_4 9 rfl rfl)
theorem dX0_tells_107 : decode cX0_tells 107 = .ok (.iload_n 3, 1) := dk_29 (dk_at dksX0_tells_4 12 rfl rfl)
theorem dX0_tells_108 : decode cX0_tells 108 = .ok (.invokevirtual 265, 3) := dk_182 1 9 (dk_at dksX0_tells_4 13 rfl rfl)
theorem dX0_tells_111 : decode cX0_tells 111 = .ok (.istore_n 3, 1) := dk_62 (dk_at dksX0_tells_4 16 rfl rfl)
theorem dX0_tells_112 : decode cX0_tells 112 = .ok (.goto (-103), 3) := dk_167 255 153 (dk_at dksX0_tells_4 17 rfl rfl)
theorem dX0_tells_115 : decode cX0_tells 115 = .ok (.return_, 1) := dk_177 (dk_at dksX0_tells_4 20 rfl rfl)
def dkwX0_manyAlike_2 : List UInt8 := [62, 167, 255, 218, 28, 172]
abbrev dktX0_manyAlike_2 : List UInt8 := dkwX0_manyAlike_2 ++ []
def dkwX0_manyAlike_1 : List UInt8 := [180, 0, 53, 27, 47, 148, 154, 0, 7, 4, 167, 0, 4, 3, 96, 61, 42, 180, 0, 42, 29, 182, 1, 9]
abbrev dktX0_manyAlike_1 : List UInt8 := dkwX0_manyAlike_1 ++ dktX0_manyAlike_2
def dkwX0_manyAlike_0 : List UInt8 := [3, 61, 42, 180, 0, 42, 2, 182, 1, 9, 62, 29, 2, 159, 0, 39, 28, 42, 180, 0, 53, 29, 47, 42]
abbrev dktX0_manyAlike_0 : List UInt8 := dkwX0_manyAlike_0 ++ dktX0_manyAlike_1
theorem dksX0_manyAlike_0 : cX0_manyAlike.data.toList.drop 0 = dktX0_manyAlike_0 := by decide +kernel
theorem dksX0_manyAlike_1 : cX0_manyAlike.data.toList.drop 24 = dktX0_manyAlike_1 := dk_seg dksX0_manyAlike_0 24 rfl rfl
theorem dksX0_manyAlike_2 : cX0_manyAlike.data.toList.drop 48 = dktX0_manyAlike_2 := dk_seg dksX0_manyAlike_1 24 rfl rfl
theorem dX0_manyAlike_0 : decode cX0_manyAlike 0 = .ok (.iconst 0, 1) := dk_3 (dk_at dksX0_manyAlike_0 0 rfl rfl)
theorem dX0_manyAlike_1 : decode cX0_manyAlike 1 = .ok (.istore_n 2, 1) := dk_61 (dk_at dksX0_manyAlike_0 1 rfl rfl)
theorem dX0_manyAlike_2 : decode cX0_manyAlike 2 = .ok (.aload_n 0, 1) := dk_42 (dk_at dksX0_manyAlike_0 2 rfl rfl)
theorem dX0_manyAlike_3 : decode cX0_manyAlike 3 = .ok (.getfield 42, 3) := dk_180 0 42 (dk_at dksX0_manyAlike_0 3 rfl rfl)
theorem dX0_manyAlike_6 : decode cX0_manyAlike 6 = .ok (.iconst (-1), 1) := dk_2 (dk_at dksX0_manyAlike_0 6 rfl rfl)
theorem dX0_manyAlike_7 : decode cX0_manyAlike 7 = .ok (.invokevirtual 265, 3) := dk_182 1 9 (dk_at dksX0_manyAlike_0 7 rfl rfl)
theorem dX0_manyAlike_10 : decode cX0_manyAlike 10 = .ok (.istore_n 3, 1) := dk_62 (dk_at dksX0_manyAlike_0 10 rfl rfl)
theorem dX0_manyAlike_11 : decode cX0_manyAlike 11 = .ok (.iload_n 3, 1) := dk_29 (dk_at dksX0_manyAlike_0 11 rfl rfl)
theorem dX0_manyAlike_12 : decode cX0_manyAlike 12 = .ok (.iconst (-1), 1) := dk_2 (dk_at dksX0_manyAlike_0 12 rfl rfl)
theorem dX0_manyAlike_13 : decode cX0_manyAlike 13 = .ok (.if_icmp .eq 39, 3) := dk_159 0 39 (dk_at dksX0_manyAlike_0 13 rfl rfl)
theorem dX0_manyAlike_16 : decode cX0_manyAlike 16 = .ok (.iload_n 2, 1) := dk_28 (dk_at dksX0_manyAlike_0 16 rfl rfl)
theorem dX0_manyAlike_17 : decode cX0_manyAlike 17 = .ok (.aload_n 0, 1) := dk_42 (dk_at dksX0_manyAlike_0 17 rfl rfl)
theorem dX0_manyAlike_18 : decode cX0_manyAlike 18 = .ok (.getfield 53, 3) := dk_180 0 53 (dk_at dksX0_manyAlike_0 18 rfl rfl)
theorem dX0_manyAlike_21 : decode cX0_manyAlike 21 = .ok (.iload_n 3, 1) := dk_29 (dk_at dksX0_manyAlike_0 21 rfl rfl)
theorem dX0_manyAlike_22 : decode cX0_manyAlike 22 = .ok (.laload, 1) := dk_47 (dk_at dksX0_manyAlike_0 22 rfl rfl)
theorem dX0_manyAlike_23 : decode cX0_manyAlike 23 = .ok (.aload_n 0, 1) := dk_42 (dk_at dksX0_manyAlike_0 23 rfl rfl)
theorem dX0_manyAlike_24 : decode cX0_manyAlike 24 = .ok (.getfield 53, 3) := dk_180 0 53 (dk_at dksX0_manyAlike_1 0 rfl rfl)
theorem dX0_manyAlike_27 : decode cX0_manyAlike 27 = .ok (.iload_n 1, 1) := dk_27 (dk_at dksX0_manyAlike_1 3 rfl rfl)
theorem dX0_manyAlike_28 : decode cX0_manyAlike 28 = .ok (.laload, 1) := dk_47 (dk_at dksX0_manyAlike_1 4 rfl rfl)
theorem dX0_manyAlike_29 : decode cX0_manyAlike 29 = .ok (.lcmp, 1) := dk_148 (dk_at dksX0_manyAlike_1 5 rfl rfl)
theorem dX0_manyAlike_30 : decode cX0_manyAlike 30 = .ok (.ifCond .ne 7, 3) := dk_154 0 7 (dk_at dksX0_manyAlike_1 6 rfl rfl)
theorem dX0_manyAlike_33 : decode cX0_manyAlike 33 = .ok (.iconst 1, 1) := dk_4 (dk_at dksX0_manyAlike_1 9 rfl rfl)
theorem dX0_manyAlike_34 : decode cX0_manyAlike 34 = .ok (.goto 4, 3) := dk_167 0 4 (dk_at dksX0_manyAlike_1 10 rfl rfl)
theorem dX0_manyAlike_37 : decode cX0_manyAlike 37 = .ok (.iconst 0, 1) := dk_3 (dk_at dksX0_manyAlike_1 13 rfl rfl)
theorem dX0_manyAlike_38 : decode cX0_manyAlike 38 = .ok (.iadd, 1) := dk_96 (dk_at dksX0_manyAlike_1 14 rfl rfl)
theorem dX0_manyAlike_39 : decode cX0_manyAlike 39 = .ok (.istore_n 2, 1) := dk_61 (dk_at dksX0_manyAlike_1 15 rfl rfl)
theorem dX0_manyAlike_40 : decode cX0_manyAlike 40 = .ok (.aload_n 0, 1) := dk_42 (dk_at dksX0_manyAlike_1 16 rfl rfl)
theorem dX0_manyAlike_41 : decode cX0_manyAlike 41 = .ok (.getfield 42, 3) := dk_180 0 42 (dk_at dksX0_manyAlike_1 17 rfl rfl)
theorem dX0_manyAlike_44 : decode cX0_manyAlike 44 = .ok (.iload_n 3, 1) := dk_29 (dk_at dksX0_manyAlike_1 20 rfl rfl)
theorem dX0_manyAlike_45 : decode cX0_manyAlike 45 = .ok (.invokevirtual 265, 3) := dk_182 1 9 (dk_at dksX0_manyAlike_1 21 rfl rfl)
theorem dX0_manyAlike_48 : decode cX0_manyAlike 48 = .ok (.istore_n 3, 1) := dk_62 (dk_at dksX0_manyAlike_2 0 rfl rfl)
theorem dX0_manyAlike_49 : decode cX0_manyAlike 49 = .ok (.goto (-38), 3) := dk_167 255 218 (dk_at dksX0_manyAlike_2 1 rfl rfl)
theorem dX0_manyAlike_52 : decode cX0_manyAlike 52 = .ok (.iload_n 2, 1) := dk_28 (dk_at dksX0_manyAlike_2 4 rfl rfl)
theorem dX0_manyAlike_53 : decode cX0_manyAlike 53 = .ok (.ireturn, 1) := dk_172 (dk_at dksX0_manyAlike_2 5 rfl rfl)
def dkwX0_right_3 : List UInt8 := [167, 0, 4, 3, 96, 61, 42, 180, 0, 42, 29, 182, 1, 9, 62, 167, 255, 201, 28, 172]
abbrev dktX0_right_3 : List UInt8 := dkwX0_right_3 ++ []
def dkwX0_right_2 : List UInt8 := [29, 182, 0, 253, 42, 180, 0, 42, 180, 0, 146, 27, 50, 180, 0, 236, 29, 184, 0, 247, 160, 0, 7, 4]
abbrev dktX0_right_2 : List UInt8 := dkwX0_right_2 ++ dktX0_right_3
def dkwX0_right_1 : List UInt8 := [180, 0, 42, 2, 182, 1, 9, 62, 29, 2, 159, 0, 56, 28, 42, 42, 180, 0, 42, 180, 0, 146, 27, 50]
abbrev dktX0_right_1 : List UInt8 := dkwX0_right_1 ++ dktX0_right_2
def dkwX0_right_0 : List UInt8 := [42, 180, 0, 42, 27, 133, 182, 0, 142, 154, 0, 10, 42, 16, 254, 182, 0, 91, 172, 3, 61, 42]
abbrev dktX0_right_0 : List UInt8 := dkwX0_right_0 ++ dktX0_right_1
theorem dksX0_right_0 : cX0_right.data.toList.drop 0 = dktX0_right_0 := by decide +kernel
theorem dksX0_right_1 : cX0_right.data.toList.drop 22 = dktX0_right_1 := dk_seg dksX0_right_0 22 rfl rfl
theorem dksX0_right_2 : cX0_right.data.toList.drop 46 = dktX0_right_2 := dk_seg dksX0_right_1 24 rfl rfl
theorem dksX0_right_3 : cX0_right.data.toList.drop 70 = dktX0_right_3 := dk_seg dksX0_right_2 24 rfl rfl
theorem dX0_right_0 : decode cX0_right 0 = .ok (.aload_n 0, 1) := dk_42 (dk_at dksX0_right_0 0 rfl rfl)
theorem dX0_right_1 : decode cX0_right 1 = .ok (.getfield 42, 3) := dk_180 0 42 (dk_at dksX0_right_0 1 rfl rfl)
theorem dX0_right_4 : decode cX0_right 4 = .ok (.iload_n 1, 1) := dk_27 (dk_at dksX0_right_0 4 rfl rfl)
theorem dX0_right_5 : decode cX0_right 5 = .ok (.i2l, 1) := dk_133 (dk_at dksX0_right_0 5 rfl rfl)
theorem dX0_right_6 : decode cX0_right 6 = .ok (.invokevirtual 142, 3) := dk_182 0 142 (dk_at dksX0_right_0 6 rfl rfl)
theorem dX0_right_9 : decode cX0_right 9 = .ok (.ifCond .ne 10, 3) := dk_154 0 10 (dk_at dksX0_right_0 9 rfl rfl)
theorem dX0_right_12 : decode cX0_right 12 = .ok (.aload_n 0, 1) := dk_42 (dk_at dksX0_right_0 12 rfl rfl)
theorem dX0_right_13 : decode cX0_right 13 = .ok (.bipush (-2), 2) := dk_16 254 (dk_at dksX0_right_0 13 rfl rfl)
theorem dX0_right_15 : decode cX0_right 15 = .ok (.invokevirtual 91, 3) := dk_182 0 91 (dk_at dksX0_right_0 15 rfl rfl)
theorem dX0_right_18 : decode cX0_right 18 = .ok (.ireturn, 1) := dk_172 (dk_at dksX0_right_0 18 rfl rfl)
theorem dX0_right_19 : decode cX0_right 19 = .ok (.iconst 0, 1) := dk_3 (dk_at dksX0_right_0 19 rfl rfl)
theorem dX0_right_20 : decode cX0_right 20 = .ok (.istore_n 2, 1) := dk_61 (dk_at dksX0_right_0 20 rfl rfl)
theorem dX0_right_21 : decode cX0_right 21 = .ok (.aload_n 0, 1) := dk_42 (dk_at dksX0_right_0 21 rfl rfl)
theorem dX0_right_22 : decode cX0_right 22 = .ok (.getfield 42, 3) := dk_180 0 42 (dk_at dksX0_right_1 0 rfl rfl)
theorem dX0_right_25 : decode cX0_right 25 = .ok (.iconst (-1), 1) := dk_2 (dk_at dksX0_right_1 3 rfl rfl)
theorem dX0_right_26 : decode cX0_right 26 = .ok (.invokevirtual 265, 3) := dk_182 1 9 (dk_at dksX0_right_1 4 rfl rfl)
theorem dX0_right_29 : decode cX0_right 29 = .ok (.istore_n 3, 1) := dk_62 (dk_at dksX0_right_1 7 rfl rfl)
theorem dX0_right_30 : decode cX0_right 30 = .ok (.iload_n 3, 1) := dk_29 (dk_at dksX0_right_1 8 rfl rfl)
theorem dX0_right_31 : decode cX0_right 31 = .ok (.iconst (-1), 1) := dk_2 (dk_at dksX0_right_1 9 rfl rfl)
theorem dX0_right_32 : decode cX0_right 32 = .ok (.if_icmp .eq 56, 3) := dk_159 0 56 (dk_at dksX0_right_1 10 rfl rfl)
theorem dX0_right_35 : decode cX0_right 35 = .ok (.iload_n 2, 1) := dk_28 (dk_at dksX0_right_1 13 rfl rfl)
theorem dX0_right_36 : decode cX0_right 36 = .ok (.aload_n 0, 1) := dk_42 (dk_at dksX0_right_1 14 rfl rfl)
theorem dX0_right_37 : decode cX0_right 37 = .ok (.aload_n 0, 1) := dk_42 (dk_at dksX0_right_1 15 rfl rfl)
theorem dX0_right_38 : decode cX0_right 38 = .ok (.getfield 42, 3) := dk_180 0 42 (dk_at dksX0_right_1 16 rfl rfl)
theorem dX0_right_41 : decode cX0_right 41 = .ok (.getfield 146, 3) := dk_180 0 146 (dk_at dksX0_right_1 19 rfl rfl)
theorem dX0_right_44 : decode cX0_right 44 = .ok (.iload_n 1, 1) := dk_27 (dk_at dksX0_right_1 22 rfl rfl)
theorem dX0_right_45 : decode cX0_right 45 = .ok (.aaload, 1) := dk_50 (dk_at dksX0_right_1 23 rfl rfl)
theorem dX0_right_46 : decode cX0_right 46 = .ok (.iload_n 3, 1) := dk_29 (dk_at dksX0_right_2 0 rfl rfl)
theorem dX0_right_47 : decode cX0_right 47 = .ok (.invokevirtual 253, 3) := dk_182 0 253 (dk_at dksX0_right_2 1 rfl rfl)
theorem dX0_right_50 : decode cX0_right 50 = .ok (.aload_n 0, 1) := dk_42 (dk_at dksX0_right_2 4 rfl rfl)
theorem dX0_right_51 : decode cX0_right 51 = .ok (.getfield 42, 3) := dk_180 0 42 (dk_at dksX0_right_2 5 rfl rfl)
theorem dX0_right_54 : decode cX0_right 54 = .ok (.getfield 146, 3) := dk_180 0 146 (dk_at dksX0_right_2 8 rfl rfl)
theorem dX0_right_57 : decode cX0_right 57 = .ok (.iload_n 1, 1) := dk_27 (dk_at dksX0_right_2 11 rfl rfl)
theorem dX0_right_58 : decode cX0_right 58 = .ok (.aaload, 1) := dk_50 (dk_at dksX0_right_2 12 rfl rfl)
theorem dX0_right_59 : decode cX0_right 59 = .ok (.getfield 236, 3) := dk_180 0 236 (dk_at dksX0_right_2 13 rfl rfl)
theorem dX0_right_62 : decode cX0_right 62 = .ok (.iload_n 3, 1) := dk_29 (dk_at dksX0_right_2 16 rfl rfl)
theorem dX0_right_63 : decode cX0_right 63 = .ok (.invokestatic 247, 3) := dk_184 0 247 (dk_at dksX0_right_2 17 rfl rfl)
theorem dX0_right_66 : decode cX0_right 66 = .ok (.if_icmp .ne 7, 3) := dk_160 0 7 (dk_at dksX0_right_2 20 rfl rfl)
theorem dX0_right_69 : decode cX0_right 69 = .ok (.iconst 1, 1) := dk_4 (dk_at dksX0_right_2 23 rfl rfl)
theorem dX0_right_70 : decode cX0_right 70 = .ok (.goto 4, 3) := dk_167 0 4 (dk_at dksX0_right_3 0 rfl rfl)
theorem dX0_right_73 : decode cX0_right 73 = .ok (.iconst 0, 1) := dk_3 (dk_at dksX0_right_3 3 rfl rfl)
theorem dX0_right_74 : decode cX0_right 74 = .ok (.iadd, 1) := dk_96 (dk_at dksX0_right_3 4 rfl rfl)
theorem dX0_right_75 : decode cX0_right 75 = .ok (.istore_n 2, 1) := dk_61 (dk_at dksX0_right_3 5 rfl rfl)
theorem dX0_right_76 : decode cX0_right 76 = .ok (.aload_n 0, 1) := dk_42 (dk_at dksX0_right_3 6 rfl rfl)
theorem dX0_right_77 : decode cX0_right 77 = .ok (.getfield 42, 3) := dk_180 0 42 (dk_at dksX0_right_3 7 rfl rfl)
theorem dX0_right_80 : decode cX0_right 80 = .ok (.iload_n 3, 1) := dk_29 (dk_at dksX0_right_3 10 rfl rfl)
theorem dX0_right_81 : decode cX0_right 81 = .ok (.invokevirtual 265, 3) := dk_182 1 9 (dk_at dksX0_right_3 11 rfl rfl)
theorem dX0_right_84 : decode cX0_right 84 = .ok (.istore_n 3, 1) := dk_62 (dk_at dksX0_right_3 14 rfl rfl)
theorem dX0_right_85 : decode cX0_right 85 = .ok (.goto (-55), 3) := dk_167 255 201 (dk_at dksX0_right_3 15 rfl rfl)
theorem dX0_right_88 : decode cX0_right 88 = .ok (.iload_n 2, 1) := dk_28 (dk_at dksX0_right_3 18 rfl rfl)
theorem dX0_right_89 : decode cX0_right 89 = .ok (.ireturn, 1) := dk_172 (dk_at dksX0_right_3 19 rfl rfl)
def dkwX0_pointing_3 : List UInt8 := [160, 0, 9, 4, 29, 120, 167, 0, 4, 3, 128, 61, 132, 3, 1, 167, 255, 192, 28, 172]
abbrev dktX0_pointing_3 : List UInt8 := dkwX0_pointing_3 ++ []
def dkwX0_pointing_2 : List UInt8 := [180, 0, 42, 180, 0, 146, 29, 50, 180, 0, 236, 42, 180, 0, 42, 180, 0, 239, 27, 46, 184, 0, 247]
abbrev dktX0_pointing_2 : List UInt8 := dkwX0_pointing_2 ++ dktX0_pointing_3
def dkwX0_pointing_1 : List UInt8 := [180, 0, 42, 180, 0, 186, 162, 0, 59, 28, 42, 42, 180, 0, 42, 180, 0, 146, 29, 50, 182, 0, 161, 42]
abbrev dktX0_pointing_1 : List UInt8 := dkwX0_pointing_1 ++ dktX0_pointing_2
def dkwX0_pointing_0 : List UInt8 := [42, 180, 0, 42, 27, 182, 0, 199, 154, 0, 10, 42, 16, 254, 182, 0, 91, 172, 3, 61, 3, 62, 29, 42]
abbrev dktX0_pointing_0 : List UInt8 := dkwX0_pointing_0 ++ dktX0_pointing_1
theorem dksX0_pointing_0 : cX0_pointing.data.toList.drop 0 = dktX0_pointing_0 := by decide +kernel
theorem dksX0_pointing_1 : cX0_pointing.data.toList.drop 24 = dktX0_pointing_1 := dk_seg dksX0_pointing_0 24 rfl rfl
theorem dksX0_pointing_2 : cX0_pointing.data.toList.drop 48 = dktX0_pointing_2 := dk_seg dksX0_pointing_1 24 rfl rfl
theorem dksX0_pointing_3 : cX0_pointing.data.toList.drop 71 = dktX0_pointing_3 := dk_seg dksX0_pointing_2 23 rfl rfl
theorem dX0_pointing_0 : decode cX0_pointing 0 = .ok (.aload_n 0, 1) := dk_42 (dk_at dksX0_pointing_0 0 rfl rfl)
theorem dX0_pointing_1 : decode cX0_pointing 1 = .ok (.getfield 42, 3) := dk_180 0 42 (dk_at dksX0_pointing_0 1 rfl rfl)
theorem dX0_pointing_4 : decode cX0_pointing 4 = .ok (.iload_n 1, 1) := dk_27 (dk_at dksX0_pointing_0 4 rfl rfl)
theorem dX0_pointing_5 : decode cX0_pointing 5 = .ok (.invokevirtual 199, 3) := dk_182 0 199 (dk_at dksX0_pointing_0 5 rfl rfl)
theorem dX0_pointing_8 : decode cX0_pointing 8 = .ok (.ifCond .ne 10, 3) := dk_154 0 10 (dk_at dksX0_pointing_0 8 rfl rfl)
theorem dX0_pointing_11 : decode cX0_pointing 11 = .ok (.aload_n 0, 1) := dk_42 (dk_at dksX0_pointing_0 11 rfl rfl)
theorem dX0_pointing_12 : decode cX0_pointing 12 = .ok (.bipush (-2), 2) := dk_16 254 (dk_at dksX0_pointing_0 12 rfl rfl)
theorem dX0_pointing_14 : decode cX0_pointing 14 = .ok (.invokevirtual 91, 3) := dk_182 0 91 (dk_at dksX0_pointing_0 14 rfl rfl)
theorem dX0_pointing_17 : decode cX0_pointing 17 = .ok (.ireturn, 1) := dk_172 (dk_at dksX0_pointing_0 17 rfl rfl)
theorem dX0_pointing_18 : decode cX0_pointing 18 = .ok (.iconst 0, 1) := dk_3 (dk_at dksX0_pointing_0 18 rfl rfl)
theorem dX0_pointing_19 : decode cX0_pointing 19 = .ok (.istore_n 2, 1) := dk_61 (dk_at dksX0_pointing_0 19 rfl rfl)
theorem dX0_pointing_20 : decode cX0_pointing 20 = .ok (.iconst 0, 1) := dk_3 (dk_at dksX0_pointing_0 20 rfl rfl)
theorem dX0_pointing_21 : decode cX0_pointing 21 = .ok (.istore_n 3, 1) := dk_62 (dk_at dksX0_pointing_0 21 rfl rfl)
theorem dX0_pointing_22 : decode cX0_pointing 22 = .ok (.iload_n 3, 1) := dk_29 (dk_at dksX0_pointing_0 22 rfl rfl)
theorem dX0_pointing_23 : decode cX0_pointing 23 = .ok (.aload_n 0, 1) := dk_42 (dk_at dksX0_pointing_0 23 rfl rfl)
theorem dX0_pointing_24 : decode cX0_pointing 24 = .ok (.getfield 42, 3) := dk_180 0 42 (dk_at dksX0_pointing_1 0 rfl rfl)
theorem dX0_pointing_27 : decode cX0_pointing 27 = .ok (.getfield 186, 3) := dk_180 0 186 (dk_at dksX0_pointing_1 3 rfl rfl)
theorem dX0_pointing_30 : decode cX0_pointing 30 = .ok (.if_icmp .ge 59, 3) := dk_162 0 59 (dk_at dksX0_pointing_1 6 rfl rfl)
theorem dX0_pointing_33 : decode cX0_pointing 33 = .ok (.iload_n 2, 1) := dk_28 (dk_at dksX0_pointing_1 9 rfl rfl)
theorem dX0_pointing_34 : decode cX0_pointing 34 = .ok (.aload_n 0, 1) := dk_42 (dk_at dksX0_pointing_1 10 rfl rfl)
theorem dX0_pointing_35 : decode cX0_pointing 35 = .ok (.aload_n 0, 1) := dk_42 (dk_at dksX0_pointing_1 11 rfl rfl)
theorem dX0_pointing_36 : decode cX0_pointing 36 = .ok (.getfield 42, 3) := dk_180 0 42 (dk_at dksX0_pointing_1 12 rfl rfl)
theorem dX0_pointing_39 : decode cX0_pointing 39 = .ok (.getfield 146, 3) := dk_180 0 146 (dk_at dksX0_pointing_1 15 rfl rfl)
theorem dX0_pointing_42 : decode cX0_pointing 42 = .ok (.iload_n 3, 1) := dk_29 (dk_at dksX0_pointing_1 18 rfl rfl)
theorem dX0_pointing_43 : decode cX0_pointing 43 = .ok (.aaload, 1) := dk_50 (dk_at dksX0_pointing_1 19 rfl rfl)
theorem dX0_pointing_44 : decode cX0_pointing 44 = .ok (.invokevirtual 161, 3) := dk_182 0 161 (dk_at dksX0_pointing_1 20 rfl rfl)
theorem dX0_pointing_47 : decode cX0_pointing 47 = .ok (.aload_n 0, 1) := dk_42 (dk_at dksX0_pointing_1 23 rfl rfl)
theorem dX0_pointing_48 : decode cX0_pointing 48 = .ok (.getfield 42, 3) := dk_180 0 42 (dk_at dksX0_pointing_2 0 rfl rfl)
theorem dX0_pointing_51 : decode cX0_pointing 51 = .ok (.getfield 146, 3) := dk_180 0 146 (dk_at dksX0_pointing_2 3 rfl rfl)
theorem dX0_pointing_54 : decode cX0_pointing 54 = .ok (.iload_n 3, 1) := dk_29 (dk_at dksX0_pointing_2 6 rfl rfl)
theorem dX0_pointing_55 : decode cX0_pointing 55 = .ok (.aaload, 1) := dk_50 (dk_at dksX0_pointing_2 7 rfl rfl)
theorem dX0_pointing_56 : decode cX0_pointing 56 = .ok (.getfield 236, 3) := dk_180 0 236 (dk_at dksX0_pointing_2 8 rfl rfl)
theorem dX0_pointing_59 : decode cX0_pointing 59 = .ok (.aload_n 0, 1) := dk_42 (dk_at dksX0_pointing_2 11 rfl rfl)
theorem dX0_pointing_60 : decode cX0_pointing 60 = .ok (.getfield 42, 3) := dk_180 0 42 (dk_at dksX0_pointing_2 12 rfl rfl)
theorem dX0_pointing_63 : decode cX0_pointing 63 = .ok (.getfield 239, 3) := dk_180 0 239 (dk_at dksX0_pointing_2 15 rfl rfl)
theorem dX0_pointing_66 : decode cX0_pointing 66 = .ok (.iload_n 1, 1) := dk_27 (dk_at dksX0_pointing_2 18 rfl rfl)
theorem dX0_pointing_67 : decode cX0_pointing 67 = .ok (.iaload, 1) := dk_46 (dk_at dksX0_pointing_2 19 rfl rfl)
theorem dX0_pointing_68 : decode cX0_pointing 68 = .ok (.invokestatic 247, 3) := dk_184 0 247 (dk_at dksX0_pointing_2 20 rfl rfl)
theorem dX0_pointing_71 : decode cX0_pointing 71 = .ok (.if_icmp .ne 9, 3) := dk_160 0 9 (dk_at dksX0_pointing_3 0 rfl rfl)
theorem dX0_pointing_74 : decode cX0_pointing 74 = .ok (.iconst 1, 1) := dk_4 (dk_at dksX0_pointing_3 3 rfl rfl)
theorem dX0_pointing_75 : decode cX0_pointing 75 = .ok (.iload_n 3, 1) := dk_29 (dk_at dksX0_pointing_3 4 rfl rfl)
theorem dX0_pointing_76 : decode cX0_pointing 76 = .ok (.ishl, 1) := dk_120 (dk_at dksX0_pointing_3 5 rfl rfl)
theorem dX0_pointing_77 : decode cX0_pointing 77 = .ok (.goto 4, 3) := dk_167 0 4 (dk_at dksX0_pointing_3 6 rfl rfl)
theorem dX0_pointing_80 : decode cX0_pointing 80 = .ok (.iconst 0, 1) := dk_3 (dk_at dksX0_pointing_3 9 rfl rfl)
theorem dX0_pointing_81 : decode cX0_pointing 81 = .ok (.ior, 1) := dk_128 (dk_at dksX0_pointing_3 10 rfl rfl)
theorem dX0_pointing_82 : decode cX0_pointing 82 = .ok (.istore_n 2, 1) := dk_61 (dk_at dksX0_pointing_3 11 rfl rfl)
theorem dX0_pointing_83 : decode cX0_pointing 83 = .ok (.iinc 3 1, 3) := dk_132 3 1 (dk_at dksX0_pointing_3 12 rfl rfl)
theorem dX0_pointing_86 : decode cX0_pointing 86 = .ok (.goto (-64), 3) := dk_167 255 192 (dk_at dksX0_pointing_3 15 rfl rfl)
theorem dX0_pointing_89 : decode cX0_pointing 89 = .ok (.iload_n 2, 1) := dk_28 (dk_at dksX0_pointing_3 18 rfl rfl)
theorem dX0_pointing_90 : decode cX0_pointing 90 = .ok (.ireturn, 1) := dk_172 (dk_at dksX0_pointing_3 19 rfl rfl)
def dkwX0_trembling_2 : List UInt8 := [27, 172]
abbrev dktX0_trembling_2 : List UInt8 := dkwX0_trembling_2 ++ []
def dkwX0_trembling_1 : List UInt8 := [28, 50, 182, 0, 161, 2, 160, 0, 9, 4, 28, 120, 167, 0, 4, 3, 128, 60, 132, 2, 1, 167, 255, 215]
abbrev dktX0_trembling_1 : List UInt8 := dkwX0_trembling_1 ++ dktX0_trembling_2
def dkwX0_trembling_0 : List UInt8 := [3, 60, 3, 61, 28, 42, 180, 0, 42, 180, 0, 186, 162, 0, 36, 27, 42, 42, 180, 0, 42, 180, 0, 146]
abbrev dktX0_trembling_0 : List UInt8 := dkwX0_trembling_0 ++ dktX0_trembling_1
theorem dksX0_trembling_0 : cX0_trembling.data.toList.drop 0 = dktX0_trembling_0 := by decide +kernel
theorem dksX0_trembling_1 : cX0_trembling.data.toList.drop 24 = dktX0_trembling_1 := dk_seg dksX0_trembling_0 24 rfl rfl
theorem dksX0_trembling_2 : cX0_trembling.data.toList.drop 48 = dktX0_trembling_2 := dk_seg dksX0_trembling_1 24 rfl rfl
theorem dX0_trembling_0 : decode cX0_trembling 0 = .ok (.iconst 0, 1) := dk_3 (dk_at dksX0_trembling_0 0 rfl rfl)
theorem dX0_trembling_1 : decode cX0_trembling 1 = .ok (.istore_n 1, 1) := dk_60 (dk_at dksX0_trembling_0 1 rfl rfl)
theorem dX0_trembling_2 : decode cX0_trembling 2 = .ok (.iconst 0, 1) := dk_3 (dk_at dksX0_trembling_0 2 rfl rfl)
theorem dX0_trembling_3 : decode cX0_trembling 3 = .ok (.istore_n 2, 1) := dk_61 (dk_at dksX0_trembling_0 3 rfl rfl)
theorem dX0_trembling_4 : decode cX0_trembling 4 = .ok (.iload_n 2, 1) := dk_28 (dk_at dksX0_trembling_0 4 rfl rfl)
theorem dX0_trembling_5 : decode cX0_trembling 5 = .ok (.aload_n 0, 1) := dk_42 (dk_at dksX0_trembling_0 5 rfl rfl)
theorem dX0_trembling_6 : decode cX0_trembling 6 = .ok (.getfield 42, 3) := dk_180 0 42 (dk_at dksX0_trembling_0 6 rfl rfl)
theorem dX0_trembling_9 : decode cX0_trembling 9 = .ok (.getfield 186, 3) := dk_180 0 186 (dk_at dksX0_trembling_0 9 rfl rfl)
theorem dX0_trembling_12 : decode cX0_trembling 12 = .ok (.if_icmp .ge 36, 3) := dk_162 0 36 (dk_at dksX0_trembling_0 12 rfl rfl)
theorem dX0_trembling_15 : decode cX0_trembling 15 = .ok (.iload_n 1, 1) := dk_27 (dk_at dksX0_trembling_0 15 rfl rfl)
theorem dX0_trembling_16 : decode cX0_trembling 16 = .ok (.aload_n 0, 1) := dk_42 (dk_at dksX0_trembling_0 16 rfl rfl)
theorem dX0_trembling_17 : decode cX0_trembling 17 = .ok (.aload_n 0, 1) := dk_42 (dk_at dksX0_trembling_0 17 rfl rfl)
theorem dX0_trembling_18 : decode cX0_trembling 18 = .ok (.getfield 42, 3) := dk_180 0 42 (dk_at dksX0_trembling_0 18 rfl rfl)
theorem dX0_trembling_21 : decode cX0_trembling 21 = .ok (.getfield 146, 3) := dk_180 0 146 (dk_at dksX0_trembling_0 21 rfl rfl)
theorem dX0_trembling_24 : decode cX0_trembling 24 = .ok (.iload_n 2, 1) := dk_28 (dk_at dksX0_trembling_1 0 rfl rfl)
theorem dX0_trembling_25 : decode cX0_trembling 25 = .ok (.aaload, 1) := dk_50 (dk_at dksX0_trembling_1 1 rfl rfl)
theorem dX0_trembling_26 : decode cX0_trembling 26 = .ok (.invokevirtual 161, 3) := dk_182 0 161 (dk_at dksX0_trembling_1 2 rfl rfl)
theorem dX0_trembling_29 : decode cX0_trembling 29 = .ok (.iconst (-1), 1) := dk_2 (dk_at dksX0_trembling_1 5 rfl rfl)
theorem dX0_trembling_30 : decode cX0_trembling 30 = .ok (.if_icmp .ne 9, 3) := dk_160 0 9 (dk_at dksX0_trembling_1 6 rfl rfl)
theorem dX0_trembling_33 : decode cX0_trembling 33 = .ok (.iconst 1, 1) := dk_4 (dk_at dksX0_trembling_1 9 rfl rfl)
theorem dX0_trembling_34 : decode cX0_trembling 34 = .ok (.iload_n 2, 1) := dk_28 (dk_at dksX0_trembling_1 10 rfl rfl)
theorem dX0_trembling_35 : decode cX0_trembling 35 = .ok (.ishl, 1) := dk_120 (dk_at dksX0_trembling_1 11 rfl rfl)
theorem dX0_trembling_36 : decode cX0_trembling 36 = .ok (.goto 4, 3) := dk_167 0 4 (dk_at dksX0_trembling_1 12 rfl rfl)
theorem dX0_trembling_39 : decode cX0_trembling 39 = .ok (.iconst 0, 1) := dk_3 (dk_at dksX0_trembling_1 15 rfl rfl)
theorem dX0_trembling_40 : decode cX0_trembling 40 = .ok (.ior, 1) := dk_128 (dk_at dksX0_trembling_1 16 rfl rfl)
theorem dX0_trembling_41 : decode cX0_trembling 41 = .ok (.istore_n 1, 1) := dk_60 (dk_at dksX0_trembling_1 17 rfl rfl)
theorem dX0_trembling_42 : decode cX0_trembling 42 = .ok (.iinc 2 1, 3) := dk_132 2 1 (dk_at dksX0_trembling_1 18 rfl rfl)
theorem dX0_trembling_45 : decode cX0_trembling 45 = .ok (.goto (-41), 3) := dk_167 255 215 (dk_at dksX0_trembling_1 21 rfl rfl)
theorem dX0_trembling_48 : decode cX0_trembling 48 = .ok (.iload_n 1, 1) := dk_27 (dk_at dksX0_trembling_2 0 rfl rfl)
theorem dX0_trembling_49 : decode cX0_trembling 49 = .ok (.ireturn, 1) := dk_172 (dk_at dksX0_trembling_2 1 rfl rfl)
def dkwX0_bestPair_3 : List UInt8 := [184, 1, 24, 61, 132, 4, 1, 167, 255, 201, 132, 3, 1, 167, 255, 179, 27, 172]
abbrev dktX0_bestPair_3 : List UInt8 := dkwX0_bestPair_3 ++ []
def dkwX0_bestPair_2 : List UInt8 := [54, 5, 21, 5, 28, 164, 0, 13, 16, 10, 29, 104, 21, 4, 96, 167, 0, 4, 27, 60, 28, 21, 5]
abbrev dktX0_bestPair_2 : List UInt8 := dkwX0_bestPair_2 ++ dktX0_bestPair_3
def dkwX0_bestPair_1 : List UInt8 := [42, 180, 0, 42, 180, 0, 186, 162, 0, 49, 42, 4, 29, 120, 4, 21, 4, 120, 128, 1, 182, 1, 54]
abbrev dktX0_bestPair_1 : List UInt8 := dkwX0_bestPair_1 ++ dktX0_bestPair_2
def dkwX0_bestPair_0 : List UInt8 := [2, 60, 2, 61, 3, 62, 29, 42, 180, 0, 42, 180, 0, 186, 162, 0, 72, 29, 4, 96, 54, 4, 21, 4]
abbrev dktX0_bestPair_0 : List UInt8 := dkwX0_bestPair_0 ++ dktX0_bestPair_1
theorem dksX0_bestPair_0 : cX0_bestPair.data.toList.drop 0 = dktX0_bestPair_0 := by decide +kernel
theorem dksX0_bestPair_1 : cX0_bestPair.data.toList.drop 24 = dktX0_bestPair_1 := dk_seg dksX0_bestPair_0 24 rfl rfl
theorem dksX0_bestPair_2 : cX0_bestPair.data.toList.drop 47 = dktX0_bestPair_2 := dk_seg dksX0_bestPair_1 23 rfl rfl
theorem dksX0_bestPair_3 : cX0_bestPair.data.toList.drop 70 = dktX0_bestPair_3 := dk_seg dksX0_bestPair_2 23 rfl rfl
theorem dX0_bestPair_0 : decode cX0_bestPair 0 = .ok (.iconst (-1), 1) := dk_2 (dk_at dksX0_bestPair_0 0 rfl rfl)
theorem dX0_bestPair_1 : decode cX0_bestPair 1 = .ok (.istore_n 1, 1) := dk_60 (dk_at dksX0_bestPair_0 1 rfl rfl)
theorem dX0_bestPair_2 : decode cX0_bestPair 2 = .ok (.iconst (-1), 1) := dk_2 (dk_at dksX0_bestPair_0 2 rfl rfl)
theorem dX0_bestPair_3 : decode cX0_bestPair 3 = .ok (.istore_n 2, 1) := dk_61 (dk_at dksX0_bestPair_0 3 rfl rfl)
theorem dX0_bestPair_4 : decode cX0_bestPair 4 = .ok (.iconst 0, 1) := dk_3 (dk_at dksX0_bestPair_0 4 rfl rfl)
theorem dX0_bestPair_5 : decode cX0_bestPair 5 = .ok (.istore_n 3, 1) := dk_62 (dk_at dksX0_bestPair_0 5 rfl rfl)
theorem dX0_bestPair_6 : decode cX0_bestPair 6 = .ok (.iload_n 3, 1) := dk_29 (dk_at dksX0_bestPair_0 6 rfl rfl)
theorem dX0_bestPair_7 : decode cX0_bestPair 7 = .ok (.aload_n 0, 1) := dk_42 (dk_at dksX0_bestPair_0 7 rfl rfl)
theorem dX0_bestPair_8 : decode cX0_bestPair 8 = .ok (.getfield 42, 3) := dk_180 0 42 (dk_at dksX0_bestPair_0 8 rfl rfl)
theorem dX0_bestPair_11 : decode cX0_bestPair 11 = .ok (.getfield 186, 3) := dk_180 0 186 (dk_at dksX0_bestPair_0 11 rfl rfl)
theorem dX0_bestPair_14 : decode cX0_bestPair 14 = .ok (.if_icmp .ge 72, 3) := dk_162 0 72 (dk_at dksX0_bestPair_0 14 rfl rfl)
theorem dX0_bestPair_17 : decode cX0_bestPair 17 = .ok (.iload_n 3, 1) := dk_29 (dk_at dksX0_bestPair_0 17 rfl rfl)
theorem dX0_bestPair_18 : decode cX0_bestPair 18 = .ok (.iconst 1, 1) := dk_4 (dk_at dksX0_bestPair_0 18 rfl rfl)
theorem dX0_bestPair_19 : decode cX0_bestPair 19 = .ok (.iadd, 1) := dk_96 (dk_at dksX0_bestPair_0 19 rfl rfl)
theorem dX0_bestPair_20 : decode cX0_bestPair 20 = .ok (.istore 4, 2) := dk_54 4 (dk_at dksX0_bestPair_0 20 rfl rfl)
theorem dX0_bestPair_22 : decode cX0_bestPair 22 = .ok (.iload 4, 2) := dk_21 4 (dk_at dksX0_bestPair_0 22 rfl rfl)
theorem dX0_bestPair_24 : decode cX0_bestPair 24 = .ok (.aload_n 0, 1) := dk_42 (dk_at dksX0_bestPair_1 0 rfl rfl)
theorem dX0_bestPair_25 : decode cX0_bestPair 25 = .ok (.getfield 42, 3) := dk_180 0 42 (dk_at dksX0_bestPair_1 1 rfl rfl)
theorem dX0_bestPair_28 : decode cX0_bestPair 28 = .ok (.getfield 186, 3) := dk_180 0 186 (dk_at dksX0_bestPair_1 4 rfl rfl)
theorem dX0_bestPair_31 : decode cX0_bestPair 31 = .ok (.if_icmp .ge 49, 3) := dk_162 0 49 (dk_at dksX0_bestPair_1 7 rfl rfl)
theorem dX0_bestPair_34 : decode cX0_bestPair 34 = .ok (.aload_n 0, 1) := dk_42 (dk_at dksX0_bestPair_1 10 rfl rfl)
theorem dX0_bestPair_35 : decode cX0_bestPair 35 = .ok (.iconst 1, 1) := dk_4 (dk_at dksX0_bestPair_1 11 rfl rfl)
theorem dX0_bestPair_36 : decode cX0_bestPair 36 = .ok (.iload_n 3, 1) := dk_29 (dk_at dksX0_bestPair_1 12 rfl rfl)
theorem dX0_bestPair_37 : decode cX0_bestPair 37 = .ok (.ishl, 1) := dk_120 (dk_at dksX0_bestPair_1 13 rfl rfl)
theorem dX0_bestPair_38 : decode cX0_bestPair 38 = .ok (.iconst 1, 1) := dk_4 (dk_at dksX0_bestPair_1 14 rfl rfl)
theorem dX0_bestPair_39 : decode cX0_bestPair 39 = .ok (.iload 4, 2) := dk_21 4 (dk_at dksX0_bestPair_1 15 rfl rfl)
theorem dX0_bestPair_41 : decode cX0_bestPair 41 = .ok (.ishl, 1) := dk_120 (dk_at dksX0_bestPair_1 17 rfl rfl)
theorem dX0_bestPair_42 : decode cX0_bestPair 42 = .ok (.ior, 1) := dk_128 (dk_at dksX0_bestPair_1 18 rfl rfl)
theorem dX0_bestPair_43 : decode cX0_bestPair 43 = .ok (.aconst_null, 1) := dk_1 (dk_at dksX0_bestPair_1 19 rfl rfl)
theorem dX0_bestPair_44 : decode cX0_bestPair 44 = .ok (.invokevirtual 310, 3) := dk_182 1 54 (dk_at dksX0_bestPair_1 20 rfl rfl)
theorem dX0_bestPair_47 : decode cX0_bestPair 47 = .ok (.istore 5, 2) := dk_54 5 (dk_at dksX0_bestPair_2 0 rfl rfl)
theorem dX0_bestPair_49 : decode cX0_bestPair 49 = .ok (.iload 5, 2) := dk_21 5 (dk_at dksX0_bestPair_2 2 rfl rfl)
theorem dX0_bestPair_51 : decode cX0_bestPair 51 = .ok (.iload_n 2, 1) := dk_28 (dk_at dksX0_bestPair_2 4 rfl rfl)
theorem dX0_bestPair_52 : decode cX0_bestPair 52 = .ok (.if_icmp .le 13, 3) := dk_164 0 13 (dk_at dksX0_bestPair_2 5 rfl rfl)
theorem dX0_bestPair_55 : decode cX0_bestPair 55 = .ok (.bipush 10, 2) := dk_16 10 (dk_at dksX0_bestPair_2 8 rfl rfl)
theorem dX0_bestPair_57 : decode cX0_bestPair 57 = .ok (.iload_n 3, 1) := dk_29 (dk_at dksX0_bestPair_2 10 rfl rfl)
theorem dX0_bestPair_58 : decode cX0_bestPair 58 = .ok (.imul, 1) := dk_104 (dk_at dksX0_bestPair_2 11 rfl rfl)
theorem dX0_bestPair_59 : decode cX0_bestPair 59 = .ok (.iload 4, 2) := dk_21 4 (dk_at dksX0_bestPair_2 12 rfl rfl)
theorem dX0_bestPair_61 : decode cX0_bestPair 61 = .ok (.iadd, 1) := dk_96 (dk_at dksX0_bestPair_2 14 rfl rfl)
theorem dX0_bestPair_62 : decode cX0_bestPair 62 = .ok (.goto 4, 3) := dk_167 0 4 (dk_at dksX0_bestPair_2 15 rfl rfl)
theorem dX0_bestPair_65 : decode cX0_bestPair 65 = .ok (.iload_n 1, 1) := dk_27 (dk_at dksX0_bestPair_2 18 rfl rfl)
theorem dX0_bestPair_66 : decode cX0_bestPair 66 = .ok (.istore_n 1, 1) := dk_60 (dk_at dksX0_bestPair_2 19 rfl rfl)
theorem dX0_bestPair_67 : decode cX0_bestPair 67 = .ok (.iload_n 2, 1) := dk_28 (dk_at dksX0_bestPair_2 20 rfl rfl)
theorem dX0_bestPair_68 : decode cX0_bestPair 68 = .ok (.iload 5, 2) := dk_21 5 (dk_at dksX0_bestPair_2 21 rfl rfl)
theorem dX0_bestPair_70 : decode cX0_bestPair 70 = .ok (.invokestatic 280, 3) := dk_184 1 24 (dk_at dksX0_bestPair_3 0 rfl rfl)
theorem dX0_bestPair_73 : decode cX0_bestPair 73 = .ok (.istore_n 2, 1) := dk_61 (dk_at dksX0_bestPair_3 3 rfl rfl)
theorem dX0_bestPair_74 : decode cX0_bestPair 74 = .ok (.iinc 4 1, 3) := dk_132 4 1 (dk_at dksX0_bestPair_3 4 rfl rfl)
theorem dX0_bestPair_77 : decode cX0_bestPair 77 = .ok (.goto (-55), 3) := dk_167 255 201 (dk_at dksX0_bestPair_3 7 rfl rfl)
theorem dX0_bestPair_80 : decode cX0_bestPair 80 = .ok (.iinc 3 1, 3) := dk_132 3 1 (dk_at dksX0_bestPair_3 10 rfl rfl)
theorem dX0_bestPair_83 : decode cX0_bestPair 83 = .ok (.goto (-77), 3) := dk_167 255 179 (dk_at dksX0_bestPair_3 13 rfl rfl)
theorem dX0_bestPair_86 : decode cX0_bestPair 86 = .ok (.iload_n 1, 1) := dk_27 (dk_at dksX0_bestPair_3 16 rfl rfl)
theorem dX0_bestPair_87 : decode cX0_bestPair 87 = .ok (.ireturn, 1) := dk_172 (dk_at dksX0_bestPair_3 17 rfl rfl)
def dkwX0_groups_2 : List UInt8 := [182, 1, 9, 54, 4, 167, 255, 222, 29, 172]
abbrev dktX0_groups_2 : List UInt8 := dkwX0_groups_2 ++ []
def dkwX0_groups_1 : List UInt8 := [29, 42, 21, 4, 182, 1, 68, 153, 0, 7, 4, 167, 0, 4, 3, 96, 62, 42, 180, 0, 42, 21, 4]
abbrev dktX0_groups_1 : List UInt8 := dkwX0_groups_1 ++ dktX0_groups_2
def dkwX0_groups_0 : List UInt8 := [42, 27, 44, 182, 1, 47, 3, 62, 42, 180, 0, 42, 2, 182, 1, 9, 54, 4, 21, 4, 2, 159, 0, 34]
abbrev dktX0_groups_0 : List UInt8 := dkwX0_groups_0 ++ dktX0_groups_1
theorem dksX0_groups_0 : cX0_groups.data.toList.drop 0 = dktX0_groups_0 := by decide +kernel
theorem dksX0_groups_1 : cX0_groups.data.toList.drop 24 = dktX0_groups_1 := dk_seg dksX0_groups_0 24 rfl rfl
theorem dksX0_groups_2 : cX0_groups.data.toList.drop 47 = dktX0_groups_2 := dk_seg dksX0_groups_1 23 rfl rfl
theorem dX0_groups_0 : decode cX0_groups 0 = .ok (.aload_n 0, 1) := dk_42 (dk_at dksX0_groups_0 0 rfl rfl)
theorem dX0_groups_1 : decode cX0_groups 1 = .ok (.iload_n 1, 1) := dk_27 (dk_at dksX0_groups_0 1 rfl rfl)
theorem dX0_groups_2 : decode cX0_groups 2 = .ok (.aload_n 2, 1) := dk_44 (dk_at dksX0_groups_0 2 rfl rfl)
theorem dX0_groups_3 : decode cX0_groups 3 = .ok (.invokevirtual 303, 3) := dk_182 1 47 (dk_at dksX0_groups_0 3 rfl rfl)
theorem dX0_groups_6 : decode cX0_groups 6 = .ok (.iconst 0, 1) := dk_3 (dk_at dksX0_groups_0 6 rfl rfl)
theorem dX0_groups_7 : decode cX0_groups 7 = .ok (.istore_n 3, 1) := dk_62 (dk_at dksX0_groups_0 7 rfl rfl)
theorem dX0_groups_8 : decode cX0_groups 8 = .ok (.aload_n 0, 1) := dk_42 (dk_at dksX0_groups_0 8 rfl rfl)
theorem dX0_groups_9 : decode cX0_groups 9 = .ok (.getfield 42, 3) := dk_180 0 42 (dk_at dksX0_groups_0 9 rfl rfl)
theorem dX0_groups_12 : decode cX0_groups 12 = .ok (.iconst (-1), 1) := dk_2 (dk_at dksX0_groups_0 12 rfl rfl)
theorem dX0_groups_13 : decode cX0_groups 13 = .ok (.invokevirtual 265, 3) := dk_182 1 9 (dk_at dksX0_groups_0 13 rfl rfl)
theorem dX0_groups_16 : decode cX0_groups 16 = .ok (.istore 4, 2) := dk_54 4 (dk_at dksX0_groups_0 16 rfl rfl)
theorem dX0_groups_18 : decode cX0_groups 18 = .ok (.iload 4, 2) := dk_21 4 (dk_at dksX0_groups_0 18 rfl rfl)
theorem dX0_groups_20 : decode cX0_groups 20 = .ok (.iconst (-1), 1) := dk_2 (dk_at dksX0_groups_0 20 rfl rfl)
theorem dX0_groups_21 : decode cX0_groups 21 = .ok (.if_icmp .eq 34, 3) := dk_159 0 34 (dk_at dksX0_groups_0 21 rfl rfl)
theorem dX0_groups_24 : decode cX0_groups 24 = .ok (.iload_n 3, 1) := dk_29 (dk_at dksX0_groups_1 0 rfl rfl)
theorem dX0_groups_25 : decode cX0_groups 25 = .ok (.aload_n 0, 1) := dk_42 (dk_at dksX0_groups_1 1 rfl rfl)
theorem dX0_groups_26 : decode cX0_groups 26 = .ok (.iload 4, 2) := dk_21 4 (dk_at dksX0_groups_1 2 rfl rfl)
theorem dX0_groups_28 : decode cX0_groups 28 = .ok (.invokevirtual 324, 3) := dk_182 1 68 (dk_at dksX0_groups_1 4 rfl rfl)
theorem dX0_groups_31 : decode cX0_groups 31 = .ok (.ifCond .eq 7, 3) := dk_153 0 7 (dk_at dksX0_groups_1 7 rfl rfl)
theorem dX0_groups_34 : decode cX0_groups 34 = .ok (.iconst 1, 1) := dk_4 (dk_at dksX0_groups_1 10 rfl rfl)
theorem dX0_groups_35 : decode cX0_groups 35 = .ok (.goto 4, 3) := dk_167 0 4 (dk_at dksX0_groups_1 11 rfl rfl)
theorem dX0_groups_38 : decode cX0_groups 38 = .ok (.iconst 0, 1) := dk_3 (dk_at dksX0_groups_1 14 rfl rfl)
theorem dX0_groups_39 : decode cX0_groups 39 = .ok (.iadd, 1) := dk_96 (dk_at dksX0_groups_1 15 rfl rfl)
theorem dX0_groups_40 : decode cX0_groups 40 = .ok (.istore_n 3, 1) := dk_62 (dk_at dksX0_groups_1 16 rfl rfl)
theorem dX0_groups_41 : decode cX0_groups 41 = .ok (.aload_n 0, 1) := dk_42 (dk_at dksX0_groups_1 17 rfl rfl)
theorem dX0_groups_42 : decode cX0_groups 42 = .ok (.getfield 42, 3) := dk_180 0 42 (dk_at dksX0_groups_1 18 rfl rfl)
theorem dX0_groups_45 : decode cX0_groups 45 = .ok (.iload 4, 2) := dk_21 4 (dk_at dksX0_groups_1 21 rfl rfl)
theorem dX0_groups_47 : decode cX0_groups 47 = .ok (.invokevirtual 265, 3) := dk_182 1 9 (dk_at dksX0_groups_2 0 rfl rfl)
theorem dX0_groups_50 : decode cX0_groups 50 = .ok (.istore 4, 2) := dk_54 4 (dk_at dksX0_groups_2 3 rfl rfl)
theorem dX0_groups_52 : decode cX0_groups 52 = .ok (.goto (-34), 3) := dk_167 255 222 (dk_at dksX0_groups_2 5 rfl rfl)
theorem dX0_groups_55 : decode cX0_groups 55 = .ok (.iload_n 3, 1) := dk_29 (dk_at dksX0_groups_2 8 rfl rfl)
theorem dX0_groups_56 : decode cX0_groups 56 = .ok (.ireturn, 1) := dk_172 (dk_at dksX0_groups_2 9 rfl rfl)
def dkwX0_isFirst_1 : List UInt8 := [27, 47, 148, 154, 0, 5, 3, 172, 42, 180, 0, 42, 28, 182, 1, 9, 61, 167, 255, 224, 4, 172]
abbrev dktX0_isFirst_1 : List UInt8 := dkwX0_isFirst_1 ++ []
def dkwX0_isFirst_0 : List UInt8 := [42, 180, 0, 42, 2, 182, 1, 9, 61, 28, 27, 159, 0, 33, 42, 180, 0, 53, 28, 47, 42, 180, 0, 53]
abbrev dktX0_isFirst_0 : List UInt8 := dkwX0_isFirst_0 ++ dktX0_isFirst_1
theorem dksX0_isFirst_0 : cX0_isFirst.data.toList.drop 0 = dktX0_isFirst_0 := by decide +kernel
theorem dksX0_isFirst_1 : cX0_isFirst.data.toList.drop 24 = dktX0_isFirst_1 := dk_seg dksX0_isFirst_0 24 rfl rfl
theorem dX0_isFirst_0 : decode cX0_isFirst 0 = .ok (.aload_n 0, 1) := dk_42 (dk_at dksX0_isFirst_0 0 rfl rfl)
theorem dX0_isFirst_1 : decode cX0_isFirst 1 = .ok (.getfield 42, 3) := dk_180 0 42 (dk_at dksX0_isFirst_0 1 rfl rfl)
theorem dX0_isFirst_4 : decode cX0_isFirst 4 = .ok (.iconst (-1), 1) := dk_2 (dk_at dksX0_isFirst_0 4 rfl rfl)
theorem dX0_isFirst_5 : decode cX0_isFirst 5 = .ok (.invokevirtual 265, 3) := dk_182 1 9 (dk_at dksX0_isFirst_0 5 rfl rfl)
theorem dX0_isFirst_8 : decode cX0_isFirst 8 = .ok (.istore_n 2, 1) := dk_61 (dk_at dksX0_isFirst_0 8 rfl rfl)
theorem dX0_isFirst_9 : decode cX0_isFirst 9 = .ok (.iload_n 2, 1) := dk_28 (dk_at dksX0_isFirst_0 9 rfl rfl)
theorem dX0_isFirst_10 : decode cX0_isFirst 10 = .ok (.iload_n 1, 1) := dk_27 (dk_at dksX0_isFirst_0 10 rfl rfl)
theorem dX0_isFirst_11 : decode cX0_isFirst 11 = .ok (.if_icmp .eq 33, 3) := dk_159 0 33 (dk_at dksX0_isFirst_0 11 rfl rfl)
theorem dX0_isFirst_14 : decode cX0_isFirst 14 = .ok (.aload_n 0, 1) := dk_42 (dk_at dksX0_isFirst_0 14 rfl rfl)
theorem dX0_isFirst_15 : decode cX0_isFirst 15 = .ok (.getfield 53, 3) := dk_180 0 53 (dk_at dksX0_isFirst_0 15 rfl rfl)
theorem dX0_isFirst_18 : decode cX0_isFirst 18 = .ok (.iload_n 2, 1) := dk_28 (dk_at dksX0_isFirst_0 18 rfl rfl)
theorem dX0_isFirst_19 : decode cX0_isFirst 19 = .ok (.laload, 1) := dk_47 (dk_at dksX0_isFirst_0 19 rfl rfl)
theorem dX0_isFirst_20 : decode cX0_isFirst 20 = .ok (.aload_n 0, 1) := dk_42 (dk_at dksX0_isFirst_0 20 rfl rfl)
theorem dX0_isFirst_21 : decode cX0_isFirst 21 = .ok (.getfield 53, 3) := dk_180 0 53 (dk_at dksX0_isFirst_0 21 rfl rfl)
theorem dX0_isFirst_24 : decode cX0_isFirst 24 = .ok (.iload_n 1, 1) := dk_27 (dk_at dksX0_isFirst_1 0 rfl rfl)
theorem dX0_isFirst_25 : decode cX0_isFirst 25 = .ok (.laload, 1) := dk_47 (dk_at dksX0_isFirst_1 1 rfl rfl)
theorem dX0_isFirst_26 : decode cX0_isFirst 26 = .ok (.lcmp, 1) := dk_148 (dk_at dksX0_isFirst_1 2 rfl rfl)
theorem dX0_isFirst_27 : decode cX0_isFirst 27 = .ok (.ifCond .ne 5, 3) := dk_154 0 5 (dk_at dksX0_isFirst_1 3 rfl rfl)
theorem dX0_isFirst_30 : decode cX0_isFirst 30 = .ok (.iconst 0, 1) := dk_3 (dk_at dksX0_isFirst_1 6 rfl rfl)
theorem dX0_isFirst_31 : decode cX0_isFirst 31 = .ok (.ireturn, 1) := dk_172 (dk_at dksX0_isFirst_1 7 rfl rfl)
theorem dX0_isFirst_32 : decode cX0_isFirst 32 = .ok (.aload_n 0, 1) := dk_42 (dk_at dksX0_isFirst_1 8 rfl rfl)
theorem dX0_isFirst_33 : decode cX0_isFirst 33 = .ok (.getfield 42, 3) := dk_180 0 42 (dk_at dksX0_isFirst_1 9 rfl rfl)
theorem dX0_isFirst_36 : decode cX0_isFirst 36 = .ok (.iload_n 2, 1) := dk_28 (dk_at dksX0_isFirst_1 12 rfl rfl)
theorem dX0_isFirst_37 : decode cX0_isFirst 37 = .ok (.invokevirtual 265, 3) := dk_182 1 9 (dk_at dksX0_isFirst_1 13 rfl rfl)
theorem dX0_isFirst_40 : decode cX0_isFirst 40 = .ok (.istore_n 2, 1) := dk_61 (dk_at dksX0_isFirst_1 16 rfl rfl)
theorem dX0_isFirst_41 : decode cX0_isFirst 41 = .ok (.goto (-32), 3) := dk_167 255 224 (dk_at dksX0_isFirst_1 17 rfl rfl)
theorem dX0_isFirst_44 : decode cX0_isFirst 44 = .ok (.iconst 1, 1) := dk_4 (dk_at dksX0_isFirst_1 20 rfl rfl)
theorem dX0_isFirst_45 : decode cX0_isFirst 45 = .ok (.ireturn, 1) := dk_172 (dk_at dksX0_isFirst_1 21 rfl rfl)
def dkwX0_idlest_3 : List UInt8 := [167, 0, 4, 27, 172]
abbrev dktX0_idlest_3 : List UInt8 := dkwX0_idlest_3 ++ []
def dkwX0_idlest_2 : List UInt8 := [21, 4, 184, 1, 24, 61, 132, 3, 1, 167, 255, 206, 27, 2, 160, 0, 12, 42, 16, 251, 182, 0, 91]
abbrev dktX0_idlest_2 : List UInt8 := dkwX0_idlest_2 ++ dktX0_idlest_3
def dkwX0_idlest_1 : List UInt8 := [120, 2, 130, 126, 1, 182, 1, 54, 54, 4, 21, 4, 28, 164, 0, 7, 29, 167, 0, 4, 27, 60, 28]
abbrev dktX0_idlest_1 : List UInt8 := dkwX0_idlest_1 ++ dktX0_idlest_2
def dkwX0_idlest_0 : List UInt8 := [2, 60, 2, 61, 3, 62, 29, 42, 180, 0, 42, 180, 0, 186, 162, 0, 45, 42, 42, 182, 1, 44, 4, 29]
abbrev dktX0_idlest_0 : List UInt8 := dkwX0_idlest_0 ++ dktX0_idlest_1
theorem dksX0_idlest_0 : cX0_idlest.data.toList.drop 0 = dktX0_idlest_0 := by decide +kernel
theorem dksX0_idlest_1 : cX0_idlest.data.toList.drop 24 = dktX0_idlest_1 := dk_seg dksX0_idlest_0 24 rfl rfl
theorem dksX0_idlest_2 : cX0_idlest.data.toList.drop 47 = dktX0_idlest_2 := dk_seg dksX0_idlest_1 23 rfl rfl
theorem dksX0_idlest_3 : cX0_idlest.data.toList.drop 70 = dktX0_idlest_3 := dk_seg dksX0_idlest_2 23 rfl rfl
theorem dX0_idlest_0 : decode cX0_idlest 0 = .ok (.iconst (-1), 1) := dk_2 (dk_at dksX0_idlest_0 0 rfl rfl)
theorem dX0_idlest_1 : decode cX0_idlest 1 = .ok (.istore_n 1, 1) := dk_60 (dk_at dksX0_idlest_0 1 rfl rfl)
theorem dX0_idlest_2 : decode cX0_idlest 2 = .ok (.iconst (-1), 1) := dk_2 (dk_at dksX0_idlest_0 2 rfl rfl)
theorem dX0_idlest_3 : decode cX0_idlest 3 = .ok (.istore_n 2, 1) := dk_61 (dk_at dksX0_idlest_0 3 rfl rfl)
theorem dX0_idlest_4 : decode cX0_idlest 4 = .ok (.iconst 0, 1) := dk_3 (dk_at dksX0_idlest_0 4 rfl rfl)
theorem dX0_idlest_5 : decode cX0_idlest 5 = .ok (.istore_n 3, 1) := dk_62 (dk_at dksX0_idlest_0 5 rfl rfl)
theorem dX0_idlest_6 : decode cX0_idlest 6 = .ok (.iload_n 3, 1) := dk_29 (dk_at dksX0_idlest_0 6 rfl rfl)
theorem dX0_idlest_7 : decode cX0_idlest 7 = .ok (.aload_n 0, 1) := dk_42 (dk_at dksX0_idlest_0 7 rfl rfl)
theorem dX0_idlest_8 : decode cX0_idlest 8 = .ok (.getfield 42, 3) := dk_180 0 42 (dk_at dksX0_idlest_0 8 rfl rfl)
theorem dX0_idlest_11 : decode cX0_idlest 11 = .ok (.getfield 186, 3) := dk_180 0 186 (dk_at dksX0_idlest_0 11 rfl rfl)
theorem dX0_idlest_14 : decode cX0_idlest 14 = .ok (.if_icmp .ge 45, 3) := dk_162 0 45 (dk_at dksX0_idlest_0 14 rfl rfl)
theorem dX0_idlest_17 : decode cX0_idlest 17 = .ok (.aload_n 0, 1) := dk_42 (dk_at dksX0_idlest_0 17 rfl rfl)
theorem dX0_idlest_18 : decode cX0_idlest 18 = .ok (.aload_n 0, 1) := dk_42 (dk_at dksX0_idlest_0 18 rfl rfl)
theorem dX0_idlest_19 : decode cX0_idlest 19 = .ok (.invokevirtual 300, 3) := dk_182 1 44 (dk_at dksX0_idlest_0 19 rfl rfl)
theorem dX0_idlest_22 : decode cX0_idlest 22 = .ok (.iconst 1, 1) := dk_4 (dk_at dksX0_idlest_0 22 rfl rfl)
theorem dX0_idlest_23 : decode cX0_idlest 23 = .ok (.iload_n 3, 1) := dk_29 (dk_at dksX0_idlest_0 23 rfl rfl)
theorem dX0_idlest_24 : decode cX0_idlest 24 = .ok (.ishl, 1) := dk_120 (dk_at dksX0_idlest_1 0 rfl rfl)
theorem dX0_idlest_25 : decode cX0_idlest 25 = .ok (.iconst (-1), 1) := dk_2 (dk_at dksX0_idlest_1 1 rfl rfl)
theorem dX0_idlest_26 : decode cX0_idlest 26 = .ok (.ixor, 1) := dk_130 (dk_at dksX0_idlest_1 2 rfl rfl)
theorem dX0_idlest_27 : decode cX0_idlest 27 = .ok (.iand, 1) := dk_126 (dk_at dksX0_idlest_1 3 rfl rfl)
theorem dX0_idlest_28 : decode cX0_idlest 28 = .ok (.aconst_null, 1) := dk_1 (dk_at dksX0_idlest_1 4 rfl rfl)
theorem dX0_idlest_29 : decode cX0_idlest 29 = .ok (.invokevirtual 310, 3) := dk_182 1 54 (dk_at dksX0_idlest_1 5 rfl rfl)
theorem dX0_idlest_32 : decode cX0_idlest 32 = .ok (.istore 4, 2) := dk_54 4 (dk_at dksX0_idlest_1 8 rfl rfl)
theorem dX0_idlest_34 : decode cX0_idlest 34 = .ok (.iload 4, 2) := dk_21 4 (dk_at dksX0_idlest_1 10 rfl rfl)
theorem dX0_idlest_36 : decode cX0_idlest 36 = .ok (.iload_n 2, 1) := dk_28 (dk_at dksX0_idlest_1 12 rfl rfl)
theorem dX0_idlest_37 : decode cX0_idlest 37 = .ok (.if_icmp .le 7, 3) := dk_164 0 7 (dk_at dksX0_idlest_1 13 rfl rfl)
theorem dX0_idlest_40 : decode cX0_idlest 40 = .ok (.iload_n 3, 1) := dk_29 (dk_at dksX0_idlest_1 16 rfl rfl)
theorem dX0_idlest_41 : decode cX0_idlest 41 = .ok (.goto 4, 3) := dk_167 0 4 (dk_at dksX0_idlest_1 17 rfl rfl)
theorem dX0_idlest_44 : decode cX0_idlest 44 = .ok (.iload_n 1, 1) := dk_27 (dk_at dksX0_idlest_1 20 rfl rfl)
theorem dX0_idlest_45 : decode cX0_idlest 45 = .ok (.istore_n 1, 1) := dk_60 (dk_at dksX0_idlest_1 21 rfl rfl)
theorem dX0_idlest_46 : decode cX0_idlest 46 = .ok (.iload_n 2, 1) := dk_28 (dk_at dksX0_idlest_1 22 rfl rfl)
theorem dX0_idlest_47 : decode cX0_idlest 47 = .ok (.iload 4, 2) := dk_21 4 (dk_at dksX0_idlest_2 0 rfl rfl)
theorem dX0_idlest_49 : decode cX0_idlest 49 = .ok (.invokestatic 280, 3) := dk_184 1 24 (dk_at dksX0_idlest_2 2 rfl rfl)
theorem dX0_idlest_52 : decode cX0_idlest 52 = .ok (.istore_n 2, 1) := dk_61 (dk_at dksX0_idlest_2 5 rfl rfl)
theorem dX0_idlest_53 : decode cX0_idlest 53 = .ok (.iinc 3 1, 3) := dk_132 3 1 (dk_at dksX0_idlest_2 6 rfl rfl)
theorem dX0_idlest_56 : decode cX0_idlest 56 = .ok (.goto (-50), 3) := dk_167 255 206 (dk_at dksX0_idlest_2 9 rfl rfl)
theorem dX0_idlest_59 : decode cX0_idlest 59 = .ok (.iload_n 1, 1) := dk_27 (dk_at dksX0_idlest_2 12 rfl rfl)
theorem dX0_idlest_60 : decode cX0_idlest 60 = .ok (.iconst (-1), 1) := dk_2 (dk_at dksX0_idlest_2 13 rfl rfl)
theorem dX0_idlest_61 : decode cX0_idlest 61 = .ok (.if_icmp .ne 12, 3) := dk_160 0 12 (dk_at dksX0_idlest_2 14 rfl rfl)
theorem dX0_idlest_64 : decode cX0_idlest 64 = .ok (.aload_n 0, 1) := dk_42 (dk_at dksX0_idlest_2 17 rfl rfl)
theorem dX0_idlest_65 : decode cX0_idlest 65 = .ok (.bipush (-5), 2) := dk_16 251 (dk_at dksX0_idlest_2 18 rfl rfl)
theorem dX0_idlest_67 : decode cX0_idlest 67 = .ok (.invokevirtual 91, 3) := dk_182 0 91 (dk_at dksX0_idlest_2 20 rfl rfl)
theorem dX0_idlest_70 : decode cX0_idlest 70 = .ok (.goto 4, 3) := dk_167 0 4 (dk_at dksX0_idlest_3 0 rfl rfl)
theorem dX0_idlest_73 : decode cX0_idlest 73 = .ok (.iload_n 1, 1) := dk_27 (dk_at dksX0_idlest_3 3 rfl rfl)
theorem dX0_idlest_74 : decode cX0_idlest 74 = .ok (.ireturn, 1) := dk_172 (dk_at dksX0_idlest_3 4 rfl rfl)
def dkwX0_kinds_4 : List UInt8 := [21, 4, 172]
abbrev dktX0_kinds_4 : List UInt8 := dkwX0_kinds_4 ++ []
def dkwX0_kinds_3 : List UInt8 := [182, 0, 161, 28, 160, 0, 10, 4, 21, 5, 120, 167, 0, 4, 3, 128, 54, 4, 132, 5, 1, 167, 255, 211]
abbrev dktX0_kinds_3 : List UInt8 := dkwX0_kinds_3 ++ dktX0_kinds_4
def dkwX0_kinds_2 : List UInt8 := [16, 6, 162, 0, 44, 21, 4, 42, 21, 5, 27, 45, 180, 0, 158, 45, 180, 0, 236, 184, 1, 58]
abbrev dktX0_kinds_2 : List UInt8 := dkwX0_kinds_2 ++ dktX0_kinds_3
def dkwX0_kinds_1 : List UInt8 := [16, 254, 182, 0, 91, 172, 42, 180, 0, 42, 180, 0, 146, 27, 50, 78, 3, 54, 4, 3, 54, 5, 21, 5]
abbrev dktX0_kinds_1 : List UInt8 := dkwX0_kinds_1 ++ dktX0_kinds_2
def dkwX0_kinds_0 : List UInt8 := [42, 180, 0, 42, 27, 133, 182, 0, 142, 153, 0, 13, 28, 2, 16, 8, 184, 0, 71, 154, 0, 10, 42]
abbrev dktX0_kinds_0 : List UInt8 := dkwX0_kinds_0 ++ dktX0_kinds_1
theorem dksX0_kinds_0 : cX0_kinds.data.toList.drop 0 = dktX0_kinds_0 := by decide +kernel
theorem dksX0_kinds_1 : cX0_kinds.data.toList.drop 23 = dktX0_kinds_1 := dk_seg dksX0_kinds_0 23 rfl rfl
theorem dksX0_kinds_2 : cX0_kinds.data.toList.drop 47 = dktX0_kinds_2 := dk_seg dksX0_kinds_1 24 rfl rfl
theorem dksX0_kinds_3 : cX0_kinds.data.toList.drop 69 = dktX0_kinds_3 := dk_seg dksX0_kinds_2 22 rfl rfl
theorem dksX0_kinds_4 : cX0_kinds.data.toList.drop 93 = dktX0_kinds_4 := dk_seg dksX0_kinds_3 24 rfl rfl
theorem dX0_kinds_0 : decode cX0_kinds 0 = .ok (.aload_n 0, 1) := dk_42 (dk_at dksX0_kinds_0 0 rfl rfl)
theorem dX0_kinds_1 : decode cX0_kinds 1 = .ok (.getfield 42, 3) := dk_180 0 42 (dk_at dksX0_kinds_0 1 rfl rfl)
theorem dX0_kinds_4 : decode cX0_kinds 4 = .ok (.iload_n 1, 1) := dk_27 (dk_at dksX0_kinds_0 4 rfl rfl)
theorem dX0_kinds_5 : decode cX0_kinds 5 = .ok (.i2l, 1) := dk_133 (dk_at dksX0_kinds_0 5 rfl rfl)
theorem dX0_kinds_6 : decode cX0_kinds 6 = .ok (.invokevirtual 142, 3) := dk_182 0 142 (dk_at dksX0_kinds_0 6 rfl rfl)
theorem dX0_kinds_9 : decode cX0_kinds 9 = .ok (.ifCond .eq 13, 3) := dk_153 0 13 (dk_at dksX0_kinds_0 9 rfl rfl)
theorem dX0_kinds_12 : decode cX0_kinds 12 = .ok (.iload_n 2, 1) := dk_28 (dk_at dksX0_kinds_0 12 rfl rfl)
theorem dX0_kinds_13 : decode cX0_kinds 13 = .ok (.iconst (-1), 1) := dk_2 (dk_at dksX0_kinds_0 13 rfl rfl)
theorem dX0_kinds_14 : decode cX0_kinds 14 = .ok (.bipush 8, 2) := dk_16 8 (dk_at dksX0_kinds_0 14 rfl rfl)
theorem dX0_kinds_16 : decode cX0_kinds 16 = .ok (.invokestatic 71, 3) := dk_184 0 71 (dk_at dksX0_kinds_0 16 rfl rfl)
theorem dX0_kinds_19 : decode cX0_kinds 19 = .ok (.ifCond .ne 10, 3) := dk_154 0 10 (dk_at dksX0_kinds_0 19 rfl rfl)
theorem dX0_kinds_22 : decode cX0_kinds 22 = .ok (.aload_n 0, 1) := dk_42 (dk_at dksX0_kinds_0 22 rfl rfl)
theorem dX0_kinds_23 : decode cX0_kinds 23 = .ok (.bipush (-2), 2) := dk_16 254 (dk_at dksX0_kinds_1 0 rfl rfl)
theorem dX0_kinds_25 : decode cX0_kinds 25 = .ok (.invokevirtual 91, 3) := dk_182 0 91 (dk_at dksX0_kinds_1 2 rfl rfl)
theorem dX0_kinds_28 : decode cX0_kinds 28 = .ok (.ireturn, 1) := dk_172 (dk_at dksX0_kinds_1 5 rfl rfl)
theorem dX0_kinds_29 : decode cX0_kinds 29 = .ok (.aload_n 0, 1) := dk_42 (dk_at dksX0_kinds_1 6 rfl rfl)
theorem dX0_kinds_30 : decode cX0_kinds 30 = .ok (.getfield 42, 3) := dk_180 0 42 (dk_at dksX0_kinds_1 7 rfl rfl)
theorem dX0_kinds_33 : decode cX0_kinds 33 = .ok (.getfield 146, 3) := dk_180 0 146 (dk_at dksX0_kinds_1 10 rfl rfl)
theorem dX0_kinds_36 : decode cX0_kinds 36 = .ok (.iload_n 1, 1) := dk_27 (dk_at dksX0_kinds_1 13 rfl rfl)
theorem dX0_kinds_37 : decode cX0_kinds 37 = .ok (.aaload, 1) := dk_50 (dk_at dksX0_kinds_1 14 rfl rfl)
theorem dX0_kinds_38 : decode cX0_kinds 38 = .ok (.astore_n 3, 1) := dk_78 (dk_at dksX0_kinds_1 15 rfl rfl)
theorem dX0_kinds_39 : decode cX0_kinds 39 = .ok (.iconst 0, 1) := dk_3 (dk_at dksX0_kinds_1 16 rfl rfl)
theorem dX0_kinds_40 : decode cX0_kinds 40 = .ok (.istore 4, 2) := dk_54 4 (dk_at dksX0_kinds_1 17 rfl rfl)
theorem dX0_kinds_42 : decode cX0_kinds 42 = .ok (.iconst 0, 1) := dk_3 (dk_at dksX0_kinds_1 19 rfl rfl)
theorem dX0_kinds_43 : decode cX0_kinds 43 = .ok (.istore 5, 2) := dk_54 5 (dk_at dksX0_kinds_1 20 rfl rfl)
theorem dX0_kinds_45 : decode cX0_kinds 45 = .ok (.iload 5, 2) := dk_21 5 (dk_at dksX0_kinds_1 22 rfl rfl)
theorem dX0_kinds_47 : decode cX0_kinds 47 = .ok (.bipush 6, 2) := dk_16 6 (dk_at dksX0_kinds_2 0 rfl rfl)
theorem dX0_kinds_49 : decode cX0_kinds 49 = .ok (.if_icmp .ge 44, 3) := dk_162 0 44 (dk_at dksX0_kinds_2 2 rfl rfl)
theorem dX0_kinds_52 : decode cX0_kinds 52 = .ok (.iload 4, 2) := dk_21 4 (dk_at dksX0_kinds_2 5 rfl rfl)
theorem dX0_kinds_54 : decode cX0_kinds 54 = .ok (.aload_n 0, 1) := dk_42 (dk_at dksX0_kinds_2 7 rfl rfl)
theorem dX0_kinds_55 : decode cX0_kinds 55 = .ok (.iload 5, 2) := dk_21 5 (dk_at dksX0_kinds_2 8 rfl rfl)
theorem dX0_kinds_57 : decode cX0_kinds 57 = .ok (.iload_n 1, 1) := dk_27 (dk_at dksX0_kinds_2 10 rfl rfl)
theorem dX0_kinds_58 : decode cX0_kinds 58 = .ok (.aload_n 3, 1) := dk_45 (dk_at dksX0_kinds_2 11 rfl rfl)
theorem dX0_kinds_59 : decode cX0_kinds 59 = .ok (.getfield 158, 3) := dk_180 0 158 (dk_at dksX0_kinds_2 12 rfl rfl)
theorem dX0_kinds_62 : decode cX0_kinds 62 = .ok (.aload_n 3, 1) := dk_45 (dk_at dksX0_kinds_2 15 rfl rfl)
theorem dX0_kinds_63 : decode cX0_kinds 63 = .ok (.getfield 236, 3) := dk_180 0 236 (dk_at dksX0_kinds_2 16 rfl rfl)
theorem dX0_kinds_66 : decode cX0_kinds 66 = .ok (.invokestatic 314, 3) := dk_184 1 58 (dk_at dksX0_kinds_2 19 rfl rfl)
theorem dX0_kinds_69 : decode cX0_kinds 69 = .ok (.invokevirtual 161, 3) := dk_182 0 161 (dk_at dksX0_kinds_3 0 rfl rfl)
theorem dX0_kinds_72 : decode cX0_kinds 72 = .ok (.iload_n 2, 1) := dk_28 (dk_at dksX0_kinds_3 3 rfl rfl)
theorem dX0_kinds_73 : decode cX0_kinds 73 = .ok (.if_icmp .ne 10, 3) := dk_160 0 10 (dk_at dksX0_kinds_3 4 rfl rfl)
theorem dX0_kinds_76 : decode cX0_kinds 76 = .ok (.iconst 1, 1) := dk_4 (dk_at dksX0_kinds_3 7 rfl rfl)
theorem dX0_kinds_77 : decode cX0_kinds 77 = .ok (.iload 5, 2) := dk_21 5 (dk_at dksX0_kinds_3 8 rfl rfl)
theorem dX0_kinds_79 : decode cX0_kinds 79 = .ok (.ishl, 1) := dk_120 (dk_at dksX0_kinds_3 10 rfl rfl)
theorem dX0_kinds_80 : decode cX0_kinds 80 = .ok (.goto 4, 3) := dk_167 0 4 (dk_at dksX0_kinds_3 11 rfl rfl)
theorem dX0_kinds_83 : decode cX0_kinds 83 = .ok (.iconst 0, 1) := dk_3 (dk_at dksX0_kinds_3 14 rfl rfl)
theorem dX0_kinds_84 : decode cX0_kinds 84 = .ok (.ior, 1) := dk_128 (dk_at dksX0_kinds_3 15 rfl rfl)
theorem dX0_kinds_85 : decode cX0_kinds 85 = .ok (.istore 4, 2) := dk_54 4 (dk_at dksX0_kinds_3 16 rfl rfl)
theorem dX0_kinds_87 : decode cX0_kinds 87 = .ok (.iinc 5 1, 3) := dk_132 5 1 (dk_at dksX0_kinds_3 18 rfl rfl)
theorem dX0_kinds_90 : decode cX0_kinds 90 = .ok (.goto (-45), 3) := dk_167 255 211 (dk_at dksX0_kinds_3 21 rfl rfl)
theorem dX0_kinds_93 : decode cX0_kinds 93 = .ok (.iload 4, 2) := dk_21 4 (dk_at dksX0_kinds_4 0 rfl rfl)
theorem dX0_kinds_95 : decode cX0_kinds 95 = .ok (.ireturn, 1) := dk_172 (dk_at dksX0_kinds_4 2 rfl rfl)
def dkwX0_apart_2 : List UInt8 := [42, 182, 1, 74, 172]
abbrev dktX0_apart_2 : List UInt8 := dkwX0_apart_2 ++ []
def dkwX0_apart_1 : List UInt8 := [182, 1, 54, 61, 27, 154, 0, 7, 28, 167, 0, 19, 27, 4, 160, 0, 10, 42, 182, 1, 71, 167, 0, 7]
abbrev dktX0_apart_1 : List UInt8 := dkwX0_apart_1 ++ dktX0_apart_2
def dkwX0_apart_0 : List UInt8 := [27, 3, 5, 184, 0, 71, 154, 0, 10, 42, 16, 254, 182, 0, 91, 172, 42, 42, 182, 1, 44, 1]
abbrev dktX0_apart_0 : List UInt8 := dkwX0_apart_0 ++ dktX0_apart_1
theorem dksX0_apart_0 : cX0_apart.data.toList.drop 0 = dktX0_apart_0 := by decide +kernel
theorem dksX0_apart_1 : cX0_apart.data.toList.drop 22 = dktX0_apart_1 := dk_seg dksX0_apart_0 22 rfl rfl
theorem dksX0_apart_2 : cX0_apart.data.toList.drop 46 = dktX0_apart_2 := dk_seg dksX0_apart_1 24 rfl rfl
theorem dX0_apart_0 : decode cX0_apart 0 = .ok (.iload_n 1, 1) := dk_27 (dk_at dksX0_apart_0 0 rfl rfl)
theorem dX0_apart_1 : decode cX0_apart 1 = .ok (.iconst 0, 1) := dk_3 (dk_at dksX0_apart_0 1 rfl rfl)
theorem dX0_apart_2 : decode cX0_apart 2 = .ok (.iconst 2, 1) := dk_5 (dk_at dksX0_apart_0 2 rfl rfl)
theorem dX0_apart_3 : decode cX0_apart 3 = .ok (.invokestatic 71, 3) := dk_184 0 71 (dk_at dksX0_apart_0 3 rfl rfl)
theorem dX0_apart_6 : decode cX0_apart 6 = .ok (.ifCond .ne 10, 3) := dk_154 0 10 (dk_at dksX0_apart_0 6 rfl rfl)
theorem dX0_apart_9 : decode cX0_apart 9 = .ok (.aload_n 0, 1) := dk_42 (dk_at dksX0_apart_0 9 rfl rfl)
theorem dX0_apart_10 : decode cX0_apart 10 = .ok (.bipush (-2), 2) := dk_16 254 (dk_at dksX0_apart_0 10 rfl rfl)
theorem dX0_apart_12 : decode cX0_apart 12 = .ok (.invokevirtual 91, 3) := dk_182 0 91 (dk_at dksX0_apart_0 12 rfl rfl)
theorem dX0_apart_15 : decode cX0_apart 15 = .ok (.ireturn, 1) := dk_172 (dk_at dksX0_apart_0 15 rfl rfl)
theorem dX0_apart_16 : decode cX0_apart 16 = .ok (.aload_n 0, 1) := dk_42 (dk_at dksX0_apart_0 16 rfl rfl)
theorem dX0_apart_17 : decode cX0_apart 17 = .ok (.aload_n 0, 1) := dk_42 (dk_at dksX0_apart_0 17 rfl rfl)
theorem dX0_apart_18 : decode cX0_apart 18 = .ok (.invokevirtual 300, 3) := dk_182 1 44 (dk_at dksX0_apart_0 18 rfl rfl)
theorem dX0_apart_21 : decode cX0_apart 21 = .ok (.aconst_null, 1) := dk_1 (dk_at dksX0_apart_0 21 rfl rfl)
theorem dX0_apart_22 : decode cX0_apart 22 = .ok (.invokevirtual 310, 3) := dk_182 1 54 (dk_at dksX0_apart_1 0 rfl rfl)
theorem dX0_apart_25 : decode cX0_apart 25 = .ok (.istore_n 2, 1) := dk_61 (dk_at dksX0_apart_1 3 rfl rfl)
theorem dX0_apart_26 : decode cX0_apart 26 = .ok (.iload_n 1, 1) := dk_27 (dk_at dksX0_apart_1 4 rfl rfl)
theorem dX0_apart_27 : decode cX0_apart 27 = .ok (.ifCond .ne 7, 3) := dk_154 0 7 (dk_at dksX0_apart_1 5 rfl rfl)
theorem dX0_apart_30 : decode cX0_apart 30 = .ok (.iload_n 2, 1) := dk_28 (dk_at dksX0_apart_1 8 rfl rfl)
theorem dX0_apart_31 : decode cX0_apart 31 = .ok (.goto 19, 3) := dk_167 0 19 (dk_at dksX0_apart_1 9 rfl rfl)
theorem dX0_apart_34 : decode cX0_apart 34 = .ok (.iload_n 1, 1) := dk_27 (dk_at dksX0_apart_1 12 rfl rfl)
theorem dX0_apart_35 : decode cX0_apart 35 = .ok (.iconst 1, 1) := dk_4 (dk_at dksX0_apart_1 13 rfl rfl)
theorem dX0_apart_36 : decode cX0_apart 36 = .ok (.if_icmp .ne 10, 3) := dk_160 0 10 (dk_at dksX0_apart_1 14 rfl rfl)
theorem dX0_apart_39 : decode cX0_apart 39 = .ok (.aload_n 0, 1) := dk_42 (dk_at dksX0_apart_1 17 rfl rfl)
theorem dX0_apart_40 : decode cX0_apart 40 = .ok (.invokevirtual 327, 3) := dk_182 1 71 (dk_at dksX0_apart_1 18 rfl rfl)
theorem dX0_apart_43 : decode cX0_apart 43 = .ok (.goto 7, 3) := dk_167 0 7 (dk_at dksX0_apart_1 21 rfl rfl)
theorem dX0_apart_46 : decode cX0_apart 46 = .ok (.aload_n 0, 1) := dk_42 (dk_at dksX0_apart_2 0 rfl rfl)
theorem dX0_apart_47 : decode cX0_apart 47 = .ok (.invokevirtual 330, 3) := dk_182 1 74 (dk_at dksX0_apart_2 1 rfl rfl)
theorem dX0_apart_50 : decode cX0_apart 50 = .ok (.ireturn, 1) := dk_172 (dk_at dksX0_apart_2 4 rfl rfl)
def dkwX0_greatest_1 : List UInt8 := [184, 1, 24, 60, 42, 180, 0, 42, 28, 182, 1, 9, 61, 167, 255, 232, 27, 172]
abbrev dktX0_greatest_1 : List UInt8 := dkwX0_greatest_1 ++ []
def dkwX0_greatest_0 : List UInt8 := [3, 60, 42, 180, 0, 42, 2, 182, 1, 9, 61, 28, 2, 159, 0, 25, 27, 42, 28, 182, 1, 51]
abbrev dktX0_greatest_0 : List UInt8 := dkwX0_greatest_0 ++ dktX0_greatest_1
theorem dksX0_greatest_0 : cX0_greatest.data.toList.drop 0 = dktX0_greatest_0 := by decide +kernel
theorem dksX0_greatest_1 : cX0_greatest.data.toList.drop 22 = dktX0_greatest_1 := dk_seg dksX0_greatest_0 22 rfl rfl
theorem dX0_greatest_0 : decode cX0_greatest 0 = .ok (.iconst 0, 1) := dk_3 (dk_at dksX0_greatest_0 0 rfl rfl)
theorem dX0_greatest_1 : decode cX0_greatest 1 = .ok (.istore_n 1, 1) := dk_60 (dk_at dksX0_greatest_0 1 rfl rfl)
theorem dX0_greatest_2 : decode cX0_greatest 2 = .ok (.aload_n 0, 1) := dk_42 (dk_at dksX0_greatest_0 2 rfl rfl)
theorem dX0_greatest_3 : decode cX0_greatest 3 = .ok (.getfield 42, 3) := dk_180 0 42 (dk_at dksX0_greatest_0 3 rfl rfl)
theorem dX0_greatest_6 : decode cX0_greatest 6 = .ok (.iconst (-1), 1) := dk_2 (dk_at dksX0_greatest_0 6 rfl rfl)
theorem dX0_greatest_7 : decode cX0_greatest 7 = .ok (.invokevirtual 265, 3) := dk_182 1 9 (dk_at dksX0_greatest_0 7 rfl rfl)
theorem dX0_greatest_10 : decode cX0_greatest 10 = .ok (.istore_n 2, 1) := dk_61 (dk_at dksX0_greatest_0 10 rfl rfl)
theorem dX0_greatest_11 : decode cX0_greatest 11 = .ok (.iload_n 2, 1) := dk_28 (dk_at dksX0_greatest_0 11 rfl rfl)
theorem dX0_greatest_12 : decode cX0_greatest 12 = .ok (.iconst (-1), 1) := dk_2 (dk_at dksX0_greatest_0 12 rfl rfl)
theorem dX0_greatest_13 : decode cX0_greatest 13 = .ok (.if_icmp .eq 25, 3) := dk_159 0 25 (dk_at dksX0_greatest_0 13 rfl rfl)
theorem dX0_greatest_16 : decode cX0_greatest 16 = .ok (.iload_n 1, 1) := dk_27 (dk_at dksX0_greatest_0 16 rfl rfl)
theorem dX0_greatest_17 : decode cX0_greatest 17 = .ok (.aload_n 0, 1) := dk_42 (dk_at dksX0_greatest_0 17 rfl rfl)
theorem dX0_greatest_18 : decode cX0_greatest 18 = .ok (.iload_n 2, 1) := dk_28 (dk_at dksX0_greatest_0 18 rfl rfl)
theorem dX0_greatest_19 : decode cX0_greatest 19 = .ok (.invokevirtual 307, 3) := dk_182 1 51 (dk_at dksX0_greatest_0 19 rfl rfl)
theorem dX0_greatest_22 : decode cX0_greatest 22 = .ok (.invokestatic 280, 3) := dk_184 1 24 (dk_at dksX0_greatest_1 0 rfl rfl)
theorem dX0_greatest_25 : decode cX0_greatest 25 = .ok (.istore_n 1, 1) := dk_60 (dk_at dksX0_greatest_1 3 rfl rfl)
theorem dX0_greatest_26 : decode cX0_greatest 26 = .ok (.aload_n 0, 1) := dk_42 (dk_at dksX0_greatest_1 4 rfl rfl)
theorem dX0_greatest_27 : decode cX0_greatest 27 = .ok (.getfield 42, 3) := dk_180 0 42 (dk_at dksX0_greatest_1 5 rfl rfl)
theorem dX0_greatest_30 : decode cX0_greatest 30 = .ok (.iload_n 2, 1) := dk_28 (dk_at dksX0_greatest_1 8 rfl rfl)
theorem dX0_greatest_31 : decode cX0_greatest 31 = .ok (.invokevirtual 265, 3) := dk_182 1 9 (dk_at dksX0_greatest_1 9 rfl rfl)
theorem dX0_greatest_34 : decode cX0_greatest 34 = .ok (.istore_n 2, 1) := dk_61 (dk_at dksX0_greatest_1 12 rfl rfl)
theorem dX0_greatest_35 : decode cX0_greatest 35 = .ok (.goto (-24), 3) := dk_167 255 232 (dk_at dksX0_greatest_1 13 rfl rfl)
theorem dX0_greatest_38 : decode cX0_greatest 38 = .ok (.iload_n 1, 1) := dk_27 (dk_at dksX0_greatest_1 16 rfl rfl)
theorem dX0_greatest_39 : decode cX0_greatest 39 = .ok (.ireturn, 1) := dk_172 (dk_at dksX0_greatest_1 17 rfl rfl)
def dkwX0_blind_2 : List UInt8 := [172]
abbrev dktX0_blind_2 : List UInt8 := dkwX0_blind_2 ++ []
def dkwX0_blind_1 : List UInt8 := [148, 154, 0, 7, 4, 167, 0, 4, 3, 96, 60, 42, 180, 0, 42, 28, 182, 1, 9, 61, 167, 255, 223, 27]
abbrev dktX0_blind_1 : List UInt8 := dkwX0_blind_1 ++ dktX0_blind_2
def dkwX0_blind_0 : List UInt8 := [3, 60, 42, 180, 0, 42, 2, 182, 1, 9, 61, 28, 2, 159, 0, 34, 27, 42, 180, 0, 53, 28, 47, 9]
abbrev dktX0_blind_0 : List UInt8 := dkwX0_blind_0 ++ dktX0_blind_1
theorem dksX0_blind_0 : cX0_blind.data.toList.drop 0 = dktX0_blind_0 := by decide +kernel
theorem dksX0_blind_1 : cX0_blind.data.toList.drop 24 = dktX0_blind_1 := dk_seg dksX0_blind_0 24 rfl rfl
theorem dksX0_blind_2 : cX0_blind.data.toList.drop 48 = dktX0_blind_2 := dk_seg dksX0_blind_1 24 rfl rfl
theorem dX0_blind_0 : decode cX0_blind 0 = .ok (.iconst 0, 1) := dk_3 (dk_at dksX0_blind_0 0 rfl rfl)
theorem dX0_blind_1 : decode cX0_blind 1 = .ok (.istore_n 1, 1) := dk_60 (dk_at dksX0_blind_0 1 rfl rfl)
theorem dX0_blind_2 : decode cX0_blind 2 = .ok (.aload_n 0, 1) := dk_42 (dk_at dksX0_blind_0 2 rfl rfl)
theorem dX0_blind_3 : decode cX0_blind 3 = .ok (.getfield 42, 3) := dk_180 0 42 (dk_at dksX0_blind_0 3 rfl rfl)
theorem dX0_blind_6 : decode cX0_blind 6 = .ok (.iconst (-1), 1) := dk_2 (dk_at dksX0_blind_0 6 rfl rfl)
theorem dX0_blind_7 : decode cX0_blind 7 = .ok (.invokevirtual 265, 3) := dk_182 1 9 (dk_at dksX0_blind_0 7 rfl rfl)
theorem dX0_blind_10 : decode cX0_blind 10 = .ok (.istore_n 2, 1) := dk_61 (dk_at dksX0_blind_0 10 rfl rfl)
theorem dX0_blind_11 : decode cX0_blind 11 = .ok (.iload_n 2, 1) := dk_28 (dk_at dksX0_blind_0 11 rfl rfl)
theorem dX0_blind_12 : decode cX0_blind 12 = .ok (.iconst (-1), 1) := dk_2 (dk_at dksX0_blind_0 12 rfl rfl)
theorem dX0_blind_13 : decode cX0_blind 13 = .ok (.if_icmp .eq 34, 3) := dk_159 0 34 (dk_at dksX0_blind_0 13 rfl rfl)
theorem dX0_blind_16 : decode cX0_blind 16 = .ok (.iload_n 1, 1) := dk_27 (dk_at dksX0_blind_0 16 rfl rfl)
theorem dX0_blind_17 : decode cX0_blind 17 = .ok (.aload_n 0, 1) := dk_42 (dk_at dksX0_blind_0 17 rfl rfl)
theorem dX0_blind_18 : decode cX0_blind 18 = .ok (.getfield 53, 3) := dk_180 0 53 (dk_at dksX0_blind_0 18 rfl rfl)
theorem dX0_blind_21 : decode cX0_blind 21 = .ok (.iload_n 2, 1) := dk_28 (dk_at dksX0_blind_0 21 rfl rfl)
theorem dX0_blind_22 : decode cX0_blind 22 = .ok (.laload, 1) := dk_47 (dk_at dksX0_blind_0 22 rfl rfl)
theorem dX0_blind_23 : decode cX0_blind 23 = .ok (.lconst 0, 1) := dk_9 (dk_at dksX0_blind_0 23 rfl rfl)
theorem dX0_blind_24 : decode cX0_blind 24 = .ok (.lcmp, 1) := dk_148 (dk_at dksX0_blind_1 0 rfl rfl)
theorem dX0_blind_25 : decode cX0_blind 25 = .ok (.ifCond .ne 7, 3) := dk_154 0 7 (dk_at dksX0_blind_1 1 rfl rfl)
theorem dX0_blind_28 : decode cX0_blind 28 = .ok (.iconst 1, 1) := dk_4 (dk_at dksX0_blind_1 4 rfl rfl)
theorem dX0_blind_29 : decode cX0_blind 29 = .ok (.goto 4, 3) := dk_167 0 4 (dk_at dksX0_blind_1 5 rfl rfl)
theorem dX0_blind_32 : decode cX0_blind 32 = .ok (.iconst 0, 1) := dk_3 (dk_at dksX0_blind_1 8 rfl rfl)
theorem dX0_blind_33 : decode cX0_blind 33 = .ok (.iadd, 1) := dk_96 (dk_at dksX0_blind_1 9 rfl rfl)
theorem dX0_blind_34 : decode cX0_blind 34 = .ok (.istore_n 1, 1) := dk_60 (dk_at dksX0_blind_1 10 rfl rfl)
theorem dX0_blind_35 : decode cX0_blind 35 = .ok (.aload_n 0, 1) := dk_42 (dk_at dksX0_blind_1 11 rfl rfl)
theorem dX0_blind_36 : decode cX0_blind 36 = .ok (.getfield 42, 3) := dk_180 0 42 (dk_at dksX0_blind_1 12 rfl rfl)
theorem dX0_blind_39 : decode cX0_blind 39 = .ok (.iload_n 2, 1) := dk_28 (dk_at dksX0_blind_1 15 rfl rfl)
theorem dX0_blind_40 : decode cX0_blind 40 = .ok (.invokevirtual 265, 3) := dk_182 1 9 (dk_at dksX0_blind_1 16 rfl rfl)
theorem dX0_blind_43 : decode cX0_blind 43 = .ok (.istore_n 2, 1) := dk_61 (dk_at dksX0_blind_1 19 rfl rfl)
theorem dX0_blind_44 : decode cX0_blind 44 = .ok (.goto (-33), 3) := dk_167 255 223 (dk_at dksX0_blind_1 20 rfl rfl)
theorem dX0_blind_47 : decode cX0_blind 47 = .ok (.iload_n 1, 1) := dk_27 (dk_at dksX0_blind_1 23 rfl rfl)
theorem dX0_blind_48 : decode cX0_blind 48 = .ok (.ireturn, 1) := dk_172 (dk_at dksX0_blind_2 0 rfl rfl)
def dkwX0_fewest_4 : List UInt8 := [154, 0, 10, 29, 184, 1, 77, 167, 0, 4, 29, 172]
abbrev dktX0_fewest_4 : List UInt8 := dkwX0_fewest_4 ++ []
def dkwX0_fewest_3 : List UInt8 := [21, 4, 1, 182, 1, 54, 28, 160, 0, 8, 21, 4, 167, 0, 4, 29, 62, 132, 4, 255, 167, 255, 206, 27]
abbrev dktX0_fewest_3 : List UInt8 := dkwX0_fewest_3 ++ dktX0_fewest_4
def dkwX0_fewest_2 : List UInt8 := [184, 1, 77, 29, 184, 1, 77, 163, 0, 7, 4, 167, 0, 4, 3, 54, 5, 21, 5, 153, 0, 19, 42]
abbrev dktX0_fewest_2 : List UInt8 := dkwX0_fewest_2 ++ dktX0_fewest_3
def dkwX0_fewest_1 : List UInt8 := [182, 1, 54, 61, 42, 182, 1, 44, 62, 42, 182, 1, 44, 54, 4, 21, 4, 155, 0, 51, 21, 4]
abbrev dktX0_fewest_1 : List UInt8 := dkwX0_fewest_1 ++ dktX0_fewest_2
def dkwX0_fewest_0 : List UInt8 := [27, 3, 4, 184, 0, 71, 154, 0, 10, 42, 16, 254, 182, 0, 91, 172, 42, 42, 182, 1, 44, 1]
abbrev dktX0_fewest_0 : List UInt8 := dkwX0_fewest_0 ++ dktX0_fewest_1
theorem dksX0_fewest_0 : cX0_fewest.data.toList.drop 0 = dktX0_fewest_0 := by decide +kernel
theorem dksX0_fewest_1 : cX0_fewest.data.toList.drop 22 = dktX0_fewest_1 := dk_seg dksX0_fewest_0 22 rfl rfl
theorem dksX0_fewest_2 : cX0_fewest.data.toList.drop 44 = dktX0_fewest_2 := dk_seg dksX0_fewest_1 22 rfl rfl
theorem dksX0_fewest_3 : cX0_fewest.data.toList.drop 67 = dktX0_fewest_3 := dk_seg dksX0_fewest_2 23 rfl rfl
theorem dksX0_fewest_4 : cX0_fewest.data.toList.drop 91 = dktX0_fewest_4 := dk_seg dksX0_fewest_3 24 rfl rfl
theorem dX0_fewest_0 : decode cX0_fewest 0 = .ok (.iload_n 1, 1) := dk_27 (dk_at dksX0_fewest_0 0 rfl rfl)
theorem dX0_fewest_1 : decode cX0_fewest 1 = .ok (.iconst 0, 1) := dk_3 (dk_at dksX0_fewest_0 1 rfl rfl)
theorem dX0_fewest_2 : decode cX0_fewest 2 = .ok (.iconst 1, 1) := dk_4 (dk_at dksX0_fewest_0 2 rfl rfl)
theorem dX0_fewest_3 : decode cX0_fewest 3 = .ok (.invokestatic 71, 3) := dk_184 0 71 (dk_at dksX0_fewest_0 3 rfl rfl)
theorem dX0_fewest_6 : decode cX0_fewest 6 = .ok (.ifCond .ne 10, 3) := dk_154 0 10 (dk_at dksX0_fewest_0 6 rfl rfl)
theorem dX0_fewest_9 : decode cX0_fewest 9 = .ok (.aload_n 0, 1) := dk_42 (dk_at dksX0_fewest_0 9 rfl rfl)
theorem dX0_fewest_10 : decode cX0_fewest 10 = .ok (.bipush (-2), 2) := dk_16 254 (dk_at dksX0_fewest_0 10 rfl rfl)
theorem dX0_fewest_12 : decode cX0_fewest 12 = .ok (.invokevirtual 91, 3) := dk_182 0 91 (dk_at dksX0_fewest_0 12 rfl rfl)
theorem dX0_fewest_15 : decode cX0_fewest 15 = .ok (.ireturn, 1) := dk_172 (dk_at dksX0_fewest_0 15 rfl rfl)
theorem dX0_fewest_16 : decode cX0_fewest 16 = .ok (.aload_n 0, 1) := dk_42 (dk_at dksX0_fewest_0 16 rfl rfl)
theorem dX0_fewest_17 : decode cX0_fewest 17 = .ok (.aload_n 0, 1) := dk_42 (dk_at dksX0_fewest_0 17 rfl rfl)
theorem dX0_fewest_18 : decode cX0_fewest 18 = .ok (.invokevirtual 300, 3) := dk_182 1 44 (dk_at dksX0_fewest_0 18 rfl rfl)
theorem dX0_fewest_21 : decode cX0_fewest 21 = .ok (.aconst_null, 1) := dk_1 (dk_at dksX0_fewest_0 21 rfl rfl)
theorem dX0_fewest_22 : decode cX0_fewest 22 = .ok (.invokevirtual 310, 3) := dk_182 1 54 (dk_at dksX0_fewest_1 0 rfl rfl)
theorem dX0_fewest_25 : decode cX0_fewest 25 = .ok (.istore_n 2, 1) := dk_61 (dk_at dksX0_fewest_1 3 rfl rfl)
theorem dX0_fewest_26 : decode cX0_fewest 26 = .ok (.aload_n 0, 1) := dk_42 (dk_at dksX0_fewest_1 4 rfl rfl)
theorem dX0_fewest_27 : decode cX0_fewest 27 = .ok (.invokevirtual 300, 3) := dk_182 1 44 (dk_at dksX0_fewest_1 5 rfl rfl)
theorem dX0_fewest_30 : decode cX0_fewest 30 = .ok (.istore_n 3, 1) := dk_62 (dk_at dksX0_fewest_1 8 rfl rfl)
theorem dX0_fewest_31 : decode cX0_fewest 31 = .ok (.aload_n 0, 1) := dk_42 (dk_at dksX0_fewest_1 9 rfl rfl)
theorem dX0_fewest_32 : decode cX0_fewest 32 = .ok (.invokevirtual 300, 3) := dk_182 1 44 (dk_at dksX0_fewest_1 10 rfl rfl)
theorem dX0_fewest_35 : decode cX0_fewest 35 = .ok (.istore 4, 2) := dk_54 4 (dk_at dksX0_fewest_1 13 rfl rfl)
theorem dX0_fewest_37 : decode cX0_fewest 37 = .ok (.iload 4, 2) := dk_21 4 (dk_at dksX0_fewest_1 15 rfl rfl)
theorem dX0_fewest_39 : decode cX0_fewest 39 = .ok (.ifCond .lt 51, 3) := dk_155 0 51 (dk_at dksX0_fewest_1 17 rfl rfl)
theorem dX0_fewest_42 : decode cX0_fewest 42 = .ok (.iload 4, 2) := dk_21 4 (dk_at dksX0_fewest_1 20 rfl rfl)
theorem dX0_fewest_44 : decode cX0_fewest 44 = .ok (.invokestatic 333, 3) := dk_184 1 77 (dk_at dksX0_fewest_2 0 rfl rfl)
theorem dX0_fewest_47 : decode cX0_fewest 47 = .ok (.iload_n 3, 1) := dk_29 (dk_at dksX0_fewest_2 3 rfl rfl)
theorem dX0_fewest_48 : decode cX0_fewest 48 = .ok (.invokestatic 333, 3) := dk_184 1 77 (dk_at dksX0_fewest_2 4 rfl rfl)
theorem dX0_fewest_51 : decode cX0_fewest 51 = .ok (.if_icmp .gt 7, 3) := dk_163 0 7 (dk_at dksX0_fewest_2 7 rfl rfl)
theorem dX0_fewest_54 : decode cX0_fewest 54 = .ok (.iconst 1, 1) := dk_4 (dk_at dksX0_fewest_2 10 rfl rfl)
theorem dX0_fewest_55 : decode cX0_fewest 55 = .ok (.goto 4, 3) := dk_167 0 4 (dk_at dksX0_fewest_2 11 rfl rfl)
theorem dX0_fewest_58 : decode cX0_fewest 58 = .ok (.iconst 0, 1) := dk_3 (dk_at dksX0_fewest_2 14 rfl rfl)
theorem dX0_fewest_59 : decode cX0_fewest 59 = .ok (.istore 5, 2) := dk_54 5 (dk_at dksX0_fewest_2 15 rfl rfl)
theorem dX0_fewest_61 : decode cX0_fewest 61 = .ok (.iload 5, 2) := dk_21 5 (dk_at dksX0_fewest_2 17 rfl rfl)
theorem dX0_fewest_63 : decode cX0_fewest 63 = .ok (.ifCond .eq 19, 3) := dk_153 0 19 (dk_at dksX0_fewest_2 19 rfl rfl)
theorem dX0_fewest_66 : decode cX0_fewest 66 = .ok (.aload_n 0, 1) := dk_42 (dk_at dksX0_fewest_2 22 rfl rfl)
theorem dX0_fewest_67 : decode cX0_fewest 67 = .ok (.iload 4, 2) := dk_21 4 (dk_at dksX0_fewest_3 0 rfl rfl)
theorem dX0_fewest_69 : decode cX0_fewest 69 = .ok (.aconst_null, 1) := dk_1 (dk_at dksX0_fewest_3 2 rfl rfl)
theorem dX0_fewest_70 : decode cX0_fewest 70 = .ok (.invokevirtual 310, 3) := dk_182 1 54 (dk_at dksX0_fewest_3 3 rfl rfl)
theorem dX0_fewest_73 : decode cX0_fewest 73 = .ok (.iload_n 2, 1) := dk_28 (dk_at dksX0_fewest_3 6 rfl rfl)
theorem dX0_fewest_74 : decode cX0_fewest 74 = .ok (.if_icmp .ne 8, 3) := dk_160 0 8 (dk_at dksX0_fewest_3 7 rfl rfl)
theorem dX0_fewest_77 : decode cX0_fewest 77 = .ok (.iload 4, 2) := dk_21 4 (dk_at dksX0_fewest_3 10 rfl rfl)
theorem dX0_fewest_79 : decode cX0_fewest 79 = .ok (.goto 4, 3) := dk_167 0 4 (dk_at dksX0_fewest_3 12 rfl rfl)
theorem dX0_fewest_82 : decode cX0_fewest 82 = .ok (.iload_n 3, 1) := dk_29 (dk_at dksX0_fewest_3 15 rfl rfl)
theorem dX0_fewest_83 : decode cX0_fewest 83 = .ok (.istore_n 3, 1) := dk_62 (dk_at dksX0_fewest_3 16 rfl rfl)
theorem dX0_fewest_84 : decode cX0_fewest 84 = .ok (.iinc 4 (-1), 3) := dk_132 4 255 (dk_at dksX0_fewest_3 17 rfl rfl)
theorem dX0_fewest_87 : decode cX0_fewest 87 = .ok (.goto (-50), 3) := dk_167 255 206 (dk_at dksX0_fewest_3 20 rfl rfl)
theorem dX0_fewest_90 : decode cX0_fewest 90 = .ok (.iload_n 1, 1) := dk_27 (dk_at dksX0_fewest_3 23 rfl rfl)
theorem dX0_fewest_91 : decode cX0_fewest 91 = .ok (.ifCond .ne 10, 3) := dk_154 0 10 (dk_at dksX0_fewest_4 0 rfl rfl)
theorem dX0_fewest_94 : decode cX0_fewest 94 = .ok (.iload_n 3, 1) := dk_29 (dk_at dksX0_fewest_4 3 rfl rfl)
theorem dX0_fewest_95 : decode cX0_fewest 95 = .ok (.invokestatic 333, 3) := dk_184 1 77 (dk_at dksX0_fewest_4 4 rfl rfl)
theorem dX0_fewest_98 : decode cX0_fewest 98 = .ok (.goto 4, 3) := dk_167 0 4 (dk_at dksX0_fewest_4 7 rfl rfl)
theorem dX0_fewest_101 : decode cX0_fewest 101 = .ok (.iload_n 3, 1) := dk_29 (dk_at dksX0_fewest_4 10 rfl rfl)
theorem dX0_fewest_102 : decode cX0_fewest 102 = .ok (.ireturn, 1) := dk_172 (dk_at dksX0_fewest_4 11 rfl rfl)
def dkwX0_more_2 : List UInt8 := [164, 0, 7, 29, 167, 0, 4, 27, 60, 28, 21, 4, 184, 1, 24, 61, 132, 3, 1, 167, 255, 195, 27, 172]
abbrev dktX0_more_2 : List UInt8 := dkwX0_more_2 ++ []
def dkwX0_more_1 : List UInt8 := [42, 42, 182, 1, 44, 187, 0, 13, 89, 16, 8, 3, 29, 183, 0, 15, 182, 1, 54, 54, 4, 21, 4, 28]
abbrev dktX0_more_1 : List UInt8 := dkwX0_more_1 ++ dktX0_more_2
def dkwX0_more_0 : List UInt8 := [2, 60, 2, 61, 3, 62, 29, 16, 70, 162, 0, 61, 42, 180, 0, 42, 29, 133, 182, 0, 170, 153, 0, 43]
abbrev dktX0_more_0 : List UInt8 := dkwX0_more_0 ++ dktX0_more_1
theorem dksX0_more_0 : cX0_more.data.toList.drop 0 = dktX0_more_0 := by decide +kernel
theorem dksX0_more_1 : cX0_more.data.toList.drop 24 = dktX0_more_1 := dk_seg dksX0_more_0 24 rfl rfl
theorem dksX0_more_2 : cX0_more.data.toList.drop 48 = dktX0_more_2 := dk_seg dksX0_more_1 24 rfl rfl
theorem dX0_more_0 : decode cX0_more 0 = .ok (.iconst (-1), 1) := dk_2 (dk_at dksX0_more_0 0 rfl rfl)
theorem dX0_more_1 : decode cX0_more 1 = .ok (.istore_n 1, 1) := dk_60 (dk_at dksX0_more_0 1 rfl rfl)
theorem dX0_more_2 : decode cX0_more 2 = .ok (.iconst (-1), 1) := dk_2 (dk_at dksX0_more_0 2 rfl rfl)
theorem dX0_more_3 : decode cX0_more 3 = .ok (.istore_n 2, 1) := dk_61 (dk_at dksX0_more_0 3 rfl rfl)
theorem dX0_more_4 : decode cX0_more 4 = .ok (.iconst 0, 1) := dk_3 (dk_at dksX0_more_0 4 rfl rfl)
theorem dX0_more_5 : decode cX0_more 5 = .ok (.istore_n 3, 1) := dk_62 (dk_at dksX0_more_0 5 rfl rfl)
theorem dX0_more_6 : decode cX0_more 6 = .ok (.iload_n 3, 1) := dk_29 (dk_at dksX0_more_0 6 rfl rfl)
theorem dX0_more_7 : decode cX0_more 7 = .ok (.bipush 70, 2) := dk_16 70 (dk_at dksX0_more_0 7 rfl rfl)
theorem dX0_more_9 : decode cX0_more 9 = .ok (.if_icmp .ge 61, 3) := dk_162 0 61 (dk_at dksX0_more_0 9 rfl rfl)
theorem dX0_more_12 : decode cX0_more 12 = .ok (.aload_n 0, 1) := dk_42 (dk_at dksX0_more_0 12 rfl rfl)
theorem dX0_more_13 : decode cX0_more 13 = .ok (.getfield 42, 3) := dk_180 0 42 (dk_at dksX0_more_0 13 rfl rfl)
theorem dX0_more_16 : decode cX0_more 16 = .ok (.iload_n 3, 1) := dk_29 (dk_at dksX0_more_0 16 rfl rfl)
theorem dX0_more_17 : decode cX0_more 17 = .ok (.i2l, 1) := dk_133 (dk_at dksX0_more_0 17 rfl rfl)
theorem dX0_more_18 : decode cX0_more 18 = .ok (.invokevirtual 170, 3) := dk_182 0 170 (dk_at dksX0_more_0 18 rfl rfl)
theorem dX0_more_21 : decode cX0_more 21 = .ok (.ifCond .eq 43, 3) := dk_153 0 43 (dk_at dksX0_more_0 21 rfl rfl)
theorem dX0_more_24 : decode cX0_more 24 = .ok (.aload_n 0, 1) := dk_42 (dk_at dksX0_more_1 0 rfl rfl)
theorem dX0_more_25 : decode cX0_more 25 = .ok (.aload_n 0, 1) := dk_42 (dk_at dksX0_more_1 1 rfl rfl)
theorem dX0_more_26 : decode cX0_more 26 = .ok (.invokevirtual 300, 3) := dk_182 1 44 (dk_at dksX0_more_1 2 rfl rfl)
theorem dX0_more_29 : decode cX0_more 29 = .ok (.new 13, 3) := dk_187 0 13 (dk_at dksX0_more_1 5 rfl rfl)
theorem dX0_more_32 : decode cX0_more 32 = .ok (.dup, 1) := dk_89 (dk_at dksX0_more_1 8 rfl rfl)
theorem dX0_more_33 : decode cX0_more 33 = .ok (.bipush 8, 2) := dk_16 8 (dk_at dksX0_more_1 9 rfl rfl)
theorem dX0_more_35 : decode cX0_more 35 = .ok (.iconst 0, 1) := dk_3 (dk_at dksX0_more_1 11 rfl rfl)
theorem dX0_more_36 : decode cX0_more 36 = .ok (.iload_n 3, 1) := dk_29 (dk_at dksX0_more_1 12 rfl rfl)
theorem dX0_more_37 : decode cX0_more 37 = .ok (.invokespecial 15, 3) := dk_183 0 15 (dk_at dksX0_more_1 13 rfl rfl)
theorem dX0_more_40 : decode cX0_more 40 = .ok (.invokevirtual 310, 3) := dk_182 1 54 (dk_at dksX0_more_1 16 rfl rfl)
theorem dX0_more_43 : decode cX0_more 43 = .ok (.istore 4, 2) := dk_54 4 (dk_at dksX0_more_1 19 rfl rfl)
theorem dX0_more_45 : decode cX0_more 45 = .ok (.iload 4, 2) := dk_21 4 (dk_at dksX0_more_1 21 rfl rfl)
theorem dX0_more_47 : decode cX0_more 47 = .ok (.iload_n 2, 1) := dk_28 (dk_at dksX0_more_1 23 rfl rfl)
theorem dX0_more_48 : decode cX0_more 48 = .ok (.if_icmp .le 7, 3) := dk_164 0 7 (dk_at dksX0_more_2 0 rfl rfl)
theorem dX0_more_51 : decode cX0_more 51 = .ok (.iload_n 3, 1) := dk_29 (dk_at dksX0_more_2 3 rfl rfl)
theorem dX0_more_52 : decode cX0_more 52 = .ok (.goto 4, 3) := dk_167 0 4 (dk_at dksX0_more_2 4 rfl rfl)
theorem dX0_more_55 : decode cX0_more 55 = .ok (.iload_n 1, 1) := dk_27 (dk_at dksX0_more_2 7 rfl rfl)
theorem dX0_more_56 : decode cX0_more 56 = .ok (.istore_n 1, 1) := dk_60 (dk_at dksX0_more_2 8 rfl rfl)
theorem dX0_more_57 : decode cX0_more 57 = .ok (.iload_n 2, 1) := dk_28 (dk_at dksX0_more_2 9 rfl rfl)
theorem dX0_more_58 : decode cX0_more 58 = .ok (.iload 4, 2) := dk_21 4 (dk_at dksX0_more_2 10 rfl rfl)
theorem dX0_more_60 : decode cX0_more 60 = .ok (.invokestatic 280, 3) := dk_184 1 24 (dk_at dksX0_more_2 12 rfl rfl)
theorem dX0_more_63 : decode cX0_more 63 = .ok (.istore_n 2, 1) := dk_61 (dk_at dksX0_more_2 15 rfl rfl)
theorem dX0_more_64 : decode cX0_more 64 = .ok (.iinc 3 1, 3) := dk_132 3 1 (dk_at dksX0_more_2 16 rfl rfl)
theorem dX0_more_67 : decode cX0_more 67 = .ok (.goto (-61), 3) := dk_167 255 195 (dk_at dksX0_more_2 19 rfl rfl)
theorem dX0_more_70 : decode cX0_more 70 = .ok (.iload_n 1, 1) := dk_27 (dk_at dksX0_more_2 22 rfl rfl)
theorem dX0_more_71 : decode cX0_more 71 = .ok (.ireturn, 1) := dk_172 (dk_at dksX0_more_2 23 rfl rfl)
def dkwX0_path_1 : List UInt8 := [42, 180, 0, 42, 27, 28, 182, 0, 244, 167, 0, 9, 42, 16, 254, 182, 0, 91, 172]
abbrev dktX0_path_1 : List UInt8 := dkwX0_path_1 ++ []
def dkwX0_path_0 : List UInt8 := [42, 180, 0, 42, 27, 133, 182, 0, 170, 153, 0, 27, 42, 180, 0, 42, 28, 133, 182, 0, 170, 153, 0, 15]
abbrev dktX0_path_0 : List UInt8 := dkwX0_path_0 ++ dktX0_path_1
theorem dksX0_path_0 : cX0_path.data.toList.drop 0 = dktX0_path_0 := by decide +kernel
theorem dksX0_path_1 : cX0_path.data.toList.drop 24 = dktX0_path_1 := dk_seg dksX0_path_0 24 rfl rfl
theorem dX0_path_0 : decode cX0_path 0 = .ok (.aload_n 0, 1) := dk_42 (dk_at dksX0_path_0 0 rfl rfl)
theorem dX0_path_1 : decode cX0_path 1 = .ok (.getfield 42, 3) := dk_180 0 42 (dk_at dksX0_path_0 1 rfl rfl)
theorem dX0_path_4 : decode cX0_path 4 = .ok (.iload_n 1, 1) := dk_27 (dk_at dksX0_path_0 4 rfl rfl)
theorem dX0_path_5 : decode cX0_path 5 = .ok (.i2l, 1) := dk_133 (dk_at dksX0_path_0 5 rfl rfl)
theorem dX0_path_6 : decode cX0_path 6 = .ok (.invokevirtual 170, 3) := dk_182 0 170 (dk_at dksX0_path_0 6 rfl rfl)
theorem dX0_path_9 : decode cX0_path 9 = .ok (.ifCond .eq 27, 3) := dk_153 0 27 (dk_at dksX0_path_0 9 rfl rfl)
theorem dX0_path_12 : decode cX0_path 12 = .ok (.aload_n 0, 1) := dk_42 (dk_at dksX0_path_0 12 rfl rfl)
theorem dX0_path_13 : decode cX0_path 13 = .ok (.getfield 42, 3) := dk_180 0 42 (dk_at dksX0_path_0 13 rfl rfl)
theorem dX0_path_16 : decode cX0_path 16 = .ok (.iload_n 2, 1) := dk_28 (dk_at dksX0_path_0 16 rfl rfl)
theorem dX0_path_17 : decode cX0_path 17 = .ok (.i2l, 1) := dk_133 (dk_at dksX0_path_0 17 rfl rfl)
theorem dX0_path_18 : decode cX0_path 18 = .ok (.invokevirtual 170, 3) := dk_182 0 170 (dk_at dksX0_path_0 18 rfl rfl)
theorem dX0_path_21 : decode cX0_path 21 = .ok (.ifCond .eq 15, 3) := dk_153 0 15 (dk_at dksX0_path_0 21 rfl rfl)
theorem dX0_path_24 : decode cX0_path 24 = .ok (.aload_n 0, 1) := dk_42 (dk_at dksX0_path_1 0 rfl rfl)
theorem dX0_path_25 : decode cX0_path 25 = .ok (.getfield 42, 3) := dk_180 0 42 (dk_at dksX0_path_1 1 rfl rfl)
theorem dX0_path_28 : decode cX0_path 28 = .ok (.iload_n 1, 1) := dk_27 (dk_at dksX0_path_1 4 rfl rfl)
theorem dX0_path_29 : decode cX0_path 29 = .ok (.iload_n 2, 1) := dk_28 (dk_at dksX0_path_1 5 rfl rfl)
theorem dX0_path_30 : decode cX0_path 30 = .ok (.invokevirtual 244, 3) := dk_182 0 244 (dk_at dksX0_path_1 6 rfl rfl)
theorem dX0_path_33 : decode cX0_path 33 = .ok (.goto 9, 3) := dk_167 0 9 (dk_at dksX0_path_1 9 rfl rfl)
theorem dX0_path_36 : decode cX0_path 36 = .ok (.aload_n 0, 1) := dk_42 (dk_at dksX0_path_1 12 rfl rfl)
theorem dX0_path_37 : decode cX0_path 37 = .ok (.bipush (-2), 2) := dk_16 254 (dk_at dksX0_path_1 13 rfl rfl)
theorem dX0_path_39 : decode cX0_path 39 = .ok (.invokevirtual 91, 3) := dk_182 0 91 (dk_at dksX0_path_1 15 rfl rfl)
theorem dX0_path_42 : decode cX0_path 42 = .ok (.ireturn, 1) := dk_172 (dk_at dksX0_path_1 18 rfl rfl)
def dkwX0_found_6 : List UInt8 := [132, 3, 1, 167, 255, 122, 27, 172]
abbrev dktX0_found_6 : List UInt8 := dkwX0_found_6 ++ []
def dkwX0_found_5 : List UInt8 := [167, 0, 4, 27, 60, 21, 6, 153, 0, 8, 21, 5, 167, 0, 4, 28, 61, 132, 4, 1, 167, 255, 142]
abbrev dktX0_found_5 : List UInt8 := dkwX0_found_5 ++ dktX0_found_6
def dkwX0_found_4 : List UInt8 := [162, 0, 7, 4, 167, 0, 4, 3, 54, 6, 21, 6, 153, 0, 13, 16, 10, 29, 104, 21, 4, 96]
abbrev dktX0_found_4 : List UInt8 := dkwX0_found_4 ++ dktX0_found_5
def dkwX0_found_3 : List UInt8 := [154, 0, 31, 42, 180, 0, 42, 21, 4, 182, 0, 241, 153, 0, 19, 21, 5, 2, 159, 0, 13, 21, 5, 28]
abbrev dktX0_found_3 : List UInt8 := dkwX0_found_3 ++ dktX0_found_4
def dkwX0_found_2 : List UInt8 := [180, 0, 42, 180, 0, 239, 21, 4, 46, 182, 0, 244, 54, 5, 42, 180, 0, 42, 29, 182, 0, 241]
abbrev dktX0_found_2 : List UInt8 := dkwX0_found_2 ++ dktX0_found_3
def dkwX0_found_1 : List UInt8 := [42, 180, 0, 42, 180, 0, 193, 162, 0, 108, 42, 180, 0, 42, 42, 180, 0, 42, 180, 0, 239, 29, 46, 42]
abbrev dktX0_found_1 : List UInt8 := dkwX0_found_1 ++ dktX0_found_2
def dkwX0_found_0 : List UInt8 := [2, 60, 19, 1, 27, 61, 3, 62, 29, 42, 180, 0, 42, 180, 0, 193, 162, 0, 129, 3, 54, 4, 21, 4]
abbrev dktX0_found_0 : List UInt8 := dkwX0_found_0 ++ dktX0_found_1
theorem dksX0_found_0 : cX0_found.data.toList.drop 0 = dktX0_found_0 := by decide +kernel
theorem dksX0_found_1 : cX0_found.data.toList.drop 24 = dktX0_found_1 := dk_seg dksX0_found_0 24 rfl rfl
theorem dksX0_found_2 : cX0_found.data.toList.drop 48 = dktX0_found_2 := dk_seg dksX0_found_1 24 rfl rfl
theorem dksX0_found_3 : cX0_found.data.toList.drop 70 = dktX0_found_3 := dk_seg dksX0_found_2 22 rfl rfl
theorem dksX0_found_4 : cX0_found.data.toList.drop 94 = dktX0_found_4 := dk_seg dksX0_found_3 24 rfl rfl
theorem dksX0_found_5 : cX0_found.data.toList.drop 116 = dktX0_found_5 := dk_seg dksX0_found_4 22 rfl rfl
theorem dksX0_found_6 : cX0_found.data.toList.drop 139 = dktX0_found_6 := dk_seg dksX0_found_5 23 rfl rfl
theorem dX0_found_0 : decode cX0_found 0 = .ok (.iconst (-1), 1) := dk_2 (dk_at dksX0_found_0 0 rfl rfl)
theorem dX0_found_1 : decode cX0_found 1 = .ok (.istore_n 1, 1) := dk_60 (dk_at dksX0_found_0 1 rfl rfl)
theorem dX0_found_2 : decode cX0_found 2 = .ok (.ldc_w 283, 3) := dk_19 1 27 (dk_at dksX0_found_0 2 rfl rfl)
theorem dX0_found_5 : decode cX0_found 5 = .ok (.istore_n 2, 1) := dk_61 (dk_at dksX0_found_0 5 rfl rfl)
theorem dX0_found_6 : decode cX0_found 6 = .ok (.iconst 0, 1) := dk_3 (dk_at dksX0_found_0 6 rfl rfl)
theorem dX0_found_7 : decode cX0_found 7 = .ok (.istore_n 3, 1) := dk_62 (dk_at dksX0_found_0 7 rfl rfl)
theorem dX0_found_8 : decode cX0_found 8 = .ok (.iload_n 3, 1) := dk_29 (dk_at dksX0_found_0 8 rfl rfl)
theorem dX0_found_9 : decode cX0_found 9 = .ok (.aload_n 0, 1) := dk_42 (dk_at dksX0_found_0 9 rfl rfl)
theorem dX0_found_10 : decode cX0_found 10 = .ok (.getfield 42, 3) := dk_180 0 42 (dk_at dksX0_found_0 10 rfl rfl)
theorem dX0_found_13 : decode cX0_found 13 = .ok (.getfield 193, 3) := dk_180 0 193 (dk_at dksX0_found_0 13 rfl rfl)
theorem dX0_found_16 : decode cX0_found 16 = .ok (.if_icmp .ge 129, 3) := dk_162 0 129 (dk_at dksX0_found_0 16 rfl rfl)
theorem dX0_found_19 : decode cX0_found 19 = .ok (.iconst 0, 1) := dk_3 (dk_at dksX0_found_0 19 rfl rfl)
theorem dX0_found_20 : decode cX0_found 20 = .ok (.istore 4, 2) := dk_54 4 (dk_at dksX0_found_0 20 rfl rfl)
theorem dX0_found_22 : decode cX0_found 22 = .ok (.iload 4, 2) := dk_21 4 (dk_at dksX0_found_0 22 rfl rfl)
theorem dX0_found_24 : decode cX0_found 24 = .ok (.aload_n 0, 1) := dk_42 (dk_at dksX0_found_1 0 rfl rfl)
theorem dX0_found_25 : decode cX0_found 25 = .ok (.getfield 42, 3) := dk_180 0 42 (dk_at dksX0_found_1 1 rfl rfl)
theorem dX0_found_28 : decode cX0_found 28 = .ok (.getfield 193, 3) := dk_180 0 193 (dk_at dksX0_found_1 4 rfl rfl)
theorem dX0_found_31 : decode cX0_found 31 = .ok (.if_icmp .ge 108, 3) := dk_162 0 108 (dk_at dksX0_found_1 7 rfl rfl)
theorem dX0_found_34 : decode cX0_found 34 = .ok (.aload_n 0, 1) := dk_42 (dk_at dksX0_found_1 10 rfl rfl)
theorem dX0_found_35 : decode cX0_found 35 = .ok (.getfield 42, 3) := dk_180 0 42 (dk_at dksX0_found_1 11 rfl rfl)
theorem dX0_found_38 : decode cX0_found 38 = .ok (.aload_n 0, 1) := dk_42 (dk_at dksX0_found_1 14 rfl rfl)
theorem dX0_found_39 : decode cX0_found 39 = .ok (.getfield 42, 3) := dk_180 0 42 (dk_at dksX0_found_1 15 rfl rfl)
theorem dX0_found_42 : decode cX0_found 42 = .ok (.getfield 239, 3) := dk_180 0 239 (dk_at dksX0_found_1 18 rfl rfl)
theorem dX0_found_45 : decode cX0_found 45 = .ok (.iload_n 3, 1) := dk_29 (dk_at dksX0_found_1 21 rfl rfl)
theorem dX0_found_46 : decode cX0_found 46 = .ok (.iaload, 1) := dk_46 (dk_at dksX0_found_1 22 rfl rfl)
theorem dX0_found_47 : decode cX0_found 47 = .ok (.aload_n 0, 1) := dk_42 (dk_at dksX0_found_1 23 rfl rfl)
theorem dX0_found_48 : decode cX0_found 48 = .ok (.getfield 42, 3) := dk_180 0 42 (dk_at dksX0_found_2 0 rfl rfl)
theorem dX0_found_51 : decode cX0_found 51 = .ok (.getfield 239, 3) := dk_180 0 239 (dk_at dksX0_found_2 3 rfl rfl)
theorem dX0_found_54 : decode cX0_found 54 = .ok (.iload 4, 2) := dk_21 4 (dk_at dksX0_found_2 6 rfl rfl)
theorem dX0_found_56 : decode cX0_found 56 = .ok (.iaload, 1) := dk_46 (dk_at dksX0_found_2 8 rfl rfl)
theorem dX0_found_57 : decode cX0_found 57 = .ok (.invokevirtual 244, 3) := dk_182 0 244 (dk_at dksX0_found_2 9 rfl rfl)
theorem dX0_found_60 : decode cX0_found 60 = .ok (.istore 5, 2) := dk_54 5 (dk_at dksX0_found_2 12 rfl rfl)
theorem dX0_found_62 : decode cX0_found 62 = .ok (.aload_n 0, 1) := dk_42 (dk_at dksX0_found_2 14 rfl rfl)
theorem dX0_found_63 : decode cX0_found 63 = .ok (.getfield 42, 3) := dk_180 0 42 (dk_at dksX0_found_2 15 rfl rfl)
theorem dX0_found_66 : decode cX0_found 66 = .ok (.iload_n 3, 1) := dk_29 (dk_at dksX0_found_2 18 rfl rfl)
theorem dX0_found_67 : decode cX0_found 67 = .ok (.invokevirtual 241, 3) := dk_182 0 241 (dk_at dksX0_found_2 19 rfl rfl)
theorem dX0_found_70 : decode cX0_found 70 = .ok (.ifCond .ne 31, 3) := dk_154 0 31 (dk_at dksX0_found_3 0 rfl rfl)
theorem dX0_found_73 : decode cX0_found 73 = .ok (.aload_n 0, 1) := dk_42 (dk_at dksX0_found_3 3 rfl rfl)
theorem dX0_found_74 : decode cX0_found 74 = .ok (.getfield 42, 3) := dk_180 0 42 (dk_at dksX0_found_3 4 rfl rfl)
theorem dX0_found_77 : decode cX0_found 77 = .ok (.iload 4, 2) := dk_21 4 (dk_at dksX0_found_3 7 rfl rfl)
theorem dX0_found_79 : decode cX0_found 79 = .ok (.invokevirtual 241, 3) := dk_182 0 241 (dk_at dksX0_found_3 9 rfl rfl)
theorem dX0_found_82 : decode cX0_found 82 = .ok (.ifCond .eq 19, 3) := dk_153 0 19 (dk_at dksX0_found_3 12 rfl rfl)
theorem dX0_found_85 : decode cX0_found 85 = .ok (.iload 5, 2) := dk_21 5 (dk_at dksX0_found_3 15 rfl rfl)
theorem dX0_found_87 : decode cX0_found 87 = .ok (.iconst (-1), 1) := dk_2 (dk_at dksX0_found_3 17 rfl rfl)
theorem dX0_found_88 : decode cX0_found 88 = .ok (.if_icmp .eq 13, 3) := dk_159 0 13 (dk_at dksX0_found_3 18 rfl rfl)
theorem dX0_found_91 : decode cX0_found 91 = .ok (.iload 5, 2) := dk_21 5 (dk_at dksX0_found_3 21 rfl rfl)
theorem dX0_found_93 : decode cX0_found 93 = .ok (.iload_n 2, 1) := dk_28 (dk_at dksX0_found_3 23 rfl rfl)
theorem dX0_found_94 : decode cX0_found 94 = .ok (.if_icmp .ge 7, 3) := dk_162 0 7 (dk_at dksX0_found_4 0 rfl rfl)
theorem dX0_found_97 : decode cX0_found 97 = .ok (.iconst 1, 1) := dk_4 (dk_at dksX0_found_4 3 rfl rfl)
theorem dX0_found_98 : decode cX0_found 98 = .ok (.goto 4, 3) := dk_167 0 4 (dk_at dksX0_found_4 4 rfl rfl)
theorem dX0_found_101 : decode cX0_found 101 = .ok (.iconst 0, 1) := dk_3 (dk_at dksX0_found_4 7 rfl rfl)
theorem dX0_found_102 : decode cX0_found 102 = .ok (.istore 6, 2) := dk_54 6 (dk_at dksX0_found_4 8 rfl rfl)
theorem dX0_found_104 : decode cX0_found 104 = .ok (.iload 6, 2) := dk_21 6 (dk_at dksX0_found_4 10 rfl rfl)
theorem dX0_found_106 : decode cX0_found 106 = .ok (.ifCond .eq 13, 3) := dk_153 0 13 (dk_at dksX0_found_4 12 rfl rfl)
theorem dX0_found_109 : decode cX0_found 109 = .ok (.bipush 10, 2) := dk_16 10 (dk_at dksX0_found_4 15 rfl rfl)
theorem dX0_found_111 : decode cX0_found 111 = .ok (.iload_n 3, 1) := dk_29 (dk_at dksX0_found_4 17 rfl rfl)
theorem dX0_found_112 : decode cX0_found 112 = .ok (.imul, 1) := dk_104 (dk_at dksX0_found_4 18 rfl rfl)
theorem dX0_found_113 : decode cX0_found 113 = .ok (.iload 4, 2) := dk_21 4 (dk_at dksX0_found_4 19 rfl rfl)
theorem dX0_found_115 : decode cX0_found 115 = .ok (.iadd, 1) := dk_96 (dk_at dksX0_found_4 21 rfl rfl)
theorem dX0_found_116 : decode cX0_found 116 = .ok (.goto 4, 3) := dk_167 0 4 (dk_at dksX0_found_5 0 rfl rfl)
theorem dX0_found_119 : decode cX0_found 119 = .ok (.iload_n 1, 1) := dk_27 (dk_at dksX0_found_5 3 rfl rfl)
theorem dX0_found_120 : decode cX0_found 120 = .ok (.istore_n 1, 1) := dk_60 (dk_at dksX0_found_5 4 rfl rfl)
theorem dX0_found_121 : decode cX0_found 121 = .ok (.iload 6, 2) := dk_21 6 (dk_at dksX0_found_5 5 rfl rfl)
theorem dX0_found_123 : decode cX0_found 123 = .ok (.ifCond .eq 8, 3) := dk_153 0 8 (dk_at dksX0_found_5 7 rfl rfl)
theorem dX0_found_126 : decode cX0_found 126 = .ok (.iload 5, 2) := dk_21 5 (dk_at dksX0_found_5 10 rfl rfl)
theorem dX0_found_128 : decode cX0_found 128 = .ok (.goto 4, 3) := dk_167 0 4 (dk_at dksX0_found_5 12 rfl rfl)
theorem dX0_found_131 : decode cX0_found 131 = .ok (.iload_n 2, 1) := dk_28 (dk_at dksX0_found_5 15 rfl rfl)
theorem dX0_found_132 : decode cX0_found 132 = .ok (.istore_n 2, 1) := dk_61 (dk_at dksX0_found_5 16 rfl rfl)
theorem dX0_found_133 : decode cX0_found 133 = .ok (.iinc 4 1, 3) := dk_132 4 1 (dk_at dksX0_found_5 17 rfl rfl)
theorem dX0_found_136 : decode cX0_found 136 = .ok (.goto (-114), 3) := dk_167 255 142 (dk_at dksX0_found_5 20 rfl rfl)
theorem dX0_found_139 : decode cX0_found 139 = .ok (.iinc 3 1, 3) := dk_132 3 1 (dk_at dksX0_found_6 0 rfl rfl)
theorem dX0_found_142 : decode cX0_found 142 = .ok (.goto (-134), 3) := dk_167 255 122 (dk_at dksX0_found_6 3 rfl rfl)
theorem dX0_found_145 : decode cX0_found 145 = .ok (.iload_n 1, 1) := dk_27 (dk_at dksX0_found_6 6 rfl rfl)
theorem dX0_found_146 : decode cX0_found 146 = .ok (.ireturn, 1) := dk_172 (dk_at dksX0_found_6 7 rfl rfl)
def dkwX0_leads_6 : List UInt8 := [132, 4, 1, 167, 255, 190, 2, 172]
abbrev dktX0_leads_6 : List UInt8 := dkwX0_leads_6 ++ []
def dkwX0_leads_5 : List UInt8 := [180, 0, 42, 180, 1, 89, 21, 5, 46, 42, 180, 0, 42, 180, 1, 89, 29, 46, 162, 0, 6, 21, 4, 172]
abbrev dktX0_leads_5 : List UInt8 := dkwX0_leads_5 ++ dktX0_leads_6
def dkwX0_leads_4 : List UInt8 := [54, 5, 21, 5, 2, 159, 0, 42, 42, 180, 0, 42, 180, 1, 89, 21, 5, 46, 2, 159, 0, 28, 42]
abbrev dktX0_leads_4 : List UInt8 := dkwX0_leads_4 ++ dktX0_leads_5
def dkwX0_leads_3 : List UInt8 := [167, 0, 4, 2, 172, 4, 54, 4, 21, 4, 8, 162, 0, 66, 42, 180, 0, 42, 29, 21, 4, 182, 1, 86]
abbrev dktX0_leads_3 : List UInt8 := dkwX0_leads_3 ++ dktX0_leads_4
def dkwX0_leads_2 : List UInt8 := [87, 29, 28, 159, 0, 14, 42, 180, 0, 42, 28, 182, 0, 176, 153, 0, 14, 29, 28, 160, 0, 7, 3]
abbrev dktX0_leads_2 : List UInt8 := dkwX0_leads_2 ++ dktX0_leads_3
def dkwX0_leads_1 : List UInt8 := [16, 254, 182, 0, 91, 172, 42, 180, 0, 42, 180, 0, 239, 27, 46, 62, 42, 180, 0, 42, 28, 182, 1, 82]
abbrev dktX0_leads_1 : List UInt8 := dkwX0_leads_1 ++ dktX0_leads_2
def dkwX0_leads_0 : List UInt8 := [42, 180, 0, 42, 27, 182, 0, 199, 153, 0, 15, 42, 180, 0, 42, 28, 133, 182, 0, 170, 154, 0, 10, 42]
abbrev dktX0_leads_0 : List UInt8 := dkwX0_leads_0 ++ dktX0_leads_1
theorem dksX0_leads_0 : cX0_leads.data.toList.drop 0 = dktX0_leads_0 := by decide +kernel
theorem dksX0_leads_1 : cX0_leads.data.toList.drop 24 = dktX0_leads_1 := dk_seg dksX0_leads_0 24 rfl rfl
theorem dksX0_leads_2 : cX0_leads.data.toList.drop 48 = dktX0_leads_2 := dk_seg dksX0_leads_1 24 rfl rfl
theorem dksX0_leads_3 : cX0_leads.data.toList.drop 71 = dktX0_leads_3 := dk_seg dksX0_leads_2 23 rfl rfl
theorem dksX0_leads_4 : cX0_leads.data.toList.drop 95 = dktX0_leads_4 := dk_seg dksX0_leads_3 24 rfl rfl
theorem dksX0_leads_5 : cX0_leads.data.toList.drop 118 = dktX0_leads_5 := dk_seg dksX0_leads_4 23 rfl rfl
theorem dksX0_leads_6 : cX0_leads.data.toList.drop 142 = dktX0_leads_6 := dk_seg dksX0_leads_5 24 rfl rfl
theorem dX0_leads_0 : decode cX0_leads 0 = .ok (.aload_n 0, 1) := dk_42 (dk_at dksX0_leads_0 0 rfl rfl)
theorem dX0_leads_1 : decode cX0_leads 1 = .ok (.getfield 42, 3) := dk_180 0 42 (dk_at dksX0_leads_0 1 rfl rfl)
theorem dX0_leads_4 : decode cX0_leads 4 = .ok (.iload_n 1, 1) := dk_27 (dk_at dksX0_leads_0 4 rfl rfl)
theorem dX0_leads_5 : decode cX0_leads 5 = .ok (.invokevirtual 199, 3) := dk_182 0 199 (dk_at dksX0_leads_0 5 rfl rfl)
theorem dX0_leads_8 : decode cX0_leads 8 = .ok (.ifCond .eq 15, 3) := dk_153 0 15 (dk_at dksX0_leads_0 8 rfl rfl)
theorem dX0_leads_11 : decode cX0_leads 11 = .ok (.aload_n 0, 1) := dk_42 (dk_at dksX0_leads_0 11 rfl rfl)
theorem dX0_leads_12 : decode cX0_leads 12 = .ok (.getfield 42, 3) := dk_180 0 42 (dk_at dksX0_leads_0 12 rfl rfl)
theorem dX0_leads_15 : decode cX0_leads 15 = .ok (.iload_n 2, 1) := dk_28 (dk_at dksX0_leads_0 15 rfl rfl)
theorem dX0_leads_16 : decode cX0_leads 16 = .ok (.i2l, 1) := dk_133 (dk_at dksX0_leads_0 16 rfl rfl)
theorem dX0_leads_17 : decode cX0_leads 17 = .ok (.invokevirtual 170, 3) := dk_182 0 170 (dk_at dksX0_leads_0 17 rfl rfl)
theorem dX0_leads_20 : decode cX0_leads 20 = .ok (.ifCond .ne 10, 3) := dk_154 0 10 (dk_at dksX0_leads_0 20 rfl rfl)
theorem dX0_leads_23 : decode cX0_leads 23 = .ok (.aload_n 0, 1) := dk_42 (dk_at dksX0_leads_0 23 rfl rfl)
theorem dX0_leads_24 : decode cX0_leads 24 = .ok (.bipush (-2), 2) := dk_16 254 (dk_at dksX0_leads_1 0 rfl rfl)
theorem dX0_leads_26 : decode cX0_leads 26 = .ok (.invokevirtual 91, 3) := dk_182 0 91 (dk_at dksX0_leads_1 2 rfl rfl)
theorem dX0_leads_29 : decode cX0_leads 29 = .ok (.ireturn, 1) := dk_172 (dk_at dksX0_leads_1 5 rfl rfl)
theorem dX0_leads_30 : decode cX0_leads 30 = .ok (.aload_n 0, 1) := dk_42 (dk_at dksX0_leads_1 6 rfl rfl)
theorem dX0_leads_31 : decode cX0_leads 31 = .ok (.getfield 42, 3) := dk_180 0 42 (dk_at dksX0_leads_1 7 rfl rfl)
theorem dX0_leads_34 : decode cX0_leads 34 = .ok (.getfield 239, 3) := dk_180 0 239 (dk_at dksX0_leads_1 10 rfl rfl)
theorem dX0_leads_37 : decode cX0_leads 37 = .ok (.iload_n 1, 1) := dk_27 (dk_at dksX0_leads_1 13 rfl rfl)
theorem dX0_leads_38 : decode cX0_leads 38 = .ok (.iaload, 1) := dk_46 (dk_at dksX0_leads_1 14 rfl rfl)
theorem dX0_leads_39 : decode cX0_leads 39 = .ok (.istore_n 3, 1) := dk_62 (dk_at dksX0_leads_1 15 rfl rfl)
theorem dX0_leads_40 : decode cX0_leads 40 = .ok (.aload_n 0, 1) := dk_42 (dk_at dksX0_leads_1 16 rfl rfl)
theorem dX0_leads_41 : decode cX0_leads 41 = .ok (.getfield 42, 3) := dk_180 0 42 (dk_at dksX0_leads_1 17 rfl rfl)
theorem dX0_leads_44 : decode cX0_leads 44 = .ok (.iload_n 2, 1) := dk_28 (dk_at dksX0_leads_1 20 rfl rfl)
theorem dX0_leads_45 : decode cX0_leads 45 = .ok (.invokevirtual 338, 3) := dk_182 1 82 (dk_at dksX0_leads_1 21 rfl rfl)
theorem dX0_leads_48 : decode cX0_leads 48 = .ok (.pop, 1) := dk_87 (dk_at dksX0_leads_2 0 rfl rfl)
theorem dX0_leads_49 : decode cX0_leads 49 = .ok (.iload_n 3, 1) := dk_29 (dk_at dksX0_leads_2 1 rfl rfl)
theorem dX0_leads_50 : decode cX0_leads 50 = .ok (.iload_n 2, 1) := dk_28 (dk_at dksX0_leads_2 2 rfl rfl)
theorem dX0_leads_51 : decode cX0_leads 51 = .ok (.if_icmp .eq 14, 3) := dk_159 0 14 (dk_at dksX0_leads_2 3 rfl rfl)
theorem dX0_leads_54 : decode cX0_leads 54 = .ok (.aload_n 0, 1) := dk_42 (dk_at dksX0_leads_2 6 rfl rfl)
theorem dX0_leads_55 : decode cX0_leads 55 = .ok (.getfield 42, 3) := dk_180 0 42 (dk_at dksX0_leads_2 7 rfl rfl)
theorem dX0_leads_58 : decode cX0_leads 58 = .ok (.iload_n 2, 1) := dk_28 (dk_at dksX0_leads_2 10 rfl rfl)
theorem dX0_leads_59 : decode cX0_leads 59 = .ok (.invokevirtual 176, 3) := dk_182 0 176 (dk_at dksX0_leads_2 11 rfl rfl)
theorem dX0_leads_62 : decode cX0_leads 62 = .ok (.ifCond .eq 14, 3) := dk_153 0 14 (dk_at dksX0_leads_2 14 rfl rfl)
theorem dX0_leads_65 : decode cX0_leads 65 = .ok (.iload_n 3, 1) := dk_29 (dk_at dksX0_leads_2 17 rfl rfl)
theorem dX0_leads_66 : decode cX0_leads 66 = .ok (.iload_n 2, 1) := dk_28 (dk_at dksX0_leads_2 18 rfl rfl)
theorem dX0_leads_67 : decode cX0_leads 67 = .ok (.if_icmp .ne 7, 3) := dk_160 0 7 (dk_at dksX0_leads_2 19 rfl rfl)
theorem dX0_leads_70 : decode cX0_leads 70 = .ok (.iconst 0, 1) := dk_3 (dk_at dksX0_leads_2 22 rfl rfl)
theorem dX0_leads_71 : decode cX0_leads 71 = .ok (.goto 4, 3) := dk_167 0 4 (dk_at dksX0_leads_3 0 rfl rfl)
theorem dX0_leads_74 : decode cX0_leads 74 = .ok (.iconst (-1), 1) := dk_2 (dk_at dksX0_leads_3 3 rfl rfl)
theorem dX0_leads_75 : decode cX0_leads 75 = .ok (.ireturn, 1) := dk_172 (dk_at dksX0_leads_3 4 rfl rfl)
theorem dX0_leads_76 : decode cX0_leads 76 = .ok (.iconst 1, 1) := dk_4 (dk_at dksX0_leads_3 5 rfl rfl)
theorem dX0_leads_77 : decode cX0_leads 77 = .ok (.istore 4, 2) := dk_54 4 (dk_at dksX0_leads_3 6 rfl rfl)
theorem dX0_leads_79 : decode cX0_leads 79 = .ok (.iload 4, 2) := dk_21 4 (dk_at dksX0_leads_3 8 rfl rfl)
theorem dX0_leads_81 : decode cX0_leads 81 = .ok (.iconst 5, 1) := dk_8 (dk_at dksX0_leads_3 10 rfl rfl)
theorem dX0_leads_82 : decode cX0_leads 82 = .ok (.if_icmp .ge 66, 3) := dk_162 0 66 (dk_at dksX0_leads_3 11 rfl rfl)
theorem dX0_leads_85 : decode cX0_leads 85 = .ok (.aload_n 0, 1) := dk_42 (dk_at dksX0_leads_3 14 rfl rfl)
theorem dX0_leads_86 : decode cX0_leads 86 = .ok (.getfield 42, 3) := dk_180 0 42 (dk_at dksX0_leads_3 15 rfl rfl)
theorem dX0_leads_89 : decode cX0_leads 89 = .ok (.iload_n 3, 1) := dk_29 (dk_at dksX0_leads_3 18 rfl rfl)
theorem dX0_leads_90 : decode cX0_leads 90 = .ok (.iload 4, 2) := dk_21 4 (dk_at dksX0_leads_3 19 rfl rfl)
theorem dX0_leads_92 : decode cX0_leads 92 = .ok (.invokevirtual 342, 3) := dk_182 1 86 (dk_at dksX0_leads_3 21 rfl rfl)
theorem dX0_leads_95 : decode cX0_leads 95 = .ok (.istore 5, 2) := dk_54 5 (dk_at dksX0_leads_4 0 rfl rfl)
theorem dX0_leads_97 : decode cX0_leads 97 = .ok (.iload 5, 2) := dk_21 5 (dk_at dksX0_leads_4 2 rfl rfl)
theorem dX0_leads_99 : decode cX0_leads 99 = .ok (.iconst (-1), 1) := dk_2 (dk_at dksX0_leads_4 4 rfl rfl)
theorem dX0_leads_100 : decode cX0_leads 100 = .ok (.if_icmp .eq 42, 3) := dk_159 0 42 (dk_at dksX0_leads_4 5 rfl rfl)
theorem dX0_leads_103 : decode cX0_leads 103 = .ok (.aload_n 0, 1) := dk_42 (dk_at dksX0_leads_4 8 rfl rfl)
theorem dX0_leads_104 : decode cX0_leads 104 = .ok (.getfield 42, 3) := dk_180 0 42 (dk_at dksX0_leads_4 9 rfl rfl)
theorem dX0_leads_107 : decode cX0_leads 107 = .ok (.getfield 345, 3) := dk_180 1 89 (dk_at dksX0_leads_4 12 rfl rfl)
theorem dX0_leads_110 : decode cX0_leads 110 = .ok (.iload 5, 2) := dk_21 5 (dk_at dksX0_leads_4 15 rfl rfl)
theorem dX0_leads_112 : decode cX0_leads 112 = .ok (.iaload, 1) := dk_46 (dk_at dksX0_leads_4 17 rfl rfl)
theorem dX0_leads_113 : decode cX0_leads 113 = .ok (.iconst (-1), 1) := dk_2 (dk_at dksX0_leads_4 18 rfl rfl)
theorem dX0_leads_114 : decode cX0_leads 114 = .ok (.if_icmp .eq 28, 3) := dk_159 0 28 (dk_at dksX0_leads_4 19 rfl rfl)
theorem dX0_leads_117 : decode cX0_leads 117 = .ok (.aload_n 0, 1) := dk_42 (dk_at dksX0_leads_4 22 rfl rfl)
theorem dX0_leads_118 : decode cX0_leads 118 = .ok (.getfield 42, 3) := dk_180 0 42 (dk_at dksX0_leads_5 0 rfl rfl)
theorem dX0_leads_121 : decode cX0_leads 121 = .ok (.getfield 345, 3) := dk_180 1 89 (dk_at dksX0_leads_5 3 rfl rfl)
theorem dX0_leads_124 : decode cX0_leads 124 = .ok (.iload 5, 2) := dk_21 5 (dk_at dksX0_leads_5 6 rfl rfl)
theorem dX0_leads_126 : decode cX0_leads 126 = .ok (.iaload, 1) := dk_46 (dk_at dksX0_leads_5 8 rfl rfl)
theorem dX0_leads_127 : decode cX0_leads 127 = .ok (.aload_n 0, 1) := dk_42 (dk_at dksX0_leads_5 9 rfl rfl)
theorem dX0_leads_128 : decode cX0_leads 128 = .ok (.getfield 42, 3) := dk_180 0 42 (dk_at dksX0_leads_5 10 rfl rfl)
theorem dX0_leads_131 : decode cX0_leads 131 = .ok (.getfield 345, 3) := dk_180 1 89 (dk_at dksX0_leads_5 13 rfl rfl)
theorem dX0_leads_134 : decode cX0_leads 134 = .ok (.iload_n 3, 1) := dk_29 (dk_at dksX0_leads_5 16 rfl rfl)
theorem dX0_leads_135 : decode cX0_leads 135 = .ok (.iaload, 1) := dk_46 (dk_at dksX0_leads_5 17 rfl rfl)
theorem dX0_leads_136 : decode cX0_leads 136 = .ok (.if_icmp .ge 6, 3) := dk_162 0 6 (dk_at dksX0_leads_5 18 rfl rfl)
theorem dX0_leads_139 : decode cX0_leads 139 = .ok (.iload 4, 2) := dk_21 4 (dk_at dksX0_leads_5 21 rfl rfl)
theorem dX0_leads_141 : decode cX0_leads 141 = .ok (.ireturn, 1) := dk_172 (dk_at dksX0_leads_5 23 rfl rfl)
theorem dX0_leads_142 : decode cX0_leads 142 = .ok (.iinc 4 1, 3) := dk_132 4 1 (dk_at dksX0_leads_6 0 rfl rfl)
theorem dX0_leads_145 : decode cX0_leads 145 = .ok (.goto (-66), 3) := dk_167 255 190 (dk_at dksX0_leads_6 3 rfl rfl)
theorem dX0_leads_148 : decode cX0_leads 148 = .ok (.iconst (-1), 1) := dk_2 (dk_at dksX0_leads_6 6 rfl rfl)
theorem dX0_leads_149 : decode cX0_leads 149 = .ok (.ireturn, 1) := dk_172 (dk_at dksX0_leads_6 7 rfl rfl)
def dkwX0_reach_3 : List UInt8 := [21, 7, 28, 163, 0, 7, 4, 167, 0, 4, 3, 96, 62, 132, 6, 1, 167, 255, 219, 29, 172]
abbrev dktX0_reach_3 : List UInt8 := dkwX0_reach_3 ++ []
def dkwX0_reach_2 : List UInt8 := [54, 6, 21, 6, 21, 5, 162, 0, 36, 25, 4, 21, 6, 46, 54, 7, 29, 21, 7, 2, 159, 0, 13]
abbrev dktX0_reach_2 : List UInt8 := dkwX0_reach_2 ++ dktX0_reach_3
def dkwX0_reach_1 : List UInt8 := [16, 254, 182, 0, 91, 172, 3, 62, 42, 180, 0, 42, 27, 182, 1, 82, 58, 4, 25, 4, 190, 54, 5, 3]
abbrev dktX0_reach_1 : List UInt8 := dkwX0_reach_1 ++ dktX0_reach_2
def dkwX0_reach_0 : List UInt8 := [42, 180, 0, 42, 27, 133, 182, 0, 170, 153, 0, 13, 28, 3, 16, 70, 184, 0, 71, 154, 0, 10, 42]
abbrev dktX0_reach_0 : List UInt8 := dkwX0_reach_0 ++ dktX0_reach_1
theorem dksX0_reach_0 : cX0_reach.data.toList.drop 0 = dktX0_reach_0 := by decide +kernel
theorem dksX0_reach_1 : cX0_reach.data.toList.drop 23 = dktX0_reach_1 := dk_seg dksX0_reach_0 23 rfl rfl
theorem dksX0_reach_2 : cX0_reach.data.toList.drop 47 = dktX0_reach_2 := dk_seg dksX0_reach_1 24 rfl rfl
theorem dksX0_reach_3 : cX0_reach.data.toList.drop 70 = dktX0_reach_3 := dk_seg dksX0_reach_2 23 rfl rfl
theorem dX0_reach_0 : decode cX0_reach 0 = .ok (.aload_n 0, 1) := dk_42 (dk_at dksX0_reach_0 0 rfl rfl)
theorem dX0_reach_1 : decode cX0_reach 1 = .ok (.getfield 42, 3) := dk_180 0 42 (dk_at dksX0_reach_0 1 rfl rfl)
theorem dX0_reach_4 : decode cX0_reach 4 = .ok (.iload_n 1, 1) := dk_27 (dk_at dksX0_reach_0 4 rfl rfl)
theorem dX0_reach_5 : decode cX0_reach 5 = .ok (.i2l, 1) := dk_133 (dk_at dksX0_reach_0 5 rfl rfl)
theorem dX0_reach_6 : decode cX0_reach 6 = .ok (.invokevirtual 170, 3) := dk_182 0 170 (dk_at dksX0_reach_0 6 rfl rfl)
theorem dX0_reach_9 : decode cX0_reach 9 = .ok (.ifCond .eq 13, 3) := dk_153 0 13 (dk_at dksX0_reach_0 9 rfl rfl)
theorem dX0_reach_12 : decode cX0_reach 12 = .ok (.iload_n 2, 1) := dk_28 (dk_at dksX0_reach_0 12 rfl rfl)
theorem dX0_reach_13 : decode cX0_reach 13 = .ok (.iconst 0, 1) := dk_3 (dk_at dksX0_reach_0 13 rfl rfl)
theorem dX0_reach_14 : decode cX0_reach 14 = .ok (.bipush 70, 2) := dk_16 70 (dk_at dksX0_reach_0 14 rfl rfl)
theorem dX0_reach_16 : decode cX0_reach 16 = .ok (.invokestatic 71, 3) := dk_184 0 71 (dk_at dksX0_reach_0 16 rfl rfl)
theorem dX0_reach_19 : decode cX0_reach 19 = .ok (.ifCond .ne 10, 3) := dk_154 0 10 (dk_at dksX0_reach_0 19 rfl rfl)
theorem dX0_reach_22 : decode cX0_reach 22 = .ok (.aload_n 0, 1) := dk_42 (dk_at dksX0_reach_0 22 rfl rfl)
theorem dX0_reach_23 : decode cX0_reach 23 = .ok (.bipush (-2), 2) := dk_16 254 (dk_at dksX0_reach_1 0 rfl rfl)
theorem dX0_reach_25 : decode cX0_reach 25 = .ok (.invokevirtual 91, 3) := dk_182 0 91 (dk_at dksX0_reach_1 2 rfl rfl)
theorem dX0_reach_28 : decode cX0_reach 28 = .ok (.ireturn, 1) := dk_172 (dk_at dksX0_reach_1 5 rfl rfl)
theorem dX0_reach_29 : decode cX0_reach 29 = .ok (.iconst 0, 1) := dk_3 (dk_at dksX0_reach_1 6 rfl rfl)
theorem dX0_reach_30 : decode cX0_reach 30 = .ok (.istore_n 3, 1) := dk_62 (dk_at dksX0_reach_1 7 rfl rfl)
theorem dX0_reach_31 : decode cX0_reach 31 = .ok (.aload_n 0, 1) := dk_42 (dk_at dksX0_reach_1 8 rfl rfl)
theorem dX0_reach_32 : decode cX0_reach 32 = .ok (.getfield 42, 3) := dk_180 0 42 (dk_at dksX0_reach_1 9 rfl rfl)
theorem dX0_reach_35 : decode cX0_reach 35 = .ok (.iload_n 1, 1) := dk_27 (dk_at dksX0_reach_1 12 rfl rfl)
theorem dX0_reach_36 : decode cX0_reach 36 = .ok (.invokevirtual 338, 3) := dk_182 1 82 (dk_at dksX0_reach_1 13 rfl rfl)
theorem dX0_reach_39 : decode cX0_reach 39 = .ok (.astore 4, 2) := dk_58 4 (dk_at dksX0_reach_1 16 rfl rfl)
theorem dX0_reach_41 : decode cX0_reach 41 = .ok (.aload 4, 2) := dk_25 4 (dk_at dksX0_reach_1 18 rfl rfl)
theorem dX0_reach_43 : decode cX0_reach 43 = .ok (.arraylength, 1) := dk_190 (dk_at dksX0_reach_1 20 rfl rfl)
theorem dX0_reach_44 : decode cX0_reach 44 = .ok (.istore 5, 2) := dk_54 5 (dk_at dksX0_reach_1 21 rfl rfl)
theorem dX0_reach_46 : decode cX0_reach 46 = .ok (.iconst 0, 1) := dk_3 (dk_at dksX0_reach_1 23 rfl rfl)
theorem dX0_reach_47 : decode cX0_reach 47 = .ok (.istore 6, 2) := dk_54 6 (dk_at dksX0_reach_2 0 rfl rfl)
theorem dX0_reach_49 : decode cX0_reach 49 = .ok (.iload 6, 2) := dk_21 6 (dk_at dksX0_reach_2 2 rfl rfl)
theorem dX0_reach_51 : decode cX0_reach 51 = .ok (.iload 5, 2) := dk_21 5 (dk_at dksX0_reach_2 4 rfl rfl)
theorem dX0_reach_53 : decode cX0_reach 53 = .ok (.if_icmp .ge 36, 3) := dk_162 0 36 (dk_at dksX0_reach_2 6 rfl rfl)
theorem dX0_reach_56 : decode cX0_reach 56 = .ok (.aload 4, 2) := dk_25 4 (dk_at dksX0_reach_2 9 rfl rfl)
theorem dX0_reach_58 : decode cX0_reach 58 = .ok (.iload 6, 2) := dk_21 6 (dk_at dksX0_reach_2 11 rfl rfl)
theorem dX0_reach_60 : decode cX0_reach 60 = .ok (.iaload, 1) := dk_46 (dk_at dksX0_reach_2 13 rfl rfl)
theorem dX0_reach_61 : decode cX0_reach 61 = .ok (.istore 7, 2) := dk_54 7 (dk_at dksX0_reach_2 14 rfl rfl)
theorem dX0_reach_63 : decode cX0_reach 63 = .ok (.iload_n 3, 1) := dk_29 (dk_at dksX0_reach_2 16 rfl rfl)
theorem dX0_reach_64 : decode cX0_reach 64 = .ok (.iload 7, 2) := dk_21 7 (dk_at dksX0_reach_2 17 rfl rfl)
theorem dX0_reach_66 : decode cX0_reach 66 = .ok (.iconst (-1), 1) := dk_2 (dk_at dksX0_reach_2 19 rfl rfl)
theorem dX0_reach_67 : decode cX0_reach 67 = .ok (.if_icmp .eq 13, 3) := dk_159 0 13 (dk_at dksX0_reach_2 20 rfl rfl)
theorem dX0_reach_70 : decode cX0_reach 70 = .ok (.iload 7, 2) := dk_21 7 (dk_at dksX0_reach_3 0 rfl rfl)
theorem dX0_reach_72 : decode cX0_reach 72 = .ok (.iload_n 2, 1) := dk_28 (dk_at dksX0_reach_3 2 rfl rfl)
theorem dX0_reach_73 : decode cX0_reach 73 = .ok (.if_icmp .gt 7, 3) := dk_163 0 7 (dk_at dksX0_reach_3 3 rfl rfl)
theorem dX0_reach_76 : decode cX0_reach 76 = .ok (.iconst 1, 1) := dk_4 (dk_at dksX0_reach_3 6 rfl rfl)
theorem dX0_reach_77 : decode cX0_reach 77 = .ok (.goto 4, 3) := dk_167 0 4 (dk_at dksX0_reach_3 7 rfl rfl)
theorem dX0_reach_80 : decode cX0_reach 80 = .ok (.iconst 0, 1) := dk_3 (dk_at dksX0_reach_3 10 rfl rfl)
theorem dX0_reach_81 : decode cX0_reach 81 = .ok (.iadd, 1) := dk_96 (dk_at dksX0_reach_3 11 rfl rfl)
theorem dX0_reach_82 : decode cX0_reach 82 = .ok (.istore_n 3, 1) := dk_62 (dk_at dksX0_reach_3 12 rfl rfl)
theorem dX0_reach_83 : decode cX0_reach 83 = .ok (.iinc 6 1, 3) := dk_132 6 1 (dk_at dksX0_reach_3 13 rfl rfl)
theorem dX0_reach_86 : decode cX0_reach 86 = .ok (.goto (-37), 3) := dk_167 255 219 (dk_at dksX0_reach_3 16 rfl rfl)
theorem dX0_reach_89 : decode cX0_reach 89 = .ok (.iload_n 3, 1) := dk_29 (dk_at dksX0_reach_3 19 rfl rfl)
theorem dX0_reach_90 : decode cX0_reach 90 = .ok (.ireturn, 1) := dk_172 (dk_at dksX0_reach_3 20 rfl rfl)
def dkwX0_open_2 : List UInt8 := [61, 132, 3, 1, 167, 255, 227, 28, 172]
abbrev dktX0_open_2 : List UInt8 := dkwX0_open_2 ++ []
def dkwX0_open_1 : List UInt8 := [8, 162, 0, 30, 28, 42, 180, 0, 42, 27, 29, 182, 1, 86, 2, 159, 0, 7, 4, 167, 0, 4, 3, 96]
abbrev dktX0_open_1 : List UInt8 := dkwX0_open_1 ++ dktX0_open_2
def dkwX0_open_0 : List UInt8 := [42, 180, 0, 42, 27, 133, 182, 0, 170, 154, 0, 10, 42, 16, 254, 182, 0, 91, 172, 3, 61, 4, 62, 29]
abbrev dktX0_open_0 : List UInt8 := dkwX0_open_0 ++ dktX0_open_1
theorem dksX0_open_0 : cX0_open.data.toList.drop 0 = dktX0_open_0 := by decide +kernel
theorem dksX0_open_1 : cX0_open.data.toList.drop 24 = dktX0_open_1 := dk_seg dksX0_open_0 24 rfl rfl
theorem dksX0_open_2 : cX0_open.data.toList.drop 48 = dktX0_open_2 := dk_seg dksX0_open_1 24 rfl rfl
theorem dX0_open_0 : decode cX0_open 0 = .ok (.aload_n 0, 1) := dk_42 (dk_at dksX0_open_0 0 rfl rfl)
theorem dX0_open_1 : decode cX0_open 1 = .ok (.getfield 42, 3) := dk_180 0 42 (dk_at dksX0_open_0 1 rfl rfl)
theorem dX0_open_4 : decode cX0_open 4 = .ok (.iload_n 1, 1) := dk_27 (dk_at dksX0_open_0 4 rfl rfl)
theorem dX0_open_5 : decode cX0_open 5 = .ok (.i2l, 1) := dk_133 (dk_at dksX0_open_0 5 rfl rfl)
theorem dX0_open_6 : decode cX0_open 6 = .ok (.invokevirtual 170, 3) := dk_182 0 170 (dk_at dksX0_open_0 6 rfl rfl)
theorem dX0_open_9 : decode cX0_open 9 = .ok (.ifCond .ne 10, 3) := dk_154 0 10 (dk_at dksX0_open_0 9 rfl rfl)
theorem dX0_open_12 : decode cX0_open 12 = .ok (.aload_n 0, 1) := dk_42 (dk_at dksX0_open_0 12 rfl rfl)
theorem dX0_open_13 : decode cX0_open 13 = .ok (.bipush (-2), 2) := dk_16 254 (dk_at dksX0_open_0 13 rfl rfl)
theorem dX0_open_15 : decode cX0_open 15 = .ok (.invokevirtual 91, 3) := dk_182 0 91 (dk_at dksX0_open_0 15 rfl rfl)
theorem dX0_open_18 : decode cX0_open 18 = .ok (.ireturn, 1) := dk_172 (dk_at dksX0_open_0 18 rfl rfl)
theorem dX0_open_19 : decode cX0_open 19 = .ok (.iconst 0, 1) := dk_3 (dk_at dksX0_open_0 19 rfl rfl)
theorem dX0_open_20 : decode cX0_open 20 = .ok (.istore_n 2, 1) := dk_61 (dk_at dksX0_open_0 20 rfl rfl)
theorem dX0_open_21 : decode cX0_open 21 = .ok (.iconst 1, 1) := dk_4 (dk_at dksX0_open_0 21 rfl rfl)
theorem dX0_open_22 : decode cX0_open 22 = .ok (.istore_n 3, 1) := dk_62 (dk_at dksX0_open_0 22 rfl rfl)
theorem dX0_open_23 : decode cX0_open 23 = .ok (.iload_n 3, 1) := dk_29 (dk_at dksX0_open_0 23 rfl rfl)
theorem dX0_open_24 : decode cX0_open 24 = .ok (.iconst 5, 1) := dk_8 (dk_at dksX0_open_1 0 rfl rfl)
theorem dX0_open_25 : decode cX0_open 25 = .ok (.if_icmp .ge 30, 3) := dk_162 0 30 (dk_at dksX0_open_1 1 rfl rfl)
theorem dX0_open_28 : decode cX0_open 28 = .ok (.iload_n 2, 1) := dk_28 (dk_at dksX0_open_1 4 rfl rfl)
theorem dX0_open_29 : decode cX0_open 29 = .ok (.aload_n 0, 1) := dk_42 (dk_at dksX0_open_1 5 rfl rfl)
theorem dX0_open_30 : decode cX0_open 30 = .ok (.getfield 42, 3) := dk_180 0 42 (dk_at dksX0_open_1 6 rfl rfl)
theorem dX0_open_33 : decode cX0_open 33 = .ok (.iload_n 1, 1) := dk_27 (dk_at dksX0_open_1 9 rfl rfl)
theorem dX0_open_34 : decode cX0_open 34 = .ok (.iload_n 3, 1) := dk_29 (dk_at dksX0_open_1 10 rfl rfl)
theorem dX0_open_35 : decode cX0_open 35 = .ok (.invokevirtual 342, 3) := dk_182 1 86 (dk_at dksX0_open_1 11 rfl rfl)
theorem dX0_open_38 : decode cX0_open 38 = .ok (.iconst (-1), 1) := dk_2 (dk_at dksX0_open_1 14 rfl rfl)
theorem dX0_open_39 : decode cX0_open 39 = .ok (.if_icmp .eq 7, 3) := dk_159 0 7 (dk_at dksX0_open_1 15 rfl rfl)
theorem dX0_open_42 : decode cX0_open 42 = .ok (.iconst 1, 1) := dk_4 (dk_at dksX0_open_1 18 rfl rfl)
theorem dX0_open_43 : decode cX0_open 43 = .ok (.goto 4, 3) := dk_167 0 4 (dk_at dksX0_open_1 19 rfl rfl)
theorem dX0_open_46 : decode cX0_open 46 = .ok (.iconst 0, 1) := dk_3 (dk_at dksX0_open_1 22 rfl rfl)
theorem dX0_open_47 : decode cX0_open 47 = .ok (.iadd, 1) := dk_96 (dk_at dksX0_open_1 23 rfl rfl)
theorem dX0_open_48 : decode cX0_open 48 = .ok (.istore_n 2, 1) := dk_61 (dk_at dksX0_open_2 0 rfl rfl)
theorem dX0_open_49 : decode cX0_open 49 = .ok (.iinc 3 1, 3) := dk_132 3 1 (dk_at dksX0_open_2 1 rfl rfl)
theorem dX0_open_52 : decode cX0_open 52 = .ok (.goto (-29), 3) := dk_167 255 227 (dk_at dksX0_open_2 4 rfl rfl)
theorem dX0_open_55 : decode cX0_open 55 = .ok (.iload_n 2, 1) := dk_28 (dk_at dksX0_open_2 7 rfl rfl)
theorem dX0_open_56 : decode cX0_open 56 = .ok (.ireturn, 1) := dk_172 (dk_at dksX0_open_2 8 rfl rfl)
def dkwX0_parts_4 : List UInt8 := [180, 0, 42, 28, 182, 1, 9, 61, 167, 255, 167, 27, 172]
abbrev dktX0_parts_4 : List UInt8 := dkwX0_parts_4 ++ []
def dkwX0_parts_3 : List UInt8 := [21, 4, 182, 1, 9, 54, 4, 167, 255, 217, 27, 29, 153, 0, 7, 4, 167, 0, 4, 3, 96, 60, 42]
abbrev dktX0_parts_3 : List UInt8 := dkwX0_parts_3 ++ dktX0_parts_4
def dkwX0_parts_2 : List UInt8 := [180, 0, 42, 180, 1, 89, 21, 4, 46, 2, 160, 0, 7, 4, 167, 0, 4, 3, 126, 62, 42, 180, 0, 42]
abbrev dktX0_parts_2 : List UInt8 := dkwX0_parts_2 ++ dktX0_parts_3
def dkwX0_parts_1 : List UInt8 := [182, 1, 82, 87, 42, 180, 0, 42, 2, 182, 1, 9, 54, 4, 21, 4, 28, 159, 0, 39, 29, 42]
abbrev dktX0_parts_1 : List UInt8 := dkwX0_parts_1 ++ dktX0_parts_2
def dkwX0_parts_0 : List UInt8 := [3, 60, 42, 180, 0, 42, 2, 182, 1, 9, 61, 28, 2, 159, 0, 90, 4, 62, 42, 180, 0, 42, 28]
abbrev dktX0_parts_0 : List UInt8 := dkwX0_parts_0 ++ dktX0_parts_1
theorem dksX0_parts_0 : cX0_parts.data.toList.drop 0 = dktX0_parts_0 := by decide +kernel
theorem dksX0_parts_1 : cX0_parts.data.toList.drop 23 = dktX0_parts_1 := dk_seg dksX0_parts_0 23 rfl rfl
theorem dksX0_parts_2 : cX0_parts.data.toList.drop 45 = dktX0_parts_2 := dk_seg dksX0_parts_1 22 rfl rfl
theorem dksX0_parts_3 : cX0_parts.data.toList.drop 69 = dktX0_parts_3 := dk_seg dksX0_parts_2 24 rfl rfl
theorem dksX0_parts_4 : cX0_parts.data.toList.drop 92 = dktX0_parts_4 := dk_seg dksX0_parts_3 23 rfl rfl
theorem dX0_parts_0 : decode cX0_parts 0 = .ok (.iconst 0, 1) := dk_3 (dk_at dksX0_parts_0 0 rfl rfl)
theorem dX0_parts_1 : decode cX0_parts 1 = .ok (.istore_n 1, 1) := dk_60 (dk_at dksX0_parts_0 1 rfl rfl)
theorem dX0_parts_2 : decode cX0_parts 2 = .ok (.aload_n 0, 1) := dk_42 (dk_at dksX0_parts_0 2 rfl rfl)
theorem dX0_parts_3 : decode cX0_parts 3 = .ok (.getfield 42, 3) := dk_180 0 42 (dk_at dksX0_parts_0 3 rfl rfl)
theorem dX0_parts_6 : decode cX0_parts 6 = .ok (.iconst (-1), 1) := dk_2 (dk_at dksX0_parts_0 6 rfl rfl)
theorem dX0_parts_7 : decode cX0_parts 7 = .ok (.invokevirtual 265, 3) := dk_182 1 9 (dk_at dksX0_parts_0 7 rfl rfl)
theorem dX0_parts_10 : decode cX0_parts 10 = .ok (.istore_n 2, 1) := dk_61 (dk_at dksX0_parts_0 10 rfl rfl)
theorem dX0_parts_11 : decode cX0_parts 11 = .ok (.iload_n 2, 1) := dk_28 (dk_at dksX0_parts_0 11 rfl rfl)
theorem dX0_parts_12 : decode cX0_parts 12 = .ok (.iconst (-1), 1) := dk_2 (dk_at dksX0_parts_0 12 rfl rfl)
theorem dX0_parts_13 : decode cX0_parts 13 = .ok (.if_icmp .eq 90, 3) := dk_159 0 90 (dk_at dksX0_parts_0 13 rfl rfl)
theorem dX0_parts_16 : decode cX0_parts 16 = .ok (.iconst 1, 1) := dk_4 (dk_at dksX0_parts_0 16 rfl rfl)
theorem dX0_parts_17 : decode cX0_parts 17 = .ok (.istore_n 3, 1) := dk_62 (dk_at dksX0_parts_0 17 rfl rfl)
theorem dX0_parts_18 : decode cX0_parts 18 = .ok (.aload_n 0, 1) := dk_42 (dk_at dksX0_parts_0 18 rfl rfl)
theorem dX0_parts_19 : decode cX0_parts 19 = .ok (.getfield 42, 3) := dk_180 0 42 (dk_at dksX0_parts_0 19 rfl rfl)
theorem dX0_parts_22 : decode cX0_parts 22 = .ok (.iload_n 2, 1) := dk_28 (dk_at dksX0_parts_0 22 rfl rfl)
theorem dX0_parts_23 : decode cX0_parts 23 = .ok (.invokevirtual 338, 3) := dk_182 1 82 (dk_at dksX0_parts_1 0 rfl rfl)
theorem dX0_parts_26 : decode cX0_parts 26 = .ok (.pop, 1) := dk_87 (dk_at dksX0_parts_1 3 rfl rfl)
theorem dX0_parts_27 : decode cX0_parts 27 = .ok (.aload_n 0, 1) := dk_42 (dk_at dksX0_parts_1 4 rfl rfl)
theorem dX0_parts_28 : decode cX0_parts 28 = .ok (.getfield 42, 3) := dk_180 0 42 (dk_at dksX0_parts_1 5 rfl rfl)
theorem dX0_parts_31 : decode cX0_parts 31 = .ok (.iconst (-1), 1) := dk_2 (dk_at dksX0_parts_1 8 rfl rfl)
theorem dX0_parts_32 : decode cX0_parts 32 = .ok (.invokevirtual 265, 3) := dk_182 1 9 (dk_at dksX0_parts_1 9 rfl rfl)
theorem dX0_parts_35 : decode cX0_parts 35 = .ok (.istore 4, 2) := dk_54 4 (dk_at dksX0_parts_1 12 rfl rfl)
theorem dX0_parts_37 : decode cX0_parts 37 = .ok (.iload 4, 2) := dk_21 4 (dk_at dksX0_parts_1 14 rfl rfl)
theorem dX0_parts_39 : decode cX0_parts 39 = .ok (.iload_n 2, 1) := dk_28 (dk_at dksX0_parts_1 16 rfl rfl)
theorem dX0_parts_40 : decode cX0_parts 40 = .ok (.if_icmp .eq 39, 3) := dk_159 0 39 (dk_at dksX0_parts_1 17 rfl rfl)
theorem dX0_parts_43 : decode cX0_parts 43 = .ok (.iload_n 3, 1) := dk_29 (dk_at dksX0_parts_1 20 rfl rfl)
theorem dX0_parts_44 : decode cX0_parts 44 = .ok (.aload_n 0, 1) := dk_42 (dk_at dksX0_parts_1 21 rfl rfl)
theorem dX0_parts_45 : decode cX0_parts 45 = .ok (.getfield 42, 3) := dk_180 0 42 (dk_at dksX0_parts_2 0 rfl rfl)
theorem dX0_parts_48 : decode cX0_parts 48 = .ok (.getfield 345, 3) := dk_180 1 89 (dk_at dksX0_parts_2 3 rfl rfl)
theorem dX0_parts_51 : decode cX0_parts 51 = .ok (.iload 4, 2) := dk_21 4 (dk_at dksX0_parts_2 6 rfl rfl)
theorem dX0_parts_53 : decode cX0_parts 53 = .ok (.iaload, 1) := dk_46 (dk_at dksX0_parts_2 8 rfl rfl)
theorem dX0_parts_54 : decode cX0_parts 54 = .ok (.iconst (-1), 1) := dk_2 (dk_at dksX0_parts_2 9 rfl rfl)
theorem dX0_parts_55 : decode cX0_parts 55 = .ok (.if_icmp .ne 7, 3) := dk_160 0 7 (dk_at dksX0_parts_2 10 rfl rfl)
theorem dX0_parts_58 : decode cX0_parts 58 = .ok (.iconst 1, 1) := dk_4 (dk_at dksX0_parts_2 13 rfl rfl)
theorem dX0_parts_59 : decode cX0_parts 59 = .ok (.goto 4, 3) := dk_167 0 4 (dk_at dksX0_parts_2 14 rfl rfl)
theorem dX0_parts_62 : decode cX0_parts 62 = .ok (.iconst 0, 1) := dk_3 (dk_at dksX0_parts_2 17 rfl rfl)
theorem dX0_parts_63 : decode cX0_parts 63 = .ok (.iand, 1) := dk_126 (dk_at dksX0_parts_2 18 rfl rfl)
theorem dX0_parts_64 : decode cX0_parts 64 = .ok (.istore_n 3, 1) := dk_62 (dk_at dksX0_parts_2 19 rfl rfl)
theorem dX0_parts_65 : decode cX0_parts 65 = .ok (.aload_n 0, 1) := dk_42 (dk_at dksX0_parts_2 20 rfl rfl)
theorem dX0_parts_66 : decode cX0_parts 66 = .ok (.getfield 42, 3) := dk_180 0 42 (dk_at dksX0_parts_2 21 rfl rfl)
theorem dX0_parts_69 : decode cX0_parts 69 = .ok (.iload 4, 2) := dk_21 4 (dk_at dksX0_parts_3 0 rfl rfl)
theorem dX0_parts_71 : decode cX0_parts 71 = .ok (.invokevirtual 265, 3) := dk_182 1 9 (dk_at dksX0_parts_3 2 rfl rfl)
theorem dX0_parts_74 : decode cX0_parts 74 = .ok (.istore 4, 2) := dk_54 4 (dk_at dksX0_parts_3 5 rfl rfl)
theorem dX0_parts_76 : decode cX0_parts 76 = .ok (.goto (-39), 3) := dk_167 255 217 (dk_at dksX0_parts_3 7 rfl rfl)
theorem dX0_parts_79 : decode cX0_parts 79 = .ok (.iload_n 1, 1) := dk_27 (dk_at dksX0_parts_3 10 rfl rfl)
theorem dX0_parts_80 : decode cX0_parts 80 = .ok (.iload_n 3, 1) := dk_29 (dk_at dksX0_parts_3 11 rfl rfl)
theorem dX0_parts_81 : decode cX0_parts 81 = .ok (.ifCond .eq 7, 3) := dk_153 0 7 (dk_at dksX0_parts_3 12 rfl rfl)
theorem dX0_parts_84 : decode cX0_parts 84 = .ok (.iconst 1, 1) := dk_4 (dk_at dksX0_parts_3 15 rfl rfl)
theorem dX0_parts_85 : decode cX0_parts 85 = .ok (.goto 4, 3) := dk_167 0 4 (dk_at dksX0_parts_3 16 rfl rfl)
theorem dX0_parts_88 : decode cX0_parts 88 = .ok (.iconst 0, 1) := dk_3 (dk_at dksX0_parts_3 19 rfl rfl)
theorem dX0_parts_89 : decode cX0_parts 89 = .ok (.iadd, 1) := dk_96 (dk_at dksX0_parts_3 20 rfl rfl)
theorem dX0_parts_90 : decode cX0_parts 90 = .ok (.istore_n 1, 1) := dk_60 (dk_at dksX0_parts_3 21 rfl rfl)
theorem dX0_parts_91 : decode cX0_parts 91 = .ok (.aload_n 0, 1) := dk_42 (dk_at dksX0_parts_3 22 rfl rfl)
theorem dX0_parts_92 : decode cX0_parts 92 = .ok (.getfield 42, 3) := dk_180 0 42 (dk_at dksX0_parts_4 0 rfl rfl)
theorem dX0_parts_95 : decode cX0_parts 95 = .ok (.iload_n 2, 1) := dk_28 (dk_at dksX0_parts_4 3 rfl rfl)
theorem dX0_parts_96 : decode cX0_parts 96 = .ok (.invokevirtual 265, 3) := dk_182 1 9 (dk_at dksX0_parts_4 4 rfl rfl)
theorem dX0_parts_99 : decode cX0_parts 99 = .ok (.istore_n 2, 1) := dk_61 (dk_at dksX0_parts_4 7 rfl rfl)
theorem dX0_parts_100 : decode cX0_parts 100 = .ok (.goto (-89), 3) := dk_167 255 167 (dk_at dksX0_parts_4 8 rfl rfl)
theorem dX0_parts_103 : decode cX0_parts 103 = .ok (.iload_n 1, 1) := dk_27 (dk_at dksX0_parts_4 11 rfl rfl)
theorem dX0_parts_104 : decode cX0_parts 104 = .ok (.ireturn, 1) := dk_172 (dk_at dksX0_parts_4 12 rfl rfl)
def dkwX0_worst_6 : List UInt8 := [182, 0, 91, 167, 0, 4, 28, 172]
abbrev dktX0_worst_6 : List UInt8 := dkwX0_worst_6 ++ []
def dkwX0_worst_5 : List UInt8 := [28, 61, 29, 21, 6, 184, 1, 24, 62, 132, 4, 1, 167, 255, 165, 28, 2, 160, 0, 12, 42, 16, 251]
abbrev dktX0_worst_5 : List UInt8 := dkwX0_worst_5 ++ dktX0_worst_6
def dkwX0_worst_4 : List UInt8 := [160, 0, 9, 19, 1, 27, 167, 0, 5, 21, 5, 54, 6, 21, 6, 29, 164, 0, 8, 21, 4, 167, 0, 4]
abbrev dktX0_worst_4 : List UInt8 := dkwX0_worst_4 ++ dktX0_worst_5
def dkwX0_worst_3 : List UInt8 := [154, 0, 19, 16, 9, 42, 180, 0, 42, 180, 0, 202, 21, 4, 46, 100, 167, 0, 17, 21, 5, 2]
abbrev dktX0_worst_3 : List UInt8 := dkwX0_worst_3 ++ dktX0_worst_4
def dkwX0_worst_2 : List UInt8 := [162, 0, 85, 42, 180, 0, 42, 180, 1, 89, 42, 180, 0, 42, 180, 0, 239, 21, 4, 46, 46, 54, 5, 27]
abbrev dktX0_worst_2 : List UInt8 := dkwX0_worst_2 ++ dktX0_worst_3
def dkwX0_worst_1 : List UInt8 := [180, 0, 183, 182, 1, 82, 87, 2, 61, 2, 62, 3, 54, 4, 21, 4, 42, 180, 0, 42, 180, 0, 193]
abbrev dktX0_worst_1 : List UInt8 := dkwX0_worst_1 ++ dktX0_worst_2
def dkwX0_worst_0 : List UInt8 := [27, 3, 4, 184, 0, 71, 154, 0, 10, 42, 16, 254, 182, 0, 91, 172, 42, 180, 0, 42, 42, 180, 0, 42]
abbrev dktX0_worst_0 : List UInt8 := dkwX0_worst_0 ++ dktX0_worst_1
theorem dksX0_worst_0 : cX0_worst.data.toList.drop 0 = dktX0_worst_0 := by decide +kernel
theorem dksX0_worst_1 : cX0_worst.data.toList.drop 24 = dktX0_worst_1 := dk_seg dksX0_worst_0 24 rfl rfl
theorem dksX0_worst_2 : cX0_worst.data.toList.drop 47 = dktX0_worst_2 := dk_seg dksX0_worst_1 23 rfl rfl
theorem dksX0_worst_3 : cX0_worst.data.toList.drop 71 = dktX0_worst_3 := dk_seg dksX0_worst_2 24 rfl rfl
theorem dksX0_worst_4 : cX0_worst.data.toList.drop 93 = dktX0_worst_4 := dk_seg dksX0_worst_3 22 rfl rfl
theorem dksX0_worst_5 : cX0_worst.data.toList.drop 117 = dktX0_worst_5 := dk_seg dksX0_worst_4 24 rfl rfl
theorem dksX0_worst_6 : cX0_worst.data.toList.drop 140 = dktX0_worst_6 := dk_seg dksX0_worst_5 23 rfl rfl
theorem dX0_worst_0 : decode cX0_worst 0 = .ok (.iload_n 1, 1) := dk_27 (dk_at dksX0_worst_0 0 rfl rfl)
theorem dX0_worst_1 : decode cX0_worst 1 = .ok (.iconst 0, 1) := dk_3 (dk_at dksX0_worst_0 1 rfl rfl)
theorem dX0_worst_2 : decode cX0_worst 2 = .ok (.iconst 1, 1) := dk_4 (dk_at dksX0_worst_0 2 rfl rfl)
theorem dX0_worst_3 : decode cX0_worst 3 = .ok (.invokestatic 71, 3) := dk_184 0 71 (dk_at dksX0_worst_0 3 rfl rfl)
theorem dX0_worst_6 : decode cX0_worst 6 = .ok (.ifCond .ne 10, 3) := dk_154 0 10 (dk_at dksX0_worst_0 6 rfl rfl)
theorem dX0_worst_9 : decode cX0_worst 9 = .ok (.aload_n 0, 1) := dk_42 (dk_at dksX0_worst_0 9 rfl rfl)
theorem dX0_worst_10 : decode cX0_worst 10 = .ok (.bipush (-2), 2) := dk_16 254 (dk_at dksX0_worst_0 10 rfl rfl)
theorem dX0_worst_12 : decode cX0_worst 12 = .ok (.invokevirtual 91, 3) := dk_182 0 91 (dk_at dksX0_worst_0 12 rfl rfl)
theorem dX0_worst_15 : decode cX0_worst 15 = .ok (.ireturn, 1) := dk_172 (dk_at dksX0_worst_0 15 rfl rfl)
theorem dX0_worst_16 : decode cX0_worst 16 = .ok (.aload_n 0, 1) := dk_42 (dk_at dksX0_worst_0 16 rfl rfl)
theorem dX0_worst_17 : decode cX0_worst 17 = .ok (.getfield 42, 3) := dk_180 0 42 (dk_at dksX0_worst_0 17 rfl rfl)
theorem dX0_worst_20 : decode cX0_worst 20 = .ok (.aload_n 0, 1) := dk_42 (dk_at dksX0_worst_0 20 rfl rfl)
theorem dX0_worst_21 : decode cX0_worst 21 = .ok (.getfield 42, 3) := dk_180 0 42 (dk_at dksX0_worst_0 21 rfl rfl)
theorem dX0_worst_24 : decode cX0_worst 24 = .ok (.getfield 183, 3) := dk_180 0 183 (dk_at dksX0_worst_1 0 rfl rfl)
theorem dX0_worst_27 : decode cX0_worst 27 = .ok (.invokevirtual 338, 3) := dk_182 1 82 (dk_at dksX0_worst_1 3 rfl rfl)
theorem dX0_worst_30 : decode cX0_worst 30 = .ok (.pop, 1) := dk_87 (dk_at dksX0_worst_1 6 rfl rfl)
theorem dX0_worst_31 : decode cX0_worst 31 = .ok (.iconst (-1), 1) := dk_2 (dk_at dksX0_worst_1 7 rfl rfl)
theorem dX0_worst_32 : decode cX0_worst 32 = .ok (.istore_n 2, 1) := dk_61 (dk_at dksX0_worst_1 8 rfl rfl)
theorem dX0_worst_33 : decode cX0_worst 33 = .ok (.iconst (-1), 1) := dk_2 (dk_at dksX0_worst_1 9 rfl rfl)
theorem dX0_worst_34 : decode cX0_worst 34 = .ok (.istore_n 3, 1) := dk_62 (dk_at dksX0_worst_1 10 rfl rfl)
theorem dX0_worst_35 : decode cX0_worst 35 = .ok (.iconst 0, 1) := dk_3 (dk_at dksX0_worst_1 11 rfl rfl)
theorem dX0_worst_36 : decode cX0_worst 36 = .ok (.istore 4, 2) := dk_54 4 (dk_at dksX0_worst_1 12 rfl rfl)
theorem dX0_worst_38 : decode cX0_worst 38 = .ok (.iload 4, 2) := dk_21 4 (dk_at dksX0_worst_1 14 rfl rfl)
theorem dX0_worst_40 : decode cX0_worst 40 = .ok (.aload_n 0, 1) := dk_42 (dk_at dksX0_worst_1 16 rfl rfl)
theorem dX0_worst_41 : decode cX0_worst 41 = .ok (.getfield 42, 3) := dk_180 0 42 (dk_at dksX0_worst_1 17 rfl rfl)
theorem dX0_worst_44 : decode cX0_worst 44 = .ok (.getfield 193, 3) := dk_180 0 193 (dk_at dksX0_worst_1 20 rfl rfl)
theorem dX0_worst_47 : decode cX0_worst 47 = .ok (.if_icmp .ge 85, 3) := dk_162 0 85 (dk_at dksX0_worst_2 0 rfl rfl)
theorem dX0_worst_50 : decode cX0_worst 50 = .ok (.aload_n 0, 1) := dk_42 (dk_at dksX0_worst_2 3 rfl rfl)
theorem dX0_worst_51 : decode cX0_worst 51 = .ok (.getfield 42, 3) := dk_180 0 42 (dk_at dksX0_worst_2 4 rfl rfl)
theorem dX0_worst_54 : decode cX0_worst 54 = .ok (.getfield 345, 3) := dk_180 1 89 (dk_at dksX0_worst_2 7 rfl rfl)
theorem dX0_worst_57 : decode cX0_worst 57 = .ok (.aload_n 0, 1) := dk_42 (dk_at dksX0_worst_2 10 rfl rfl)
theorem dX0_worst_58 : decode cX0_worst 58 = .ok (.getfield 42, 3) := dk_180 0 42 (dk_at dksX0_worst_2 11 rfl rfl)
theorem dX0_worst_61 : decode cX0_worst 61 = .ok (.getfield 239, 3) := dk_180 0 239 (dk_at dksX0_worst_2 14 rfl rfl)
theorem dX0_worst_64 : decode cX0_worst 64 = .ok (.iload 4, 2) := dk_21 4 (dk_at dksX0_worst_2 17 rfl rfl)
theorem dX0_worst_66 : decode cX0_worst 66 = .ok (.iaload, 1) := dk_46 (dk_at dksX0_worst_2 19 rfl rfl)
theorem dX0_worst_67 : decode cX0_worst 67 = .ok (.iaload, 1) := dk_46 (dk_at dksX0_worst_2 20 rfl rfl)
theorem dX0_worst_68 : decode cX0_worst 68 = .ok (.istore 5, 2) := dk_54 5 (dk_at dksX0_worst_2 21 rfl rfl)
theorem dX0_worst_70 : decode cX0_worst 70 = .ok (.iload_n 1, 1) := dk_27 (dk_at dksX0_worst_2 23 rfl rfl)
theorem dX0_worst_71 : decode cX0_worst 71 = .ok (.ifCond .ne 19, 3) := dk_154 0 19 (dk_at dksX0_worst_3 0 rfl rfl)
theorem dX0_worst_74 : decode cX0_worst 74 = .ok (.bipush 9, 2) := dk_16 9 (dk_at dksX0_worst_3 3 rfl rfl)
theorem dX0_worst_76 : decode cX0_worst 76 = .ok (.aload_n 0, 1) := dk_42 (dk_at dksX0_worst_3 5 rfl rfl)
theorem dX0_worst_77 : decode cX0_worst 77 = .ok (.getfield 42, 3) := dk_180 0 42 (dk_at dksX0_worst_3 6 rfl rfl)
theorem dX0_worst_80 : decode cX0_worst 80 = .ok (.getfield 202, 3) := dk_180 0 202 (dk_at dksX0_worst_3 9 rfl rfl)
theorem dX0_worst_83 : decode cX0_worst 83 = .ok (.iload 4, 2) := dk_21 4 (dk_at dksX0_worst_3 12 rfl rfl)
theorem dX0_worst_85 : decode cX0_worst 85 = .ok (.iaload, 1) := dk_46 (dk_at dksX0_worst_3 14 rfl rfl)
theorem dX0_worst_86 : decode cX0_worst 86 = .ok (.isub, 1) := dk_100 (dk_at dksX0_worst_3 15 rfl rfl)
theorem dX0_worst_87 : decode cX0_worst 87 = .ok (.goto 17, 3) := dk_167 0 17 (dk_at dksX0_worst_3 16 rfl rfl)
theorem dX0_worst_90 : decode cX0_worst 90 = .ok (.iload 5, 2) := dk_21 5 (dk_at dksX0_worst_3 19 rfl rfl)
theorem dX0_worst_92 : decode cX0_worst 92 = .ok (.iconst (-1), 1) := dk_2 (dk_at dksX0_worst_3 21 rfl rfl)
theorem dX0_worst_93 : decode cX0_worst 93 = .ok (.if_icmp .ne 9, 3) := dk_160 0 9 (dk_at dksX0_worst_4 0 rfl rfl)
theorem dX0_worst_96 : decode cX0_worst 96 = .ok (.ldc_w 283, 3) := dk_19 1 27 (dk_at dksX0_worst_4 3 rfl rfl)
theorem dX0_worst_99 : decode cX0_worst 99 = .ok (.goto 5, 3) := dk_167 0 5 (dk_at dksX0_worst_4 6 rfl rfl)
theorem dX0_worst_102 : decode cX0_worst 102 = .ok (.iload 5, 2) := dk_21 5 (dk_at dksX0_worst_4 9 rfl rfl)
theorem dX0_worst_104 : decode cX0_worst 104 = .ok (.istore 6, 2) := dk_54 6 (dk_at dksX0_worst_4 11 rfl rfl)
theorem dX0_worst_106 : decode cX0_worst 106 = .ok (.iload 6, 2) := dk_21 6 (dk_at dksX0_worst_4 13 rfl rfl)
theorem dX0_worst_108 : decode cX0_worst 108 = .ok (.iload_n 3, 1) := dk_29 (dk_at dksX0_worst_4 15 rfl rfl)
theorem dX0_worst_109 : decode cX0_worst 109 = .ok (.if_icmp .le 8, 3) := dk_164 0 8 (dk_at dksX0_worst_4 16 rfl rfl)
theorem dX0_worst_112 : decode cX0_worst 112 = .ok (.iload 4, 2) := dk_21 4 (dk_at dksX0_worst_4 19 rfl rfl)
theorem dX0_worst_114 : decode cX0_worst 114 = .ok (.goto 4, 3) := dk_167 0 4 (dk_at dksX0_worst_4 21 rfl rfl)
theorem dX0_worst_117 : decode cX0_worst 117 = .ok (.iload_n 2, 1) := dk_28 (dk_at dksX0_worst_5 0 rfl rfl)
theorem dX0_worst_118 : decode cX0_worst 118 = .ok (.istore_n 2, 1) := dk_61 (dk_at dksX0_worst_5 1 rfl rfl)
theorem dX0_worst_119 : decode cX0_worst 119 = .ok (.iload_n 3, 1) := dk_29 (dk_at dksX0_worst_5 2 rfl rfl)
theorem dX0_worst_120 : decode cX0_worst 120 = .ok (.iload 6, 2) := dk_21 6 (dk_at dksX0_worst_5 3 rfl rfl)
theorem dX0_worst_122 : decode cX0_worst 122 = .ok (.invokestatic 280, 3) := dk_184 1 24 (dk_at dksX0_worst_5 5 rfl rfl)
theorem dX0_worst_125 : decode cX0_worst 125 = .ok (.istore_n 3, 1) := dk_62 (dk_at dksX0_worst_5 8 rfl rfl)
theorem dX0_worst_126 : decode cX0_worst 126 = .ok (.iinc 4 1, 3) := dk_132 4 1 (dk_at dksX0_worst_5 9 rfl rfl)
theorem dX0_worst_129 : decode cX0_worst 129 = .ok (.goto (-91), 3) := dk_167 255 165 (dk_at dksX0_worst_5 12 rfl rfl)
theorem dX0_worst_132 : decode cX0_worst 132 = .ok (.iload_n 2, 1) := dk_28 (dk_at dksX0_worst_5 15 rfl rfl)
theorem dX0_worst_133 : decode cX0_worst 133 = .ok (.iconst (-1), 1) := dk_2 (dk_at dksX0_worst_5 16 rfl rfl)
theorem dX0_worst_134 : decode cX0_worst 134 = .ok (.if_icmp .ne 12, 3) := dk_160 0 12 (dk_at dksX0_worst_5 17 rfl rfl)
theorem dX0_worst_137 : decode cX0_worst 137 = .ok (.aload_n 0, 1) := dk_42 (dk_at dksX0_worst_5 20 rfl rfl)
theorem dX0_worst_138 : decode cX0_worst 138 = .ok (.bipush (-5), 2) := dk_16 251 (dk_at dksX0_worst_5 21 rfl rfl)
theorem dX0_worst_140 : decode cX0_worst 140 = .ok (.invokevirtual 91, 3) := dk_182 0 91 (dk_at dksX0_worst_6 0 rfl rfl)
theorem dX0_worst_143 : decode cX0_worst 143 = .ok (.goto 4, 3) := dk_167 0 4 (dk_at dksX0_worst_6 3 rfl rfl)
theorem dX0_worst_146 : decode cX0_worst 146 = .ok (.iload_n 2, 1) := dk_28 (dk_at dksX0_worst_6 6 rfl rfl)
theorem dX0_worst_147 : decode cX0_worst 147 = .ok (.ireturn, 1) := dk_172 (dk_at dksX0_worst_6 7 rfl rfl)
def dkwX0_meet_3 : List UInt8 := [180, 0, 193, 154, 0, 7, 3, 167, 0, 4, 27, 172]
abbrev dktX0_meet_3 : List UInt8 := dkwX0_meet_3 ++ []
def dkwX0_meet_2 : List UInt8 := [60, 28, 21, 4, 184, 1, 31, 61, 42, 180, 0, 42, 29, 182, 1, 9, 62, 167, 255, 206, 42, 180, 0, 42]
abbrev dktX0_meet_2 : List UInt8 := dkwX0_meet_2 ++ dktX0_meet_3
def dkwX0_meet_1 : List UInt8 := [180, 0, 193, 158, 0, 41, 42, 29, 182, 1, 92, 54, 4, 21, 4, 28, 162, 0, 7, 29, 167, 0, 4, 27]
abbrev dktX0_meet_1 : List UInt8 := dkwX0_meet_1 ++ dktX0_meet_2
def dkwX0_meet_0 : List UInt8 := [2, 60, 19, 1, 27, 61, 42, 180, 0, 42, 2, 182, 1, 9, 62, 29, 2, 159, 0, 51, 42, 180, 0, 42]
abbrev dktX0_meet_0 : List UInt8 := dkwX0_meet_0 ++ dktX0_meet_1
theorem dksX0_meet_0 : cX0_meet.data.toList.drop 0 = dktX0_meet_0 := by decide +kernel
theorem dksX0_meet_1 : cX0_meet.data.toList.drop 24 = dktX0_meet_1 := dk_seg dksX0_meet_0 24 rfl rfl
theorem dksX0_meet_2 : cX0_meet.data.toList.drop 48 = dktX0_meet_2 := dk_seg dksX0_meet_1 24 rfl rfl
theorem dksX0_meet_3 : cX0_meet.data.toList.drop 72 = dktX0_meet_3 := dk_seg dksX0_meet_2 24 rfl rfl
theorem dX0_meet_0 : decode cX0_meet 0 = .ok (.iconst (-1), 1) := dk_2 (dk_at dksX0_meet_0 0 rfl rfl)
theorem dX0_meet_1 : decode cX0_meet 1 = .ok (.istore_n 1, 1) := dk_60 (dk_at dksX0_meet_0 1 rfl rfl)
theorem dX0_meet_2 : decode cX0_meet 2 = .ok (.ldc_w 283, 3) := dk_19 1 27 (dk_at dksX0_meet_0 2 rfl rfl)
theorem dX0_meet_5 : decode cX0_meet 5 = .ok (.istore_n 2, 1) := dk_61 (dk_at dksX0_meet_0 5 rfl rfl)
theorem dX0_meet_6 : decode cX0_meet 6 = .ok (.aload_n 0, 1) := dk_42 (dk_at dksX0_meet_0 6 rfl rfl)
theorem dX0_meet_7 : decode cX0_meet 7 = .ok (.getfield 42, 3) := dk_180 0 42 (dk_at dksX0_meet_0 7 rfl rfl)
theorem dX0_meet_10 : decode cX0_meet 10 = .ok (.iconst (-1), 1) := dk_2 (dk_at dksX0_meet_0 10 rfl rfl)
theorem dX0_meet_11 : decode cX0_meet 11 = .ok (.invokevirtual 265, 3) := dk_182 1 9 (dk_at dksX0_meet_0 11 rfl rfl)
theorem dX0_meet_14 : decode cX0_meet 14 = .ok (.istore_n 3, 1) := dk_62 (dk_at dksX0_meet_0 14 rfl rfl)
theorem dX0_meet_15 : decode cX0_meet 15 = .ok (.iload_n 3, 1) := dk_29 (dk_at dksX0_meet_0 15 rfl rfl)
theorem dX0_meet_16 : decode cX0_meet 16 = .ok (.iconst (-1), 1) := dk_2 (dk_at dksX0_meet_0 16 rfl rfl)
theorem dX0_meet_17 : decode cX0_meet 17 = .ok (.if_icmp .eq 51, 3) := dk_159 0 51 (dk_at dksX0_meet_0 17 rfl rfl)
theorem dX0_meet_20 : decode cX0_meet 20 = .ok (.aload_n 0, 1) := dk_42 (dk_at dksX0_meet_0 20 rfl rfl)
theorem dX0_meet_21 : decode cX0_meet 21 = .ok (.getfield 42, 3) := dk_180 0 42 (dk_at dksX0_meet_0 21 rfl rfl)
theorem dX0_meet_24 : decode cX0_meet 24 = .ok (.getfield 193, 3) := dk_180 0 193 (dk_at dksX0_meet_1 0 rfl rfl)
theorem dX0_meet_27 : decode cX0_meet 27 = .ok (.ifCond .le 41, 3) := dk_158 0 41 (dk_at dksX0_meet_1 3 rfl rfl)
theorem dX0_meet_30 : decode cX0_meet 30 = .ok (.aload_n 0, 1) := dk_42 (dk_at dksX0_meet_1 6 rfl rfl)
theorem dX0_meet_31 : decode cX0_meet 31 = .ok (.iload_n 3, 1) := dk_29 (dk_at dksX0_meet_1 7 rfl rfl)
theorem dX0_meet_32 : decode cX0_meet 32 = .ok (.invokevirtual 348, 3) := dk_182 1 92 (dk_at dksX0_meet_1 8 rfl rfl)
theorem dX0_meet_35 : decode cX0_meet 35 = .ok (.istore 4, 2) := dk_54 4 (dk_at dksX0_meet_1 11 rfl rfl)
theorem dX0_meet_37 : decode cX0_meet 37 = .ok (.iload 4, 2) := dk_21 4 (dk_at dksX0_meet_1 13 rfl rfl)
theorem dX0_meet_39 : decode cX0_meet 39 = .ok (.iload_n 2, 1) := dk_28 (dk_at dksX0_meet_1 15 rfl rfl)
theorem dX0_meet_40 : decode cX0_meet 40 = .ok (.if_icmp .ge 7, 3) := dk_162 0 7 (dk_at dksX0_meet_1 16 rfl rfl)
theorem dX0_meet_43 : decode cX0_meet 43 = .ok (.iload_n 3, 1) := dk_29 (dk_at dksX0_meet_1 19 rfl rfl)
theorem dX0_meet_44 : decode cX0_meet 44 = .ok (.goto 4, 3) := dk_167 0 4 (dk_at dksX0_meet_1 20 rfl rfl)
theorem dX0_meet_47 : decode cX0_meet 47 = .ok (.iload_n 1, 1) := dk_27 (dk_at dksX0_meet_1 23 rfl rfl)
theorem dX0_meet_48 : decode cX0_meet 48 = .ok (.istore_n 1, 1) := dk_60 (dk_at dksX0_meet_2 0 rfl rfl)
theorem dX0_meet_49 : decode cX0_meet 49 = .ok (.iload_n 2, 1) := dk_28 (dk_at dksX0_meet_2 1 rfl rfl)
theorem dX0_meet_50 : decode cX0_meet 50 = .ok (.iload 4, 2) := dk_21 4 (dk_at dksX0_meet_2 2 rfl rfl)
theorem dX0_meet_52 : decode cX0_meet 52 = .ok (.invokestatic 287, 3) := dk_184 1 31 (dk_at dksX0_meet_2 4 rfl rfl)
theorem dX0_meet_55 : decode cX0_meet 55 = .ok (.istore_n 2, 1) := dk_61 (dk_at dksX0_meet_2 7 rfl rfl)
theorem dX0_meet_56 : decode cX0_meet 56 = .ok (.aload_n 0, 1) := dk_42 (dk_at dksX0_meet_2 8 rfl rfl)
theorem dX0_meet_57 : decode cX0_meet 57 = .ok (.getfield 42, 3) := dk_180 0 42 (dk_at dksX0_meet_2 9 rfl rfl)
theorem dX0_meet_60 : decode cX0_meet 60 = .ok (.iload_n 3, 1) := dk_29 (dk_at dksX0_meet_2 12 rfl rfl)
theorem dX0_meet_61 : decode cX0_meet 61 = .ok (.invokevirtual 265, 3) := dk_182 1 9 (dk_at dksX0_meet_2 13 rfl rfl)
theorem dX0_meet_64 : decode cX0_meet 64 = .ok (.istore_n 3, 1) := dk_62 (dk_at dksX0_meet_2 16 rfl rfl)
theorem dX0_meet_65 : decode cX0_meet 65 = .ok (.goto (-50), 3) := dk_167 255 206 (dk_at dksX0_meet_2 17 rfl rfl)
theorem dX0_meet_68 : decode cX0_meet 68 = .ok (.aload_n 0, 1) := dk_42 (dk_at dksX0_meet_2 20 rfl rfl)
theorem dX0_meet_69 : decode cX0_meet 69 = .ok (.getfield 42, 3) := dk_180 0 42 (dk_at dksX0_meet_2 21 rfl rfl)
theorem dX0_meet_72 : decode cX0_meet 72 = .ok (.getfield 193, 3) := dk_180 0 193 (dk_at dksX0_meet_3 0 rfl rfl)
theorem dX0_meet_75 : decode cX0_meet 75 = .ok (.ifCond .ne 7, 3) := dk_154 0 7 (dk_at dksX0_meet_3 3 rfl rfl)
theorem dX0_meet_78 : decode cX0_meet 78 = .ok (.iconst 0, 1) := dk_3 (dk_at dksX0_meet_3 6 rfl rfl)
theorem dX0_meet_79 : decode cX0_meet 79 = .ok (.goto 4, 3) := dk_167 0 4 (dk_at dksX0_meet_3 7 rfl rfl)
theorem dX0_meet_82 : decode cX0_meet 82 = .ok (.iload_n 1, 1) := dk_27 (dk_at dksX0_meet_3 10 rfl rfl)
theorem dX0_meet_83 : decode cX0_meet 83 = .ok (.ireturn, 1) := dk_172 (dk_at dksX0_meet_3 11 rfl rfl)
def dkwX0_longest_2 : List UInt8 := [160, 0, 9, 19, 1, 27, 167, 0, 5, 21, 4, 184, 1, 24, 61, 132, 3, 1, 167, 255, 204, 28, 172]
abbrev dktX0_longest_2 : List UInt8 := dkwX0_longest_2 ++ []
def dkwX0_longest_1 : List UInt8 := [42, 180, 0, 42, 180, 1, 89, 42, 180, 0, 42, 180, 0, 239, 29, 46, 46, 54, 4, 28, 21, 4, 2]
abbrev dktX0_longest_1 : List UInt8 := dkwX0_longest_1 ++ dktX0_longest_2
def dkwX0_longest_0 : List UInt8 := [3, 61, 42, 180, 0, 42, 27, 182, 1, 82, 87, 3, 62, 29, 42, 180, 0, 42, 180, 0, 193, 162, 0, 47]
abbrev dktX0_longest_0 : List UInt8 := dkwX0_longest_0 ++ dktX0_longest_1
theorem dksX0_longest_0 : cX0_longest.data.toList.drop 0 = dktX0_longest_0 := by decide +kernel
theorem dksX0_longest_1 : cX0_longest.data.toList.drop 24 = dktX0_longest_1 := dk_seg dksX0_longest_0 24 rfl rfl
theorem dksX0_longest_2 : cX0_longest.data.toList.drop 47 = dktX0_longest_2 := dk_seg dksX0_longest_1 23 rfl rfl
theorem dX0_longest_0 : decode cX0_longest 0 = .ok (.iconst 0, 1) := dk_3 (dk_at dksX0_longest_0 0 rfl rfl)
theorem dX0_longest_1 : decode cX0_longest 1 = .ok (.istore_n 2, 1) := dk_61 (dk_at dksX0_longest_0 1 rfl rfl)
theorem dX0_longest_2 : decode cX0_longest 2 = .ok (.aload_n 0, 1) := dk_42 (dk_at dksX0_longest_0 2 rfl rfl)
theorem dX0_longest_3 : decode cX0_longest 3 = .ok (.getfield 42, 3) := dk_180 0 42 (dk_at dksX0_longest_0 3 rfl rfl)
theorem dX0_longest_6 : decode cX0_longest 6 = .ok (.iload_n 1, 1) := dk_27 (dk_at dksX0_longest_0 6 rfl rfl)
theorem dX0_longest_7 : decode cX0_longest 7 = .ok (.invokevirtual 338, 3) := dk_182 1 82 (dk_at dksX0_longest_0 7 rfl rfl)
theorem dX0_longest_10 : decode cX0_longest 10 = .ok (.pop, 1) := dk_87 (dk_at dksX0_longest_0 10 rfl rfl)
theorem dX0_longest_11 : decode cX0_longest 11 = .ok (.iconst 0, 1) := dk_3 (dk_at dksX0_longest_0 11 rfl rfl)
theorem dX0_longest_12 : decode cX0_longest 12 = .ok (.istore_n 3, 1) := dk_62 (dk_at dksX0_longest_0 12 rfl rfl)
theorem dX0_longest_13 : decode cX0_longest 13 = .ok (.iload_n 3, 1) := dk_29 (dk_at dksX0_longest_0 13 rfl rfl)
theorem dX0_longest_14 : decode cX0_longest 14 = .ok (.aload_n 0, 1) := dk_42 (dk_at dksX0_longest_0 14 rfl rfl)
theorem dX0_longest_15 : decode cX0_longest 15 = .ok (.getfield 42, 3) := dk_180 0 42 (dk_at dksX0_longest_0 15 rfl rfl)
theorem dX0_longest_18 : decode cX0_longest 18 = .ok (.getfield 193, 3) := dk_180 0 193 (dk_at dksX0_longest_0 18 rfl rfl)
theorem dX0_longest_21 : decode cX0_longest 21 = .ok (.if_icmp .ge 47, 3) := dk_162 0 47 (dk_at dksX0_longest_0 21 rfl rfl)
theorem dX0_longest_24 : decode cX0_longest 24 = .ok (.aload_n 0, 1) := dk_42 (dk_at dksX0_longest_1 0 rfl rfl)
theorem dX0_longest_25 : decode cX0_longest 25 = .ok (.getfield 42, 3) := dk_180 0 42 (dk_at dksX0_longest_1 1 rfl rfl)
theorem dX0_longest_28 : decode cX0_longest 28 = .ok (.getfield 345, 3) := dk_180 1 89 (dk_at dksX0_longest_1 4 rfl rfl)
theorem dX0_longest_31 : decode cX0_longest 31 = .ok (.aload_n 0, 1) := dk_42 (dk_at dksX0_longest_1 7 rfl rfl)
theorem dX0_longest_32 : decode cX0_longest 32 = .ok (.getfield 42, 3) := dk_180 0 42 (dk_at dksX0_longest_1 8 rfl rfl)
theorem dX0_longest_35 : decode cX0_longest 35 = .ok (.getfield 239, 3) := dk_180 0 239 (dk_at dksX0_longest_1 11 rfl rfl)
theorem dX0_longest_38 : decode cX0_longest 38 = .ok (.iload_n 3, 1) := dk_29 (dk_at dksX0_longest_1 14 rfl rfl)
theorem dX0_longest_39 : decode cX0_longest 39 = .ok (.iaload, 1) := dk_46 (dk_at dksX0_longest_1 15 rfl rfl)
theorem dX0_longest_40 : decode cX0_longest 40 = .ok (.iaload, 1) := dk_46 (dk_at dksX0_longest_1 16 rfl rfl)
theorem dX0_longest_41 : decode cX0_longest 41 = .ok (.istore 4, 2) := dk_54 4 (dk_at dksX0_longest_1 17 rfl rfl)
theorem dX0_longest_43 : decode cX0_longest 43 = .ok (.iload_n 2, 1) := dk_28 (dk_at dksX0_longest_1 19 rfl rfl)
theorem dX0_longest_44 : decode cX0_longest 44 = .ok (.iload 4, 2) := dk_21 4 (dk_at dksX0_longest_1 20 rfl rfl)
theorem dX0_longest_46 : decode cX0_longest 46 = .ok (.iconst (-1), 1) := dk_2 (dk_at dksX0_longest_1 22 rfl rfl)
theorem dX0_longest_47 : decode cX0_longest 47 = .ok (.if_icmp .ne 9, 3) := dk_160 0 9 (dk_at dksX0_longest_2 0 rfl rfl)
theorem dX0_longest_50 : decode cX0_longest 50 = .ok (.ldc_w 283, 3) := dk_19 1 27 (dk_at dksX0_longest_2 3 rfl rfl)
theorem dX0_longest_53 : decode cX0_longest 53 = .ok (.goto 5, 3) := dk_167 0 5 (dk_at dksX0_longest_2 6 rfl rfl)
theorem dX0_longest_56 : decode cX0_longest 56 = .ok (.iload 4, 2) := dk_21 4 (dk_at dksX0_longest_2 9 rfl rfl)
theorem dX0_longest_58 : decode cX0_longest 58 = .ok (.invokestatic 280, 3) := dk_184 1 24 (dk_at dksX0_longest_2 11 rfl rfl)
theorem dX0_longest_61 : decode cX0_longest 61 = .ok (.istore_n 2, 1) := dk_61 (dk_at dksX0_longest_2 14 rfl rfl)
theorem dX0_longest_62 : decode cX0_longest 62 = .ok (.iinc 3 1, 3) := dk_132 3 1 (dk_at dksX0_longest_2 15 rfl rfl)
theorem dX0_longest_65 : decode cX0_longest 65 = .ok (.goto (-52), 3) := dk_167 255 204 (dk_at dksX0_longest_2 18 rfl rfl)
theorem dX0_longest_68 : decode cX0_longest 68 = .ok (.iload_n 2, 1) := dk_28 (dk_at dksX0_longest_2 21 rfl rfl)
theorem dX0_longest_69 : decode cX0_longest 69 = .ok (.ireturn, 1) := dk_172 (dk_at dksX0_longest_2 22 rfl rfl)
def dkwX0_judge_1 : List UInt8 := [25, 4, 180, 0, 117, 182, 0, 91, 172]
abbrev dktX0_judge_1 : List UInt8 := dkwX0_judge_1 ++ []
def dkwX0_judge_0 : List UInt8 := [42, 42, 42, 180, 0, 42, 29, 182, 0, 199, 27, 28, 4, 182, 1, 1, 29, 182, 1, 98, 172, 58, 4, 42]
abbrev dktX0_judge_0 : List UInt8 := dkwX0_judge_0 ++ dktX0_judge_1
theorem dksX0_judge_0 : cX0_judge.data.toList.drop 0 = dktX0_judge_0 := by decide +kernel
theorem dksX0_judge_1 : cX0_judge.data.toList.drop 24 = dktX0_judge_1 := dk_seg dksX0_judge_0 24 rfl rfl
theorem dX0_judge_0 : decode cX0_judge 0 = .ok (.aload_n 0, 1) := dk_42 (dk_at dksX0_judge_0 0 rfl rfl)
theorem dX0_judge_1 : decode cX0_judge 1 = .ok (.aload_n 0, 1) := dk_42 (dk_at dksX0_judge_0 1 rfl rfl)
theorem dX0_judge_2 : decode cX0_judge 2 = .ok (.aload_n 0, 1) := dk_42 (dk_at dksX0_judge_0 2 rfl rfl)
theorem dX0_judge_3 : decode cX0_judge 3 = .ok (.getfield 42, 3) := dk_180 0 42 (dk_at dksX0_judge_0 3 rfl rfl)
theorem dX0_judge_6 : decode cX0_judge 6 = .ok (.iload_n 3, 1) := dk_29 (dk_at dksX0_judge_0 6 rfl rfl)
theorem dX0_judge_7 : decode cX0_judge 7 = .ok (.invokevirtual 199, 3) := dk_182 0 199 (dk_at dksX0_judge_0 7 rfl rfl)
theorem dX0_judge_10 : decode cX0_judge 10 = .ok (.iload_n 1, 1) := dk_27 (dk_at dksX0_judge_0 10 rfl rfl)
theorem dX0_judge_11 : decode cX0_judge 11 = .ok (.iload_n 2, 1) := dk_28 (dk_at dksX0_judge_0 11 rfl rfl)
theorem dX0_judge_12 : decode cX0_judge 12 = .ok (.iconst 1, 1) := dk_4 (dk_at dksX0_judge_0 12 rfl rfl)
theorem dX0_judge_13 : decode cX0_judge 13 = .ok (.invokevirtual 257, 3) := dk_182 1 1 (dk_at dksX0_judge_0 13 rfl rfl)
theorem dX0_judge_16 : decode cX0_judge 16 = .ok (.iload_n 3, 1) := dk_29 (dk_at dksX0_judge_0 16 rfl rfl)
theorem dX0_judge_17 : decode cX0_judge 17 = .ok (.invokevirtual 354, 3) := dk_182 1 98 (dk_at dksX0_judge_0 17 rfl rfl)
theorem dX0_judge_20 : decode cX0_judge 20 = .ok (.ireturn, 1) := dk_172 (dk_at dksX0_judge_0 20 rfl rfl)
theorem dX0_judge_21 : decode cX0_judge 21 = .ok (.astore 4, 2) := dk_58 4 (dk_at dksX0_judge_0 21 rfl rfl)
theorem dX0_judge_23 : decode cX0_judge 23 = .ok (.aload_n 0, 1) := dk_42 (dk_at dksX0_judge_0 23 rfl rfl)
theorem dX0_judge_24 : decode cX0_judge 24 = .ok (.aload 4, 2) := dk_25 4 (dk_at dksX0_judge_1 0 rfl rfl)
theorem dX0_judge_26 : decode cX0_judge 26 = .ok (.getfield 117, 3) := dk_180 0 117 (dk_at dksX0_judge_1 2 rfl rfl)
theorem dX0_judge_29 : decode cX0_judge 29 = .ok (.invokevirtual 91, 3) := dk_182 0 91 (dk_at dksX0_judge_1 5 rfl rfl)
theorem dX0_judge_32 : decode cX0_judge 32 = .ok (.ireturn, 1) := dk_172 (dk_at dksX0_judge_1 8 rfl rfl)
def dkwX0_wrongIn_2 : List UInt8 := [21, 4, 172, 43, 21, 4, 47, 136, 62, 132, 4, 1, 167, 255, 210, 2, 172]
abbrev dktX0_wrongIn_2 : List UInt8 := dkwX0_wrongIn_2 ++ []
def dkwX0_wrongIn_1 : List UInt8 := [43, 21, 4, 47, 182, 1, 41, 153, 0, 16, 43, 21, 4, 47, 136, 29, 184, 1, 95, 4, 159, 0, 6]
abbrev dktX0_wrongIn_1 : List UInt8 := dkwX0_wrongIn_1 ++ dktX0_wrongIn_2
def dkwX0_wrongIn_0 : List UInt8 := [42, 180, 0, 42, 180, 0, 239, 28, 46, 62, 3, 54, 4, 21, 4, 43, 190, 162, 0, 45, 42, 180, 0, 42]
abbrev dktX0_wrongIn_0 : List UInt8 := dkwX0_wrongIn_0 ++ dktX0_wrongIn_1
theorem dksX0_wrongIn_0 : cX0_wrongIn.data.toList.drop 0 = dktX0_wrongIn_0 := by decide +kernel
theorem dksX0_wrongIn_1 : cX0_wrongIn.data.toList.drop 24 = dktX0_wrongIn_1 := dk_seg dksX0_wrongIn_0 24 rfl rfl
theorem dksX0_wrongIn_2 : cX0_wrongIn.data.toList.drop 47 = dktX0_wrongIn_2 := dk_seg dksX0_wrongIn_1 23 rfl rfl
theorem dX0_wrongIn_0 : decode cX0_wrongIn 0 = .ok (.aload_n 0, 1) := dk_42 (dk_at dksX0_wrongIn_0 0 rfl rfl)
theorem dX0_wrongIn_1 : decode cX0_wrongIn 1 = .ok (.getfield 42, 3) := dk_180 0 42 (dk_at dksX0_wrongIn_0 1 rfl rfl)
theorem dX0_wrongIn_4 : decode cX0_wrongIn 4 = .ok (.getfield 239, 3) := dk_180 0 239 (dk_at dksX0_wrongIn_0 4 rfl rfl)
theorem dX0_wrongIn_7 : decode cX0_wrongIn 7 = .ok (.iload_n 2, 1) := dk_28 (dk_at dksX0_wrongIn_0 7 rfl rfl)
theorem dX0_wrongIn_8 : decode cX0_wrongIn 8 = .ok (.iaload, 1) := dk_46 (dk_at dksX0_wrongIn_0 8 rfl rfl)
theorem dX0_wrongIn_9 : decode cX0_wrongIn 9 = .ok (.istore_n 3, 1) := dk_62 (dk_at dksX0_wrongIn_0 9 rfl rfl)
theorem dX0_wrongIn_10 : decode cX0_wrongIn 10 = .ok (.iconst 0, 1) := dk_3 (dk_at dksX0_wrongIn_0 10 rfl rfl)
theorem dX0_wrongIn_11 : decode cX0_wrongIn 11 = .ok (.istore 4, 2) := dk_54 4 (dk_at dksX0_wrongIn_0 11 rfl rfl)
theorem dX0_wrongIn_13 : decode cX0_wrongIn 13 = .ok (.iload 4, 2) := dk_21 4 (dk_at dksX0_wrongIn_0 13 rfl rfl)
theorem dX0_wrongIn_15 : decode cX0_wrongIn 15 = .ok (.aload_n 1, 1) := dk_43 (dk_at dksX0_wrongIn_0 15 rfl rfl)
theorem dX0_wrongIn_16 : decode cX0_wrongIn 16 = .ok (.arraylength, 1) := dk_190 (dk_at dksX0_wrongIn_0 16 rfl rfl)
theorem dX0_wrongIn_17 : decode cX0_wrongIn 17 = .ok (.if_icmp .ge 45, 3) := dk_162 0 45 (dk_at dksX0_wrongIn_0 17 rfl rfl)
theorem dX0_wrongIn_20 : decode cX0_wrongIn 20 = .ok (.aload_n 0, 1) := dk_42 (dk_at dksX0_wrongIn_0 20 rfl rfl)
theorem dX0_wrongIn_21 : decode cX0_wrongIn 21 = .ok (.getfield 42, 3) := dk_180 0 42 (dk_at dksX0_wrongIn_0 21 rfl rfl)
theorem dX0_wrongIn_24 : decode cX0_wrongIn 24 = .ok (.aload_n 1, 1) := dk_43 (dk_at dksX0_wrongIn_1 0 rfl rfl)
theorem dX0_wrongIn_25 : decode cX0_wrongIn 25 = .ok (.iload 4, 2) := dk_21 4 (dk_at dksX0_wrongIn_1 1 rfl rfl)
theorem dX0_wrongIn_27 : decode cX0_wrongIn 27 = .ok (.laload, 1) := dk_47 (dk_at dksX0_wrongIn_1 3 rfl rfl)
theorem dX0_wrongIn_28 : decode cX0_wrongIn 28 = .ok (.invokevirtual 297, 3) := dk_182 1 41 (dk_at dksX0_wrongIn_1 4 rfl rfl)
theorem dX0_wrongIn_31 : decode cX0_wrongIn 31 = .ok (.ifCond .eq 16, 3) := dk_153 0 16 (dk_at dksX0_wrongIn_1 7 rfl rfl)
theorem dX0_wrongIn_34 : decode cX0_wrongIn 34 = .ok (.aload_n 1, 1) := dk_43 (dk_at dksX0_wrongIn_1 10 rfl rfl)
theorem dX0_wrongIn_35 : decode cX0_wrongIn 35 = .ok (.iload 4, 2) := dk_21 4 (dk_at dksX0_wrongIn_1 11 rfl rfl)
theorem dX0_wrongIn_37 : decode cX0_wrongIn 37 = .ok (.laload, 1) := dk_47 (dk_at dksX0_wrongIn_1 13 rfl rfl)
theorem dX0_wrongIn_38 : decode cX0_wrongIn 38 = .ok (.l2i, 1) := dk_136 (dk_at dksX0_wrongIn_1 14 rfl rfl)
theorem dX0_wrongIn_39 : decode cX0_wrongIn 39 = .ok (.iload_n 3, 1) := dk_29 (dk_at dksX0_wrongIn_1 15 rfl rfl)
theorem dX0_wrongIn_40 : decode cX0_wrongIn 40 = .ok (.invokestatic 351, 3) := dk_184 1 95 (dk_at dksX0_wrongIn_1 16 rfl rfl)
theorem dX0_wrongIn_43 : decode cX0_wrongIn 43 = .ok (.iconst 1, 1) := dk_4 (dk_at dksX0_wrongIn_1 19 rfl rfl)
theorem dX0_wrongIn_44 : decode cX0_wrongIn 44 = .ok (.if_icmp .eq 6, 3) := dk_159 0 6 (dk_at dksX0_wrongIn_1 20 rfl rfl)
theorem dX0_wrongIn_47 : decode cX0_wrongIn 47 = .ok (.iload 4, 2) := dk_21 4 (dk_at dksX0_wrongIn_2 0 rfl rfl)
theorem dX0_wrongIn_49 : decode cX0_wrongIn 49 = .ok (.ireturn, 1) := dk_172 (dk_at dksX0_wrongIn_2 2 rfl rfl)
theorem dX0_wrongIn_50 : decode cX0_wrongIn 50 = .ok (.aload_n 1, 1) := dk_43 (dk_at dksX0_wrongIn_2 3 rfl rfl)
theorem dX0_wrongIn_51 : decode cX0_wrongIn 51 = .ok (.iload 4, 2) := dk_21 4 (dk_at dksX0_wrongIn_2 4 rfl rfl)
theorem dX0_wrongIn_53 : decode cX0_wrongIn 53 = .ok (.laload, 1) := dk_47 (dk_at dksX0_wrongIn_2 6 rfl rfl)
theorem dX0_wrongIn_54 : decode cX0_wrongIn 54 = .ok (.l2i, 1) := dk_136 (dk_at dksX0_wrongIn_2 7 rfl rfl)
theorem dX0_wrongIn_55 : decode cX0_wrongIn 55 = .ok (.istore_n 3, 1) := dk_62 (dk_at dksX0_wrongIn_2 8 rfl rfl)
theorem dX0_wrongIn_56 : decode cX0_wrongIn 56 = .ok (.iinc 4 1, 3) := dk_132 4 1 (dk_at dksX0_wrongIn_2 9 rfl rfl)
theorem dX0_wrongIn_59 : decode cX0_wrongIn 59 = .ok (.goto (-46), 3) := dk_167 255 210 (dk_at dksX0_wrongIn_2 12 rfl rfl)
theorem dX0_wrongIn_62 : decode cX0_wrongIn 62 = .ok (.iconst (-1), 1) := dk_2 (dk_at dksX0_wrongIn_2 15 rfl rfl)
theorem dX0_wrongIn_63 : decode cX0_wrongIn 63 = .ok (.ireturn, 1) := dk_172 (dk_at dksX0_wrongIn_2 16 rfl rfl)
def dkwX0_nears_5 : List UInt8 := [180, 0, 117, 182, 0, 91, 172]
abbrev dktX0_nears_5 : List UInt8 := dkwX0_nears_5 ++ []
def dkwX0_nears_4 : List UInt8 := [3, 96, 54, 6, 22, 10, 136, 54, 5, 132, 9, 1, 167, 255, 200, 21, 6, 172, 58, 4, 42, 25, 4]
abbrev dktX0_nears_4 : List UInt8 := dkwX0_nears_4 ++ dktX0_nears_5
def dkwX0_nears_3 : List UInt8 := [180, 1, 89, 22, 10, 136, 46, 42, 180, 0, 42, 180, 1, 89, 21, 5, 46, 162, 0, 7, 4, 167, 0, 4]
abbrev dktX0_nears_3 : List UInt8 := dkwX0_nears_3 ++ dktX0_nears_4
def dkwX0_nears_2 : List UInt8 := [54, 9, 21, 9, 21, 8, 162, 0, 55, 25, 7, 21, 9, 47, 55, 10, 21, 6, 42, 180, 0, 42]
abbrev dktX0_nears_2 : List UInt8 := dkwX0_nears_2 ++ dktX0_nears_3
def dkwX0_nears_1 : List UInt8 := [42, 180, 0, 42, 180, 0, 239, 29, 46, 54, 5, 3, 54, 6, 25, 4, 58, 7, 25, 7, 190, 54, 8, 3]
abbrev dktX0_nears_1 : List UInt8 := dkwX0_nears_1 ++ dktX0_nears_2
def dkwX0_nears_0 : List UInt8 := [42, 27, 28, 29, 182, 1, 101, 58, 4, 42, 180, 0, 42, 42, 180, 0, 42, 180, 0, 183, 182, 1, 82, 87]
abbrev dktX0_nears_0 : List UInt8 := dkwX0_nears_0 ++ dktX0_nears_1
theorem dksX0_nears_0 : cX0_nears.data.toList.drop 0 = dktX0_nears_0 := by decide +kernel
theorem dksX0_nears_1 : cX0_nears.data.toList.drop 24 = dktX0_nears_1 := dk_seg dksX0_nears_0 24 rfl rfl
theorem dksX0_nears_2 : cX0_nears.data.toList.drop 48 = dktX0_nears_2 := dk_seg dksX0_nears_1 24 rfl rfl
theorem dksX0_nears_3 : cX0_nears.data.toList.drop 70 = dktX0_nears_3 := dk_seg dksX0_nears_2 22 rfl rfl
theorem dksX0_nears_4 : cX0_nears.data.toList.drop 94 = dktX0_nears_4 := dk_seg dksX0_nears_3 24 rfl rfl
theorem dksX0_nears_5 : cX0_nears.data.toList.drop 117 = dktX0_nears_5 := dk_seg dksX0_nears_4 23 rfl rfl
theorem dX0_nears_0 : decode cX0_nears 0 = .ok (.aload_n 0, 1) := dk_42 (dk_at dksX0_nears_0 0 rfl rfl)
theorem dX0_nears_1 : decode cX0_nears 1 = .ok (.iload_n 1, 1) := dk_27 (dk_at dksX0_nears_0 1 rfl rfl)
theorem dX0_nears_2 : decode cX0_nears 2 = .ok (.iload_n 2, 1) := dk_28 (dk_at dksX0_nears_0 2 rfl rfl)
theorem dX0_nears_3 : decode cX0_nears 3 = .ok (.iload_n 3, 1) := dk_29 (dk_at dksX0_nears_0 3 rfl rfl)
theorem dX0_nears_4 : decode cX0_nears 4 = .ok (.invokevirtual 357, 3) := dk_182 1 101 (dk_at dksX0_nears_0 4 rfl rfl)
theorem dX0_nears_7 : decode cX0_nears 7 = .ok (.astore 4, 2) := dk_58 4 (dk_at dksX0_nears_0 7 rfl rfl)
theorem dX0_nears_9 : decode cX0_nears 9 = .ok (.aload_n 0, 1) := dk_42 (dk_at dksX0_nears_0 9 rfl rfl)
theorem dX0_nears_10 : decode cX0_nears 10 = .ok (.getfield 42, 3) := dk_180 0 42 (dk_at dksX0_nears_0 10 rfl rfl)
theorem dX0_nears_13 : decode cX0_nears 13 = .ok (.aload_n 0, 1) := dk_42 (dk_at dksX0_nears_0 13 rfl rfl)
theorem dX0_nears_14 : decode cX0_nears 14 = .ok (.getfield 42, 3) := dk_180 0 42 (dk_at dksX0_nears_0 14 rfl rfl)
theorem dX0_nears_17 : decode cX0_nears 17 = .ok (.getfield 183, 3) := dk_180 0 183 (dk_at dksX0_nears_0 17 rfl rfl)
theorem dX0_nears_20 : decode cX0_nears 20 = .ok (.invokevirtual 338, 3) := dk_182 1 82 (dk_at dksX0_nears_0 20 rfl rfl)
theorem dX0_nears_23 : decode cX0_nears 23 = .ok (.pop, 1) := dk_87 (dk_at dksX0_nears_0 23 rfl rfl)
theorem dX0_nears_24 : decode cX0_nears 24 = .ok (.aload_n 0, 1) := dk_42 (dk_at dksX0_nears_1 0 rfl rfl)
theorem dX0_nears_25 : decode cX0_nears 25 = .ok (.getfield 42, 3) := dk_180 0 42 (dk_at dksX0_nears_1 1 rfl rfl)
theorem dX0_nears_28 : decode cX0_nears 28 = .ok (.getfield 239, 3) := dk_180 0 239 (dk_at dksX0_nears_1 4 rfl rfl)
theorem dX0_nears_31 : decode cX0_nears 31 = .ok (.iload_n 3, 1) := dk_29 (dk_at dksX0_nears_1 7 rfl rfl)
theorem dX0_nears_32 : decode cX0_nears 32 = .ok (.iaload, 1) := dk_46 (dk_at dksX0_nears_1 8 rfl rfl)
theorem dX0_nears_33 : decode cX0_nears 33 = .ok (.istore 5, 2) := dk_54 5 (dk_at dksX0_nears_1 9 rfl rfl)
theorem dX0_nears_35 : decode cX0_nears 35 = .ok (.iconst 0, 1) := dk_3 (dk_at dksX0_nears_1 11 rfl rfl)
theorem dX0_nears_36 : decode cX0_nears 36 = .ok (.istore 6, 2) := dk_54 6 (dk_at dksX0_nears_1 12 rfl rfl)
theorem dX0_nears_38 : decode cX0_nears 38 = .ok (.aload 4, 2) := dk_25 4 (dk_at dksX0_nears_1 14 rfl rfl)
theorem dX0_nears_40 : decode cX0_nears 40 = .ok (.astore 7, 2) := dk_58 7 (dk_at dksX0_nears_1 16 rfl rfl)
theorem dX0_nears_42 : decode cX0_nears 42 = .ok (.aload 7, 2) := dk_25 7 (dk_at dksX0_nears_1 18 rfl rfl)
theorem dX0_nears_44 : decode cX0_nears 44 = .ok (.arraylength, 1) := dk_190 (dk_at dksX0_nears_1 20 rfl rfl)
theorem dX0_nears_45 : decode cX0_nears 45 = .ok (.istore 8, 2) := dk_54 8 (dk_at dksX0_nears_1 21 rfl rfl)
theorem dX0_nears_47 : decode cX0_nears 47 = .ok (.iconst 0, 1) := dk_3 (dk_at dksX0_nears_1 23 rfl rfl)
theorem dX0_nears_48 : decode cX0_nears 48 = .ok (.istore 9, 2) := dk_54 9 (dk_at dksX0_nears_2 0 rfl rfl)
theorem dX0_nears_50 : decode cX0_nears 50 = .ok (.iload 9, 2) := dk_21 9 (dk_at dksX0_nears_2 2 rfl rfl)
theorem dX0_nears_52 : decode cX0_nears 52 = .ok (.iload 8, 2) := dk_21 8 (dk_at dksX0_nears_2 4 rfl rfl)
theorem dX0_nears_54 : decode cX0_nears 54 = .ok (.if_icmp .ge 55, 3) := dk_162 0 55 (dk_at dksX0_nears_2 6 rfl rfl)
theorem dX0_nears_57 : decode cX0_nears 57 = .ok (.aload 7, 2) := dk_25 7 (dk_at dksX0_nears_2 9 rfl rfl)
theorem dX0_nears_59 : decode cX0_nears 59 = .ok (.iload 9, 2) := dk_21 9 (dk_at dksX0_nears_2 11 rfl rfl)
theorem dX0_nears_61 : decode cX0_nears 61 = .ok (.laload, 1) := dk_47 (dk_at dksX0_nears_2 13 rfl rfl)
theorem dX0_nears_62 : decode cX0_nears 62 = .ok (.lstore 10, 2) := dk_55 10 (dk_at dksX0_nears_2 14 rfl rfl)
theorem dX0_nears_64 : decode cX0_nears 64 = .ok (.iload 6, 2) := dk_21 6 (dk_at dksX0_nears_2 16 rfl rfl)
theorem dX0_nears_66 : decode cX0_nears 66 = .ok (.aload_n 0, 1) := dk_42 (dk_at dksX0_nears_2 18 rfl rfl)
theorem dX0_nears_67 : decode cX0_nears 67 = .ok (.getfield 42, 3) := dk_180 0 42 (dk_at dksX0_nears_2 19 rfl rfl)
theorem dX0_nears_70 : decode cX0_nears 70 = .ok (.getfield 345, 3) := dk_180 1 89 (dk_at dksX0_nears_3 0 rfl rfl)
theorem dX0_nears_73 : decode cX0_nears 73 = .ok (.lload 10, 2) := dk_22 10 (dk_at dksX0_nears_3 3 rfl rfl)
theorem dX0_nears_75 : decode cX0_nears 75 = .ok (.l2i, 1) := dk_136 (dk_at dksX0_nears_3 5 rfl rfl)
theorem dX0_nears_76 : decode cX0_nears 76 = .ok (.iaload, 1) := dk_46 (dk_at dksX0_nears_3 6 rfl rfl)
theorem dX0_nears_77 : decode cX0_nears 77 = .ok (.aload_n 0, 1) := dk_42 (dk_at dksX0_nears_3 7 rfl rfl)
theorem dX0_nears_78 : decode cX0_nears 78 = .ok (.getfield 42, 3) := dk_180 0 42 (dk_at dksX0_nears_3 8 rfl rfl)
theorem dX0_nears_81 : decode cX0_nears 81 = .ok (.getfield 345, 3) := dk_180 1 89 (dk_at dksX0_nears_3 11 rfl rfl)
theorem dX0_nears_84 : decode cX0_nears 84 = .ok (.iload 5, 2) := dk_21 5 (dk_at dksX0_nears_3 14 rfl rfl)
theorem dX0_nears_86 : decode cX0_nears 86 = .ok (.iaload, 1) := dk_46 (dk_at dksX0_nears_3 16 rfl rfl)
theorem dX0_nears_87 : decode cX0_nears 87 = .ok (.if_icmp .ge 7, 3) := dk_162 0 7 (dk_at dksX0_nears_3 17 rfl rfl)
theorem dX0_nears_90 : decode cX0_nears 90 = .ok (.iconst 1, 1) := dk_4 (dk_at dksX0_nears_3 20 rfl rfl)
theorem dX0_nears_91 : decode cX0_nears 91 = .ok (.goto 4, 3) := dk_167 0 4 (dk_at dksX0_nears_3 21 rfl rfl)
theorem dX0_nears_94 : decode cX0_nears 94 = .ok (.iconst 0, 1) := dk_3 (dk_at dksX0_nears_4 0 rfl rfl)
theorem dX0_nears_95 : decode cX0_nears 95 = .ok (.iadd, 1) := dk_96 (dk_at dksX0_nears_4 1 rfl rfl)
theorem dX0_nears_96 : decode cX0_nears 96 = .ok (.istore 6, 2) := dk_54 6 (dk_at dksX0_nears_4 2 rfl rfl)
theorem dX0_nears_98 : decode cX0_nears 98 = .ok (.lload 10, 2) := dk_22 10 (dk_at dksX0_nears_4 4 rfl rfl)
theorem dX0_nears_100 : decode cX0_nears 100 = .ok (.l2i, 1) := dk_136 (dk_at dksX0_nears_4 6 rfl rfl)
theorem dX0_nears_101 : decode cX0_nears 101 = .ok (.istore 5, 2) := dk_54 5 (dk_at dksX0_nears_4 7 rfl rfl)
theorem dX0_nears_103 : decode cX0_nears 103 = .ok (.iinc 9 1, 3) := dk_132 9 1 (dk_at dksX0_nears_4 9 rfl rfl)
theorem dX0_nears_106 : decode cX0_nears 106 = .ok (.goto (-56), 3) := dk_167 255 200 (dk_at dksX0_nears_4 12 rfl rfl)
theorem dX0_nears_109 : decode cX0_nears 109 = .ok (.iload 6, 2) := dk_21 6 (dk_at dksX0_nears_4 15 rfl rfl)
theorem dX0_nears_111 : decode cX0_nears 111 = .ok (.ireturn, 1) := dk_172 (dk_at dksX0_nears_4 17 rfl rfl)
theorem dX0_nears_112 : decode cX0_nears 112 = .ok (.astore 4, 2) := dk_58 4 (dk_at dksX0_nears_4 18 rfl rfl)
theorem dX0_nears_114 : decode cX0_nears 114 = .ok (.aload_n 0, 1) := dk_42 (dk_at dksX0_nears_4 20 rfl rfl)
theorem dX0_nears_115 : decode cX0_nears 115 = .ok (.aload 4, 2) := dk_25 4 (dk_at dksX0_nears_4 21 rfl rfl)
theorem dX0_nears_117 : decode cX0_nears 117 = .ok (.getfield 117, 3) := dk_180 0 117 (dk_at dksX0_nears_5 0 rfl rfl)
theorem dX0_nears_120 : decode cX0_nears 120 = .ok (.invokevirtual 91, 3) := dk_182 0 91 (dk_at dksX0_nears_5 3 rfl rfl)
theorem dX0_nears_123 : decode cX0_nears 123 = .ok (.ireturn, 1) := dk_172 (dk_at dksX0_nears_5 6 rfl rfl)
def dkwX0_walkIn_1 : List UInt8 := [2, 159, 0, 13, 187, 0, 104, 89, 16, 251, 183, 0, 106, 191, 25, 4, 176]
abbrev dktX0_walkIn_1 : List UInt8 := dkwX0_walkIn_1 ++ []
def dkwX0_walkIn_0 : List UInt8 := [42, 42, 180, 0, 42, 29, 182, 0, 199, 27, 28, 4, 182, 1, 1, 58, 4, 42, 25, 4, 29, 182, 1, 98]
abbrev dktX0_walkIn_0 : List UInt8 := dkwX0_walkIn_0 ++ dktX0_walkIn_1
theorem dksX0_walkIn_0 : cX0_walkIn.data.toList.drop 0 = dktX0_walkIn_0 := by decide +kernel
theorem dksX0_walkIn_1 : cX0_walkIn.data.toList.drop 24 = dktX0_walkIn_1 := dk_seg dksX0_walkIn_0 24 rfl rfl
theorem dX0_walkIn_0 : decode cX0_walkIn 0 = .ok (.aload_n 0, 1) := dk_42 (dk_at dksX0_walkIn_0 0 rfl rfl)
theorem dX0_walkIn_1 : decode cX0_walkIn 1 = .ok (.aload_n 0, 1) := dk_42 (dk_at dksX0_walkIn_0 1 rfl rfl)
theorem dX0_walkIn_2 : decode cX0_walkIn 2 = .ok (.getfield 42, 3) := dk_180 0 42 (dk_at dksX0_walkIn_0 2 rfl rfl)
theorem dX0_walkIn_5 : decode cX0_walkIn 5 = .ok (.iload_n 3, 1) := dk_29 (dk_at dksX0_walkIn_0 5 rfl rfl)
theorem dX0_walkIn_6 : decode cX0_walkIn 6 = .ok (.invokevirtual 199, 3) := dk_182 0 199 (dk_at dksX0_walkIn_0 6 rfl rfl)
theorem dX0_walkIn_9 : decode cX0_walkIn 9 = .ok (.iload_n 1, 1) := dk_27 (dk_at dksX0_walkIn_0 9 rfl rfl)
theorem dX0_walkIn_10 : decode cX0_walkIn 10 = .ok (.iload_n 2, 1) := dk_28 (dk_at dksX0_walkIn_0 10 rfl rfl)
theorem dX0_walkIn_11 : decode cX0_walkIn 11 = .ok (.iconst 1, 1) := dk_4 (dk_at dksX0_walkIn_0 11 rfl rfl)
theorem dX0_walkIn_12 : decode cX0_walkIn 12 = .ok (.invokevirtual 257, 3) := dk_182 1 1 (dk_at dksX0_walkIn_0 12 rfl rfl)
theorem dX0_walkIn_15 : decode cX0_walkIn 15 = .ok (.astore 4, 2) := dk_58 4 (dk_at dksX0_walkIn_0 15 rfl rfl)
theorem dX0_walkIn_17 : decode cX0_walkIn 17 = .ok (.aload_n 0, 1) := dk_42 (dk_at dksX0_walkIn_0 17 rfl rfl)
theorem dX0_walkIn_18 : decode cX0_walkIn 18 = .ok (.aload 4, 2) := dk_25 4 (dk_at dksX0_walkIn_0 18 rfl rfl)
theorem dX0_walkIn_20 : decode cX0_walkIn 20 = .ok (.iload_n 3, 1) := dk_29 (dk_at dksX0_walkIn_0 20 rfl rfl)
theorem dX0_walkIn_21 : decode cX0_walkIn 21 = .ok (.invokevirtual 354, 3) := dk_182 1 98 (dk_at dksX0_walkIn_0 21 rfl rfl)
theorem dX0_walkIn_24 : decode cX0_walkIn 24 = .ok (.iconst (-1), 1) := dk_2 (dk_at dksX0_walkIn_1 0 rfl rfl)
theorem dX0_walkIn_25 : decode cX0_walkIn 25 = .ok (.if_icmp .eq 13, 3) := dk_159 0 13 (dk_at dksX0_walkIn_1 1 rfl rfl)
theorem dX0_walkIn_28 : decode cX0_walkIn 28 = .ok (.new 104, 3) := dk_187 0 104 (dk_at dksX0_walkIn_1 4 rfl rfl)
theorem dX0_walkIn_31 : decode cX0_walkIn 31 = .ok (.dup, 1) := dk_89 (dk_at dksX0_walkIn_1 7 rfl rfl)
theorem dX0_walkIn_32 : decode cX0_walkIn 32 = .ok (.bipush (-5), 2) := dk_16 251 (dk_at dksX0_walkIn_1 8 rfl rfl)
theorem dX0_walkIn_34 : decode cX0_walkIn 34 = .ok (.invokespecial 106, 3) := dk_183 0 106 (dk_at dksX0_walkIn_1 10 rfl rfl)
theorem dX0_walkIn_37 : decode cX0_walkIn 37 = .ok (.athrow, 1) := dk_191 (dk_at dksX0_walkIn_1 13 rfl rfl)
theorem dX0_walkIn_38 : decode cX0_walkIn 38 = .ok (.aload 4, 2) := dk_25 4 (dk_at dksX0_walkIn_1 14 rfl rfl)
theorem dX0_walkIn_40 : decode cX0_walkIn 40 = .ok (.areturn, 1) := dk_176 (dk_at dksX0_walkIn_1 16 rfl rfl)
def dkwX0_done_2 : List UInt8 := [182, 1, 105, 21, 5, 172, 58, 4, 42, 25, 4, 180, 0, 117, 182, 0, 91, 172]
abbrev dktX0_done_2 : List UInt8 := dkwX0_done_2 ++ []
def dkwX0_done_1 : List UInt8 := [167, 0, 12, 25, 4, 25, 4, 190, 4, 100, 47, 136, 54, 5, 42, 180, 0, 42, 29, 21, 5, 3]
abbrev dktX0_done_1 : List UInt8 := dkwX0_done_1 ++ dktX0_done_2
def dkwX0_done_0 : List UInt8 := [42, 27, 28, 29, 182, 1, 101, 58, 4, 25, 4, 190, 154, 0, 15, 42, 180, 0, 42, 180, 0, 239, 29, 46]
abbrev dktX0_done_0 : List UInt8 := dkwX0_done_0 ++ dktX0_done_1
theorem dksX0_done_0 : cX0_done.data.toList.drop 0 = dktX0_done_0 := by decide +kernel
theorem dksX0_done_1 : cX0_done.data.toList.drop 24 = dktX0_done_1 := dk_seg dksX0_done_0 24 rfl rfl
theorem dksX0_done_2 : cX0_done.data.toList.drop 46 = dktX0_done_2 := dk_seg dksX0_done_1 22 rfl rfl
theorem dX0_done_0 : decode cX0_done 0 = .ok (.aload_n 0, 1) := dk_42 (dk_at dksX0_done_0 0 rfl rfl)
theorem dX0_done_1 : decode cX0_done 1 = .ok (.iload_n 1, 1) := dk_27 (dk_at dksX0_done_0 1 rfl rfl)
theorem dX0_done_2 : decode cX0_done 2 = .ok (.iload_n 2, 1) := dk_28 (dk_at dksX0_done_0 2 rfl rfl)
theorem dX0_done_3 : decode cX0_done 3 = .ok (.iload_n 3, 1) := dk_29 (dk_at dksX0_done_0 3 rfl rfl)
theorem dX0_done_4 : decode cX0_done 4 = .ok (.invokevirtual 357, 3) := dk_182 1 101 (dk_at dksX0_done_0 4 rfl rfl)
theorem dX0_done_7 : decode cX0_done 7 = .ok (.astore 4, 2) := dk_58 4 (dk_at dksX0_done_0 7 rfl rfl)
theorem dX0_done_9 : decode cX0_done 9 = .ok (.aload 4, 2) := dk_25 4 (dk_at dksX0_done_0 9 rfl rfl)
theorem dX0_done_11 : decode cX0_done 11 = .ok (.arraylength, 1) := dk_190 (dk_at dksX0_done_0 11 rfl rfl)
theorem dX0_done_12 : decode cX0_done 12 = .ok (.ifCond .ne 15, 3) := dk_154 0 15 (dk_at dksX0_done_0 12 rfl rfl)
theorem dX0_done_15 : decode cX0_done 15 = .ok (.aload_n 0, 1) := dk_42 (dk_at dksX0_done_0 15 rfl rfl)
theorem dX0_done_16 : decode cX0_done 16 = .ok (.getfield 42, 3) := dk_180 0 42 (dk_at dksX0_done_0 16 rfl rfl)
theorem dX0_done_19 : decode cX0_done 19 = .ok (.getfield 239, 3) := dk_180 0 239 (dk_at dksX0_done_0 19 rfl rfl)
theorem dX0_done_22 : decode cX0_done 22 = .ok (.iload_n 3, 1) := dk_29 (dk_at dksX0_done_0 22 rfl rfl)
theorem dX0_done_23 : decode cX0_done 23 = .ok (.iaload, 1) := dk_46 (dk_at dksX0_done_0 23 rfl rfl)
theorem dX0_done_24 : decode cX0_done 24 = .ok (.goto 12, 3) := dk_167 0 12 (dk_at dksX0_done_1 0 rfl rfl)
theorem dX0_done_27 : decode cX0_done 27 = .ok (.aload 4, 2) := dk_25 4 (dk_at dksX0_done_1 3 rfl rfl)
theorem dX0_done_29 : decode cX0_done 29 = .ok (.aload 4, 2) := dk_25 4 (dk_at dksX0_done_1 5 rfl rfl)
theorem dX0_done_31 : decode cX0_done 31 = .ok (.arraylength, 1) := dk_190 (dk_at dksX0_done_1 7 rfl rfl)
theorem dX0_done_32 : decode cX0_done 32 = .ok (.iconst 1, 1) := dk_4 (dk_at dksX0_done_1 8 rfl rfl)
theorem dX0_done_33 : decode cX0_done 33 = .ok (.isub, 1) := dk_100 (dk_at dksX0_done_1 9 rfl rfl)
theorem dX0_done_34 : decode cX0_done 34 = .ok (.laload, 1) := dk_47 (dk_at dksX0_done_1 10 rfl rfl)
theorem dX0_done_35 : decode cX0_done 35 = .ok (.l2i, 1) := dk_136 (dk_at dksX0_done_1 11 rfl rfl)
theorem dX0_done_36 : decode cX0_done 36 = .ok (.istore 5, 2) := dk_54 5 (dk_at dksX0_done_1 12 rfl rfl)
theorem dX0_done_38 : decode cX0_done 38 = .ok (.aload_n 0, 1) := dk_42 (dk_at dksX0_done_1 14 rfl rfl)
theorem dX0_done_39 : decode cX0_done 39 = .ok (.getfield 42, 3) := dk_180 0 42 (dk_at dksX0_done_1 15 rfl rfl)
theorem dX0_done_42 : decode cX0_done 42 = .ok (.iload_n 3, 1) := dk_29 (dk_at dksX0_done_1 18 rfl rfl)
theorem dX0_done_43 : decode cX0_done 43 = .ok (.iload 5, 2) := dk_21 5 (dk_at dksX0_done_1 19 rfl rfl)
theorem dX0_done_45 : decode cX0_done 45 = .ok (.iconst 0, 1) := dk_3 (dk_at dksX0_done_1 21 rfl rfl)
theorem dX0_done_46 : decode cX0_done 46 = .ok (.invokevirtual 361, 3) := dk_182 1 105 (dk_at dksX0_done_2 0 rfl rfl)
theorem dX0_done_49 : decode cX0_done 49 = .ok (.iload 5, 2) := dk_21 5 (dk_at dksX0_done_2 3 rfl rfl)
theorem dX0_done_51 : decode cX0_done 51 = .ok (.ireturn, 1) := dk_172 (dk_at dksX0_done_2 5 rfl rfl)
theorem dX0_done_52 : decode cX0_done 52 = .ok (.astore 4, 2) := dk_58 4 (dk_at dksX0_done_2 6 rfl rfl)
theorem dX0_done_54 : decode cX0_done 54 = .ok (.aload_n 0, 1) := dk_42 (dk_at dksX0_done_2 8 rfl rfl)
theorem dX0_done_55 : decode cX0_done 55 = .ok (.aload 4, 2) := dk_25 4 (dk_at dksX0_done_2 9 rfl rfl)
theorem dX0_done_57 : decode cX0_done 57 = .ok (.getfield 117, 3) := dk_180 0 117 (dk_at dksX0_done_2 11 rfl rfl)
theorem dX0_done_60 : decode cX0_done 60 = .ok (.invokevirtual 91, 3) := dk_182 0 91 (dk_at dksX0_done_2 14 rfl rfl)
theorem dX0_done_63 : decode cX0_done 63 = .ok (.ireturn, 1) := dk_172 (dk_at dksX0_done_2 17 rfl rfl)
def dkwX0_goes_3 : List UInt8 := [180, 0, 42, 27, 21, 4, 28, 153, 0, 7, 4, 167, 0, 4, 3, 182, 1, 105, 21, 4, 172]
abbrev dktX0_goes_3 : List UInt8 := dkwX0_goes_3 ++ []
def dkwX0_goes_2 : List UInt8 := [180, 0, 42, 29, 28, 182, 1, 86, 54, 4, 21, 4, 2, 160, 0, 10, 42, 16, 251, 182, 0, 91, 172, 42]
abbrev dktX0_goes_2 : List UInt8 := dkwX0_goes_2 ++ dktX0_goes_3
def dkwX0_goes_1 : List UInt8 := [182, 0, 91, 172, 42, 180, 0, 42, 180, 0, 239, 27, 46, 62, 28, 154, 0, 7, 29, 167, 0, 12, 42]
abbrev dktX0_goes_1 : List UInt8 := dkwX0_goes_1 ++ dktX0_goes_2
def dkwX0_goes_0 : List UInt8 := [42, 180, 0, 42, 27, 182, 0, 199, 153, 0, 12, 28, 3, 7, 184, 0, 71, 154, 0, 10, 42, 16, 254]
abbrev dktX0_goes_0 : List UInt8 := dkwX0_goes_0 ++ dktX0_goes_1
theorem dksX0_goes_0 : cX0_goes.data.toList.drop 0 = dktX0_goes_0 := by decide +kernel
theorem dksX0_goes_1 : cX0_goes.data.toList.drop 23 = dktX0_goes_1 := dk_seg dksX0_goes_0 23 rfl rfl
theorem dksX0_goes_2 : cX0_goes.data.toList.drop 46 = dktX0_goes_2 := dk_seg dksX0_goes_1 23 rfl rfl
theorem dksX0_goes_3 : cX0_goes.data.toList.drop 70 = dktX0_goes_3 := dk_seg dksX0_goes_2 24 rfl rfl
theorem dX0_goes_0 : decode cX0_goes 0 = .ok (.aload_n 0, 1) := dk_42 (dk_at dksX0_goes_0 0 rfl rfl)
theorem dX0_goes_1 : decode cX0_goes 1 = .ok (.getfield 42, 3) := dk_180 0 42 (dk_at dksX0_goes_0 1 rfl rfl)
theorem dX0_goes_4 : decode cX0_goes 4 = .ok (.iload_n 1, 1) := dk_27 (dk_at dksX0_goes_0 4 rfl rfl)
theorem dX0_goes_5 : decode cX0_goes 5 = .ok (.invokevirtual 199, 3) := dk_182 0 199 (dk_at dksX0_goes_0 5 rfl rfl)
theorem dX0_goes_8 : decode cX0_goes 8 = .ok (.ifCond .eq 12, 3) := dk_153 0 12 (dk_at dksX0_goes_0 8 rfl rfl)
theorem dX0_goes_11 : decode cX0_goes 11 = .ok (.iload_n 2, 1) := dk_28 (dk_at dksX0_goes_0 11 rfl rfl)
theorem dX0_goes_12 : decode cX0_goes 12 = .ok (.iconst 0, 1) := dk_3 (dk_at dksX0_goes_0 12 rfl rfl)
theorem dX0_goes_13 : decode cX0_goes 13 = .ok (.iconst 4, 1) := dk_7 (dk_at dksX0_goes_0 13 rfl rfl)
theorem dX0_goes_14 : decode cX0_goes 14 = .ok (.invokestatic 71, 3) := dk_184 0 71 (dk_at dksX0_goes_0 14 rfl rfl)
theorem dX0_goes_17 : decode cX0_goes 17 = .ok (.ifCond .ne 10, 3) := dk_154 0 10 (dk_at dksX0_goes_0 17 rfl rfl)
theorem dX0_goes_20 : decode cX0_goes 20 = .ok (.aload_n 0, 1) := dk_42 (dk_at dksX0_goes_0 20 rfl rfl)
theorem dX0_goes_21 : decode cX0_goes 21 = .ok (.bipush (-2), 2) := dk_16 254 (dk_at dksX0_goes_0 21 rfl rfl)
theorem dX0_goes_23 : decode cX0_goes 23 = .ok (.invokevirtual 91, 3) := dk_182 0 91 (dk_at dksX0_goes_1 0 rfl rfl)
theorem dX0_goes_26 : decode cX0_goes 26 = .ok (.ireturn, 1) := dk_172 (dk_at dksX0_goes_1 3 rfl rfl)
theorem dX0_goes_27 : decode cX0_goes 27 = .ok (.aload_n 0, 1) := dk_42 (dk_at dksX0_goes_1 4 rfl rfl)
theorem dX0_goes_28 : decode cX0_goes 28 = .ok (.getfield 42, 3) := dk_180 0 42 (dk_at dksX0_goes_1 5 rfl rfl)
theorem dX0_goes_31 : decode cX0_goes 31 = .ok (.getfield 239, 3) := dk_180 0 239 (dk_at dksX0_goes_1 8 rfl rfl)
theorem dX0_goes_34 : decode cX0_goes 34 = .ok (.iload_n 1, 1) := dk_27 (dk_at dksX0_goes_1 11 rfl rfl)
theorem dX0_goes_35 : decode cX0_goes 35 = .ok (.iaload, 1) := dk_46 (dk_at dksX0_goes_1 12 rfl rfl)
theorem dX0_goes_36 : decode cX0_goes 36 = .ok (.istore_n 3, 1) := dk_62 (dk_at dksX0_goes_1 13 rfl rfl)
theorem dX0_goes_37 : decode cX0_goes 37 = .ok (.iload_n 2, 1) := dk_28 (dk_at dksX0_goes_1 14 rfl rfl)
theorem dX0_goes_38 : decode cX0_goes 38 = .ok (.ifCond .ne 7, 3) := dk_154 0 7 (dk_at dksX0_goes_1 15 rfl rfl)
theorem dX0_goes_41 : decode cX0_goes 41 = .ok (.iload_n 3, 1) := dk_29 (dk_at dksX0_goes_1 18 rfl rfl)
theorem dX0_goes_42 : decode cX0_goes 42 = .ok (.goto 12, 3) := dk_167 0 12 (dk_at dksX0_goes_1 19 rfl rfl)
theorem dX0_goes_45 : decode cX0_goes 45 = .ok (.aload_n 0, 1) := dk_42 (dk_at dksX0_goes_1 22 rfl rfl)
theorem dX0_goes_46 : decode cX0_goes 46 = .ok (.getfield 42, 3) := dk_180 0 42 (dk_at dksX0_goes_2 0 rfl rfl)
theorem dX0_goes_49 : decode cX0_goes 49 = .ok (.iload_n 3, 1) := dk_29 (dk_at dksX0_goes_2 3 rfl rfl)
theorem dX0_goes_50 : decode cX0_goes 50 = .ok (.iload_n 2, 1) := dk_28 (dk_at dksX0_goes_2 4 rfl rfl)
theorem dX0_goes_51 : decode cX0_goes 51 = .ok (.invokevirtual 342, 3) := dk_182 1 86 (dk_at dksX0_goes_2 5 rfl rfl)
theorem dX0_goes_54 : decode cX0_goes 54 = .ok (.istore 4, 2) := dk_54 4 (dk_at dksX0_goes_2 8 rfl rfl)
theorem dX0_goes_56 : decode cX0_goes 56 = .ok (.iload 4, 2) := dk_21 4 (dk_at dksX0_goes_2 10 rfl rfl)
theorem dX0_goes_58 : decode cX0_goes 58 = .ok (.iconst (-1), 1) := dk_2 (dk_at dksX0_goes_2 12 rfl rfl)
theorem dX0_goes_59 : decode cX0_goes 59 = .ok (.if_icmp .ne 10, 3) := dk_160 0 10 (dk_at dksX0_goes_2 13 rfl rfl)
theorem dX0_goes_62 : decode cX0_goes 62 = .ok (.aload_n 0, 1) := dk_42 (dk_at dksX0_goes_2 16 rfl rfl)
theorem dX0_goes_63 : decode cX0_goes 63 = .ok (.bipush (-5), 2) := dk_16 251 (dk_at dksX0_goes_2 17 rfl rfl)
theorem dX0_goes_65 : decode cX0_goes 65 = .ok (.invokevirtual 91, 3) := dk_182 0 91 (dk_at dksX0_goes_2 19 rfl rfl)
theorem dX0_goes_68 : decode cX0_goes 68 = .ok (.ireturn, 1) := dk_172 (dk_at dksX0_goes_2 22 rfl rfl)
theorem dX0_goes_69 : decode cX0_goes 69 = .ok (.aload_n 0, 1) := dk_42 (dk_at dksX0_goes_2 23 rfl rfl)
theorem dX0_goes_70 : decode cX0_goes 70 = .ok (.getfield 42, 3) := dk_180 0 42 (dk_at dksX0_goes_3 0 rfl rfl)
theorem dX0_goes_73 : decode cX0_goes 73 = .ok (.iload_n 1, 1) := dk_27 (dk_at dksX0_goes_3 3 rfl rfl)
theorem dX0_goes_74 : decode cX0_goes 74 = .ok (.iload 4, 2) := dk_21 4 (dk_at dksX0_goes_3 4 rfl rfl)
theorem dX0_goes_76 : decode cX0_goes 76 = .ok (.iload_n 2, 1) := dk_28 (dk_at dksX0_goes_3 6 rfl rfl)
theorem dX0_goes_77 : decode cX0_goes 77 = .ok (.ifCond .eq 7, 3) := dk_153 0 7 (dk_at dksX0_goes_3 7 rfl rfl)
theorem dX0_goes_80 : decode cX0_goes 80 = .ok (.iconst 1, 1) := dk_4 (dk_at dksX0_goes_3 10 rfl rfl)
theorem dX0_goes_81 : decode cX0_goes 81 = .ok (.goto 4, 3) := dk_167 0 4 (dk_at dksX0_goes_3 11 rfl rfl)
theorem dX0_goes_84 : decode cX0_goes 84 = .ok (.iconst 0, 1) := dk_3 (dk_at dksX0_goes_3 14 rfl rfl)
theorem dX0_goes_85 : decode cX0_goes 85 = .ok (.invokevirtual 361, 3) := dk_182 1 105 (dk_at dksX0_goes_3 15 rfl rfl)
theorem dX0_goes_88 : decode cX0_goes 88 = .ok (.iload 4, 2) := dk_21 4 (dk_at dksX0_goes_3 18 rfl rfl)
theorem dX0_goes_90 : decode cX0_goes 90 = .ok (.ireturn, 1) := dk_172 (dk_at dksX0_goes_3 20 rfl rfl)
def dkwX0_days_2 : List UInt8 := [100, 172]
abbrev dktX0_days_2 : List UInt8 := dkwX0_days_2 ++ []
def dkwX0_days_1 : List UInt8 := [42, 180, 0, 42, 182, 1, 111, 132, 2, 1, 167, 255, 241, 42, 180, 0, 42, 180, 0, 193, 42, 182, 1, 114]
abbrev dktX0_days_1 : List UInt8 := dkwX0_days_1 ++ dktX0_days_2
def dkwX0_days_0 : List UInt8 := [27, 4, 16, 60, 184, 0, 71, 154, 0, 10, 42, 16, 254, 182, 0, 91, 172, 3, 61, 28, 27, 162, 0, 16]
abbrev dktX0_days_0 : List UInt8 := dkwX0_days_0 ++ dktX0_days_1
theorem dksX0_days_0 : cX0_days.data.toList.drop 0 = dktX0_days_0 := by decide +kernel
theorem dksX0_days_1 : cX0_days.data.toList.drop 24 = dktX0_days_1 := dk_seg dksX0_days_0 24 rfl rfl
theorem dksX0_days_2 : cX0_days.data.toList.drop 48 = dktX0_days_2 := dk_seg dksX0_days_1 24 rfl rfl
theorem dX0_days_0 : decode cX0_days 0 = .ok (.iload_n 1, 1) := dk_27 (dk_at dksX0_days_0 0 rfl rfl)
theorem dX0_days_1 : decode cX0_days 1 = .ok (.iconst 1, 1) := dk_4 (dk_at dksX0_days_0 1 rfl rfl)
theorem dX0_days_2 : decode cX0_days 2 = .ok (.bipush 60, 2) := dk_16 60 (dk_at dksX0_days_0 2 rfl rfl)
theorem dX0_days_4 : decode cX0_days 4 = .ok (.invokestatic 71, 3) := dk_184 0 71 (dk_at dksX0_days_0 4 rfl rfl)
theorem dX0_days_7 : decode cX0_days 7 = .ok (.ifCond .ne 10, 3) := dk_154 0 10 (dk_at dksX0_days_0 7 rfl rfl)
theorem dX0_days_10 : decode cX0_days 10 = .ok (.aload_n 0, 1) := dk_42 (dk_at dksX0_days_0 10 rfl rfl)
theorem dX0_days_11 : decode cX0_days 11 = .ok (.bipush (-2), 2) := dk_16 254 (dk_at dksX0_days_0 11 rfl rfl)
theorem dX0_days_13 : decode cX0_days 13 = .ok (.invokevirtual 91, 3) := dk_182 0 91 (dk_at dksX0_days_0 13 rfl rfl)
theorem dX0_days_16 : decode cX0_days 16 = .ok (.ireturn, 1) := dk_172 (dk_at dksX0_days_0 16 rfl rfl)
theorem dX0_days_17 : decode cX0_days 17 = .ok (.iconst 0, 1) := dk_3 (dk_at dksX0_days_0 17 rfl rfl)
theorem dX0_days_18 : decode cX0_days 18 = .ok (.istore_n 2, 1) := dk_61 (dk_at dksX0_days_0 18 rfl rfl)
theorem dX0_days_19 : decode cX0_days 19 = .ok (.iload_n 2, 1) := dk_28 (dk_at dksX0_days_0 19 rfl rfl)
theorem dX0_days_20 : decode cX0_days 20 = .ok (.iload_n 1, 1) := dk_27 (dk_at dksX0_days_0 20 rfl rfl)
theorem dX0_days_21 : decode cX0_days 21 = .ok (.if_icmp .ge 16, 3) := dk_162 0 16 (dk_at dksX0_days_0 21 rfl rfl)
theorem dX0_days_24 : decode cX0_days 24 = .ok (.aload_n 0, 1) := dk_42 (dk_at dksX0_days_1 0 rfl rfl)
theorem dX0_days_25 : decode cX0_days 25 = .ok (.getfield 42, 3) := dk_180 0 42 (dk_at dksX0_days_1 1 rfl rfl)
theorem dX0_days_28 : decode cX0_days 28 = .ok (.invokevirtual 367, 3) := dk_182 1 111 (dk_at dksX0_days_1 4 rfl rfl)
theorem dX0_days_31 : decode cX0_days 31 = .ok (.iinc 2 1, 3) := dk_132 2 1 (dk_at dksX0_days_1 7 rfl rfl)
theorem dX0_days_34 : decode cX0_days 34 = .ok (.goto (-15), 3) := dk_167 255 241 (dk_at dksX0_days_1 10 rfl rfl)
theorem dX0_days_37 : decode cX0_days 37 = .ok (.aload_n 0, 1) := dk_42 (dk_at dksX0_days_1 13 rfl rfl)
theorem dX0_days_38 : decode cX0_days 38 = .ok (.getfield 42, 3) := dk_180 0 42 (dk_at dksX0_days_1 14 rfl rfl)
theorem dX0_days_41 : decode cX0_days 41 = .ok (.getfield 193, 3) := dk_180 0 193 (dk_at dksX0_days_1 17 rfl rfl)
theorem dX0_days_44 : decode cX0_days 44 = .ok (.aload_n 0, 1) := dk_42 (dk_at dksX0_days_1 20 rfl rfl)
theorem dX0_days_45 : decode cX0_days 45 = .ok (.invokevirtual 370, 3) := dk_182 1 114 (dk_at dksX0_days_1 21 rfl rfl)
theorem dX0_days_48 : decode cX0_days 48 = .ok (.isub, 1) := dk_100 (dk_at dksX0_days_2 0 rfl rfl)
theorem dX0_days_49 : decode cX0_days 49 = .ok (.ireturn, 1) := dk_172 (dk_at dksX0_days_2 1 rfl rfl)
def dkwX0_manyLost_0 : List UInt8 := [42, 180, 0, 42, 182, 0, 150, 180, 1, 109, 172]
abbrev dktX0_manyLost_0 : List UInt8 := dkwX0_manyLost_0 ++ []
theorem dksX0_manyLost_0 : cX0_manyLost.data.toList.drop 0 = dktX0_manyLost_0 := by decide +kernel
theorem dX0_manyLost_0 : decode cX0_manyLost 0 = .ok (.aload_n 0, 1) := dk_42 (dk_at dksX0_manyLost_0 0 rfl rfl)
theorem dX0_manyLost_1 : decode cX0_manyLost 1 = .ok (.getfield 42, 3) := dk_180 0 42 (dk_at dksX0_manyLost_0 1 rfl rfl)
theorem dX0_manyLost_4 : decode cX0_manyLost 4 = .ok (.invokevirtual 150, 3) := dk_182 0 150 (dk_at dksX0_manyLost_0 4 rfl rfl)
theorem dX0_manyLost_7 : decode cX0_manyLost 7 = .ok (.getfield 365, 3) := dk_180 1 109 (dk_at dksX0_manyLost_0 7 rfl rfl)
theorem dX0_manyLost_10 : decode cX0_manyLost 10 = .ok (.ireturn, 1) := dk_172 (dk_at dksX0_manyLost_0 10 rfl rfl)
def dkwX0_seed_0 : List UInt8 := [42, 180, 0, 42, 180, 1, 117, 61, 42, 180, 0, 42, 27, 181, 1, 117, 28, 172]
abbrev dktX0_seed_0 : List UInt8 := dkwX0_seed_0 ++ []
theorem dksX0_seed_0 : cX0_seed.data.toList.drop 0 = dktX0_seed_0 := by decide +kernel
theorem dX0_seed_0 : decode cX0_seed 0 = .ok (.aload_n 0, 1) := dk_42 (dk_at dksX0_seed_0 0 rfl rfl)
theorem dX0_seed_1 : decode cX0_seed 1 = .ok (.getfield 42, 3) := dk_180 0 42 (dk_at dksX0_seed_0 1 rfl rfl)
theorem dX0_seed_4 : decode cX0_seed 4 = .ok (.getfield 373, 3) := dk_180 1 117 (dk_at dksX0_seed_0 4 rfl rfl)
theorem dX0_seed_7 : decode cX0_seed 7 = .ok (.istore_n 2, 1) := dk_61 (dk_at dksX0_seed_0 7 rfl rfl)
theorem dX0_seed_8 : decode cX0_seed 8 = .ok (.aload_n 0, 1) := dk_42 (dk_at dksX0_seed_0 8 rfl rfl)
theorem dX0_seed_9 : decode cX0_seed 9 = .ok (.getfield 42, 3) := dk_180 0 42 (dk_at dksX0_seed_0 9 rfl rfl)
theorem dX0_seed_12 : decode cX0_seed 12 = .ok (.iload_n 1, 1) := dk_27 (dk_at dksX0_seed_0 12 rfl rfl)
theorem dX0_seed_13 : decode cX0_seed 13 = .ok (.putfield 373, 3) := dk_181 1 117 (dk_at dksX0_seed_0 13 rfl rfl)
theorem dX0_seed_16 : decode cX0_seed 16 = .ok (.iload_n 2, 1) := dk_28 (dk_at dksX0_seed_0 16 rfl rfl)
theorem dX0_seed_17 : decode cX0_seed 17 = .ok (.ireturn, 1) := dk_172 (dk_at dksX0_seed_0 17 rfl rfl)
def dkwX0_image_0 : List UInt8 := [42, 42, 180, 0, 42, 182, 0, 210, 181, 1, 120, 4, 172]
abbrev dktX0_image_0 : List UInt8 := dkwX0_image_0 ++ []
theorem dksX0_image_0 : cX0_image.data.toList.drop 0 = dktX0_image_0 := by decide +kernel
theorem dX0_image_0 : decode cX0_image 0 = .ok (.aload_n 0, 1) := dk_42 (dk_at dksX0_image_0 0 rfl rfl)
theorem dX0_image_1 : decode cX0_image 1 = .ok (.aload_n 0, 1) := dk_42 (dk_at dksX0_image_0 1 rfl rfl)
theorem dX0_image_2 : decode cX0_image 2 = .ok (.getfield 42, 3) := dk_180 0 42 (dk_at dksX0_image_0 2 rfl rfl)
theorem dX0_image_5 : decode cX0_image 5 = .ok (.invokevirtual 210, 3) := dk_182 0 210 (dk_at dksX0_image_0 5 rfl rfl)
theorem dX0_image_8 : decode cX0_image 8 = .ok (.putfield 376, 3) := dk_181 1 120 (dk_at dksX0_image_0 8 rfl rfl)
theorem dX0_image_11 : decode cX0_image 11 = .ok (.iconst 1, 1) := dk_4 (dk_at dksX0_image_0 11 rfl rfl)
theorem dX0_image_12 : decode cX0_image 12 = .ok (.ireturn, 1) := dk_172 (dk_at dksX0_image_0 12 rfl rfl)
def dkwX0_back_1 : List UInt8 := [182, 0, 224, 4, 172]
abbrev dktX0_back_1 : List UInt8 := dkwX0_back_1 ++ []
def dkwX0_back_0 : List UInt8 := [42, 180, 1, 120, 199, 0, 10, 42, 16, 251, 182, 0, 91, 172, 42, 42, 180, 1, 120, 182, 0, 210]
abbrev dktX0_back_0 : List UInt8 := dkwX0_back_0 ++ dktX0_back_1
theorem dksX0_back_0 : cX0_back.data.toList.drop 0 = dktX0_back_0 := by decide +kernel
theorem dksX0_back_1 : cX0_back.data.toList.drop 22 = dktX0_back_1 := dk_seg dksX0_back_0 22 rfl rfl
theorem dX0_back_0 : decode cX0_back 0 = .ok (.aload_n 0, 1) := dk_42 (dk_at dksX0_back_0 0 rfl rfl)
theorem dX0_back_1 : decode cX0_back 1 = .ok (.getfield 376, 3) := dk_180 1 120 (dk_at dksX0_back_0 1 rfl rfl)
theorem dX0_back_4 : decode cX0_back 4 = .ok (.ifnonnull 10, 3) := dk_199 0 10 (dk_at dksX0_back_0 4 rfl rfl)
theorem dX0_back_7 : decode cX0_back 7 = .ok (.aload_n 0, 1) := dk_42 (dk_at dksX0_back_0 7 rfl rfl)
theorem dX0_back_8 : decode cX0_back 8 = .ok (.bipush (-5), 2) := dk_16 251 (dk_at dksX0_back_0 8 rfl rfl)
theorem dX0_back_10 : decode cX0_back 10 = .ok (.invokevirtual 91, 3) := dk_182 0 91 (dk_at dksX0_back_0 10 rfl rfl)
theorem dX0_back_13 : decode cX0_back 13 = .ok (.ireturn, 1) := dk_172 (dk_at dksX0_back_0 13 rfl rfl)
theorem dX0_back_14 : decode cX0_back 14 = .ok (.aload_n 0, 1) := dk_42 (dk_at dksX0_back_0 14 rfl rfl)
theorem dX0_back_15 : decode cX0_back 15 = .ok (.aload_n 0, 1) := dk_42 (dk_at dksX0_back_0 15 rfl rfl)
theorem dX0_back_16 : decode cX0_back 16 = .ok (.getfield 376, 3) := dk_180 1 120 (dk_at dksX0_back_0 16 rfl rfl)
theorem dX0_back_19 : decode cX0_back 19 = .ok (.invokevirtual 210, 3) := dk_182 0 210 (dk_at dksX0_back_0 19 rfl rfl)
theorem dX0_back_22 : decode cX0_back 22 = .ok (.invokevirtual 224, 3) := dk_182 0 224 (dk_at dksX0_back_1 0 rfl rfl)
theorem dX0_back_25 : decode cX0_back 25 = .ok (.iconst 1, 1) := dk_4 (dk_at dksX0_back_1 3 rfl rfl)
theorem dX0_back_26 : decode cX0_back 26 = .ok (.ireturn, 1) := dk_172 (dk_at dksX0_back_1 4 rfl rfl)
def dkwX0_status_4 : List UInt8 := [180, 0, 205, 172, 42, 180, 0, 42, 180, 1, 117, 172, 42, 182, 1, 126, 172, 2, 172]
abbrev dktX0_status_4 : List UInt8 := dkwX0_status_4 ++ []
def dkwX0_status_3 : List UInt8 := [42, 180, 0, 42, 180, 0, 193, 172, 42, 182, 1, 114, 172, 42, 180, 0, 42, 182, 1, 123, 172, 42]
abbrev dktX0_status_3 : List UInt8 := dkwX0_status_3 ++ dktX0_status_4
def dkwX0_status_2 : List UInt8 := [42, 180, 0, 42, 180, 0, 186, 172, 42, 180, 0, 42, 180, 0, 167, 172, 42, 180, 0, 42, 180, 0, 183, 172]
abbrev dktX0_status_2 : List UInt8 := dkwX0_status_2 ++ dktX0_status_3
def dkwX0_status_1 : List UInt8 := [170, 0, 0, 0, 0, 113, 0, 0, 0, 0, 0, 0, 0, 8, 0, 0, 0, 50, 0, 0, 0, 58, 0, 0, 0, 66, 0, 0, 0, 74, 0, 0, 0, 82, 0, 0, 0, 87, 0, 0, 0, 95, 0, 0, 0, 100, 0, 0, 0, 108]
abbrev dktX0_status_1 : List UInt8 := dkwX0_status_1 ++ dktX0_status_2
def dkwX0_status_0 : List UInt8 := [27, 16, 12, 16, 16, 184, 0, 71, 153, 0, 13, 42, 180, 0, 67, 27, 16, 10, 100, 46, 172, 27]
abbrev dktX0_status_0 : List UInt8 := dkwX0_status_0 ++ dktX0_status_1
theorem dksX0_status_0 : cX0_status.data.toList.drop 0 = dktX0_status_0 := by decide +kernel
theorem dksX0_status_1 : cX0_status.data.toList.drop 22 = dktX0_status_1 := dk_seg dksX0_status_0 22 rfl rfl
theorem dksX0_status_2 : cX0_status.data.toList.drop 72 = dktX0_status_2 := dk_seg dksX0_status_1 50 rfl rfl
theorem dksX0_status_3 : cX0_status.data.toList.drop 96 = dktX0_status_3 := dk_seg dksX0_status_2 24 rfl rfl
theorem dksX0_status_4 : cX0_status.data.toList.drop 118 = dktX0_status_4 := dk_seg dksX0_status_3 22 rfl rfl
theorem dX0_status_0 : decode cX0_status 0 = .ok (.iload_n 1, 1) := dk_27 (dk_at dksX0_status_0 0 rfl rfl)
theorem dX0_status_1 : decode cX0_status 1 = .ok (.bipush 12, 2) := dk_16 12 (dk_at dksX0_status_0 1 rfl rfl)
theorem dX0_status_3 : decode cX0_status 3 = .ok (.bipush 16, 2) := dk_16 16 (dk_at dksX0_status_0 3 rfl rfl)
theorem dX0_status_5 : decode cX0_status 5 = .ok (.invokestatic 71, 3) := dk_184 0 71 (dk_at dksX0_status_0 5 rfl rfl)
theorem dX0_status_8 : decode cX0_status 8 = .ok (.ifCond .eq 13, 3) := dk_153 0 13 (dk_at dksX0_status_0 8 rfl rfl)
theorem dX0_status_11 : decode cX0_status 11 = .ok (.aload_n 0, 1) := dk_42 (dk_at dksX0_status_0 11 rfl rfl)
theorem dX0_status_12 : decode cX0_status 12 = .ok (.getfield 67, 3) := dk_180 0 67 (dk_at dksX0_status_0 12 rfl rfl)
theorem dX0_status_15 : decode cX0_status 15 = .ok (.iload_n 1, 1) := dk_27 (dk_at dksX0_status_0 15 rfl rfl)
theorem dX0_status_16 : decode cX0_status 16 = .ok (.bipush 10, 2) := dk_16 10 (dk_at dksX0_status_0 16 rfl rfl)
theorem dX0_status_18 : decode cX0_status 18 = .ok (.isub, 1) := dk_100 (dk_at dksX0_status_0 18 rfl rfl)
theorem dX0_status_19 : decode cX0_status 19 = .ok (.iaload, 1) := dk_46 (dk_at dksX0_status_0 19 rfl rfl)
theorem dX0_status_20 : decode cX0_status 20 = .ok (.ireturn, 1) := dk_172 (dk_at dksX0_status_0 20 rfl rfl)
theorem dX0_status_21 : decode cX0_status 21 = .ok (.iload_n 1, 1) := dk_27 (dk_at dksX0_status_0 21 rfl rfl)
theorem dX0_status_22 : decode cX0_status 22 = .ok (.tableswitch 113 0 8 #[50, 58, 66, 74, 82, 87, 95, 100, 108], 50) := by decide +kernel
theorem dX0_status_72 : decode cX0_status 72 = .ok (.aload_n 0, 1) := dk_42 (dk_at dksX0_status_2 0 rfl rfl)
theorem dX0_status_73 : decode cX0_status 73 = .ok (.getfield 42, 3) := dk_180 0 42 (dk_at dksX0_status_2 1 rfl rfl)
theorem dX0_status_76 : decode cX0_status 76 = .ok (.getfield 186, 3) := dk_180 0 186 (dk_at dksX0_status_2 4 rfl rfl)
theorem dX0_status_79 : decode cX0_status 79 = .ok (.ireturn, 1) := dk_172 (dk_at dksX0_status_2 7 rfl rfl)
theorem dX0_status_80 : decode cX0_status 80 = .ok (.aload_n 0, 1) := dk_42 (dk_at dksX0_status_2 8 rfl rfl)
theorem dX0_status_81 : decode cX0_status 81 = .ok (.getfield 42, 3) := dk_180 0 42 (dk_at dksX0_status_2 9 rfl rfl)
theorem dX0_status_84 : decode cX0_status 84 = .ok (.getfield 167, 3) := dk_180 0 167 (dk_at dksX0_status_2 12 rfl rfl)
theorem dX0_status_87 : decode cX0_status 87 = .ok (.ireturn, 1) := dk_172 (dk_at dksX0_status_2 15 rfl rfl)
theorem dX0_status_88 : decode cX0_status 88 = .ok (.aload_n 0, 1) := dk_42 (dk_at dksX0_status_2 16 rfl rfl)
theorem dX0_status_89 : decode cX0_status 89 = .ok (.getfield 42, 3) := dk_180 0 42 (dk_at dksX0_status_2 17 rfl rfl)
theorem dX0_status_92 : decode cX0_status 92 = .ok (.getfield 183, 3) := dk_180 0 183 (dk_at dksX0_status_2 20 rfl rfl)
theorem dX0_status_95 : decode cX0_status 95 = .ok (.ireturn, 1) := dk_172 (dk_at dksX0_status_2 23 rfl rfl)
theorem dX0_status_96 : decode cX0_status 96 = .ok (.aload_n 0, 1) := dk_42 (dk_at dksX0_status_3 0 rfl rfl)
theorem dX0_status_97 : decode cX0_status 97 = .ok (.getfield 42, 3) := dk_180 0 42 (dk_at dksX0_status_3 1 rfl rfl)
theorem dX0_status_100 : decode cX0_status 100 = .ok (.getfield 193, 3) := dk_180 0 193 (dk_at dksX0_status_3 4 rfl rfl)
theorem dX0_status_103 : decode cX0_status 103 = .ok (.ireturn, 1) := dk_172 (dk_at dksX0_status_3 7 rfl rfl)
theorem dX0_status_104 : decode cX0_status 104 = .ok (.aload_n 0, 1) := dk_42 (dk_at dksX0_status_3 8 rfl rfl)
theorem dX0_status_105 : decode cX0_status 105 = .ok (.invokevirtual 370, 3) := dk_182 1 114 (dk_at dksX0_status_3 9 rfl rfl)
theorem dX0_status_108 : decode cX0_status 108 = .ok (.ireturn, 1) := dk_172 (dk_at dksX0_status_3 12 rfl rfl)
theorem dX0_status_109 : decode cX0_status 109 = .ok (.aload_n 0, 1) := dk_42 (dk_at dksX0_status_3 13 rfl rfl)
theorem dX0_status_110 : decode cX0_status 110 = .ok (.getfield 42, 3) := dk_180 0 42 (dk_at dksX0_status_3 14 rfl rfl)
theorem dX0_status_113 : decode cX0_status 113 = .ok (.invokevirtual 379, 3) := dk_182 1 123 (dk_at dksX0_status_3 17 rfl rfl)
theorem dX0_status_116 : decode cX0_status 116 = .ok (.ireturn, 1) := dk_172 (dk_at dksX0_status_3 20 rfl rfl)
theorem dX0_status_117 : decode cX0_status 117 = .ok (.aload_n 0, 1) := dk_42 (dk_at dksX0_status_3 21 rfl rfl)
theorem dX0_status_118 : decode cX0_status 118 = .ok (.getfield 205, 3) := dk_180 0 205 (dk_at dksX0_status_4 0 rfl rfl)
theorem dX0_status_121 : decode cX0_status 121 = .ok (.ireturn, 1) := dk_172 (dk_at dksX0_status_4 3 rfl rfl)
theorem dX0_status_122 : decode cX0_status 122 = .ok (.aload_n 0, 1) := dk_42 (dk_at dksX0_status_4 4 rfl rfl)
theorem dX0_status_123 : decode cX0_status 123 = .ok (.getfield 42, 3) := dk_180 0 42 (dk_at dksX0_status_4 5 rfl rfl)
theorem dX0_status_126 : decode cX0_status 126 = .ok (.getfield 373, 3) := dk_180 1 117 (dk_at dksX0_status_4 8 rfl rfl)
theorem dX0_status_129 : decode cX0_status 129 = .ok (.ireturn, 1) := dk_172 (dk_at dksX0_status_4 11 rfl rfl)
theorem dX0_status_130 : decode cX0_status 130 = .ok (.aload_n 0, 1) := dk_42 (dk_at dksX0_status_4 12 rfl rfl)
theorem dX0_status_131 : decode cX0_status 131 = .ok (.invokevirtual 382, 3) := dk_182 1 126 (dk_at dksX0_status_4 13 rfl rfl)
theorem dX0_status_134 : decode cX0_status 134 = .ok (.ireturn, 1) := dk_172 (dk_at dksX0_status_4 16 rfl rfl)
theorem dX0_status_135 : decode cX0_status 135 = .ok (.iconst (-1), 1) := dk_2 (dk_at dksX0_status_4 17 rfl rfl)
theorem dX0_status_136 : decode cX0_status 136 = .ok (.ireturn, 1) := dk_172 (dk_at dksX0_status_4 18 rfl rfl)
def dkwX0_shelved_1 : List UInt8 := [167, 0, 4, 3, 96, 60, 132, 2, 1, 167, 255, 227, 27, 172]
abbrev dktX0_shelved_1 : List UInt8 := dkwX0_shelved_1 ++ []
def dkwX0_shelved_0 : List UInt8 := [3, 60, 3, 61, 28, 16, 8, 162, 0, 29, 27, 42, 180, 0, 59, 28, 50, 180, 0, 98, 198, 0, 7, 4]
abbrev dktX0_shelved_0 : List UInt8 := dkwX0_shelved_0 ++ dktX0_shelved_1
theorem dksX0_shelved_0 : cX0_shelved.data.toList.drop 0 = dktX0_shelved_0 := by decide +kernel
theorem dksX0_shelved_1 : cX0_shelved.data.toList.drop 24 = dktX0_shelved_1 := dk_seg dksX0_shelved_0 24 rfl rfl
theorem dX0_shelved_0 : decode cX0_shelved 0 = .ok (.iconst 0, 1) := dk_3 (dk_at dksX0_shelved_0 0 rfl rfl)
theorem dX0_shelved_1 : decode cX0_shelved 1 = .ok (.istore_n 1, 1) := dk_60 (dk_at dksX0_shelved_0 1 rfl rfl)
theorem dX0_shelved_2 : decode cX0_shelved 2 = .ok (.iconst 0, 1) := dk_3 (dk_at dksX0_shelved_0 2 rfl rfl)
theorem dX0_shelved_3 : decode cX0_shelved 3 = .ok (.istore_n 2, 1) := dk_61 (dk_at dksX0_shelved_0 3 rfl rfl)
theorem dX0_shelved_4 : decode cX0_shelved 4 = .ok (.iload_n 2, 1) := dk_28 (dk_at dksX0_shelved_0 4 rfl rfl)
theorem dX0_shelved_5 : decode cX0_shelved 5 = .ok (.bipush 8, 2) := dk_16 8 (dk_at dksX0_shelved_0 5 rfl rfl)
theorem dX0_shelved_7 : decode cX0_shelved 7 = .ok (.if_icmp .ge 29, 3) := dk_162 0 29 (dk_at dksX0_shelved_0 7 rfl rfl)
theorem dX0_shelved_10 : decode cX0_shelved 10 = .ok (.iload_n 1, 1) := dk_27 (dk_at dksX0_shelved_0 10 rfl rfl)
theorem dX0_shelved_11 : decode cX0_shelved 11 = .ok (.aload_n 0, 1) := dk_42 (dk_at dksX0_shelved_0 11 rfl rfl)
theorem dX0_shelved_12 : decode cX0_shelved 12 = .ok (.getfield 59, 3) := dk_180 0 59 (dk_at dksX0_shelved_0 12 rfl rfl)
theorem dX0_shelved_15 : decode cX0_shelved 15 = .ok (.iload_n 2, 1) := dk_28 (dk_at dksX0_shelved_0 15 rfl rfl)
theorem dX0_shelved_16 : decode cX0_shelved 16 = .ok (.aaload, 1) := dk_50 (dk_at dksX0_shelved_0 16 rfl rfl)
theorem dX0_shelved_17 : decode cX0_shelved 17 = .ok (.getfield 98, 3) := dk_180 0 98 (dk_at dksX0_shelved_0 17 rfl rfl)
theorem dX0_shelved_20 : decode cX0_shelved 20 = .ok (.ifnull 7, 3) := dk_198 0 7 (dk_at dksX0_shelved_0 20 rfl rfl)
theorem dX0_shelved_23 : decode cX0_shelved 23 = .ok (.iconst 1, 1) := dk_4 (dk_at dksX0_shelved_0 23 rfl rfl)
theorem dX0_shelved_24 : decode cX0_shelved 24 = .ok (.goto 4, 3) := dk_167 0 4 (dk_at dksX0_shelved_1 0 rfl rfl)
theorem dX0_shelved_27 : decode cX0_shelved 27 = .ok (.iconst 0, 1) := dk_3 (dk_at dksX0_shelved_1 3 rfl rfl)
theorem dX0_shelved_28 : decode cX0_shelved 28 = .ok (.iadd, 1) := dk_96 (dk_at dksX0_shelved_1 4 rfl rfl)
theorem dX0_shelved_29 : decode cX0_shelved 29 = .ok (.istore_n 1, 1) := dk_60 (dk_at dksX0_shelved_1 5 rfl rfl)
theorem dX0_shelved_30 : decode cX0_shelved 30 = .ok (.iinc 2 1, 3) := dk_132 2 1 (dk_at dksX0_shelved_1 6 rfl rfl)
theorem dX0_shelved_33 : decode cX0_shelved 33 = .ok (.goto (-29), 3) := dk_167 255 227 (dk_at dksX0_shelved_1 9 rfl rfl)
theorem dX0_shelved_36 : decode cX0_shelved 36 = .ok (.iload_n 1, 1) := dk_27 (dk_at dksX0_shelved_1 12 rfl rfl)
theorem dX0_shelved_37 : decode cX0_shelved 37 = .ok (.ireturn, 1) := dk_172 (dk_at dksX0_shelved_1 13 rfl rfl)
