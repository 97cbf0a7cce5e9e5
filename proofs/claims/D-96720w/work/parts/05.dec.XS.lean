set_option maxRecDepth 100000
def dkwX1_init_2 : List UInt8 := [16, 70, 188, 10, 181, 0, 34, 42, 8, 181, 0, 37, 42, 4, 181, 0, 41, 177]
abbrev dktX1_init_2 : List UInt8 := dkwX1_init_2 ++ []
def dkwX1_init_1 : List UInt8 := [188, 10, 181, 0, 21, 42, 7, 188, 10, 181, 0, 24, 42, 187, 0, 27, 89, 183, 0, 29, 181, 0, 30, 42]
abbrev dktX1_init_1 : List UInt8 := dkwX1_init_1 ++ dktX1_init_2
def dkwX1_init_0 : List UInt8 := [42, 183, 0, 3, 42, 16, 7, 188, 10, 181, 0, 9, 42, 16, 8, 189, 0, 15, 181, 0, 17, 42, 7]
abbrev dktX1_init_0 : List UInt8 := dkwX1_init_0 ++ dktX1_init_1
theorem dksX1_init_0 : cX1_init.data.toList.drop 0 = dktX1_init_0 := by decide +kernel
theorem dksX1_init_1 : cX1_init.data.toList.drop 23 = dktX1_init_1 := dk_seg dksX1_init_0 23 rfl rfl
theorem dksX1_init_2 : cX1_init.data.toList.drop 47 = dktX1_init_2 := dk_seg dksX1_init_1 24 rfl rfl
theorem dX1_init_0 : decode cX1_init 0 = .ok (.aload_n 0, 1) := dk_42 (dk_at dksX1_init_0 0 rfl rfl)
theorem dX1_init_1 : decode cX1_init 1 = .ok (.invokespecial 3, 3) := dk_183 0 3 (dk_at dksX1_init_0 1 rfl rfl)
theorem dX1_init_4 : decode cX1_init 4 = .ok (.aload_n 0, 1) := dk_42 (dk_at dksX1_init_0 4 rfl rfl)
theorem dX1_init_5 : decode cX1_init 5 = .ok (.bipush 7, 2) := dk_16 7 (dk_at dksX1_init_0 5 rfl rfl)
theorem dX1_init_7 : decode cX1_init 7 = .ok (.newarray .int, 2) := dk_188_10 (dk_at dksX1_init_0 7 rfl rfl)
theorem dX1_init_9 : decode cX1_init 9 = .ok (.putfield 9, 3) := dk_181 0 9 (dk_at dksX1_init_0 9 rfl rfl)
theorem dX1_init_12 : decode cX1_init 12 = .ok (.aload_n 0, 1) := dk_42 (dk_at dksX1_init_0 12 rfl rfl)
theorem dX1_init_13 : decode cX1_init 13 = .ok (.bipush 8, 2) := dk_16 8 (dk_at dksX1_init_0 13 rfl rfl)
theorem dX1_init_15 : decode cX1_init 15 = .ok (.anewarray 15, 3) := dk_189 0 15 (dk_at dksX1_init_0 15 rfl rfl)
theorem dX1_init_18 : decode cX1_init 18 = .ok (.putfield 17, 3) := dk_181 0 17 (dk_at dksX1_init_0 18 rfl rfl)
theorem dX1_init_21 : decode cX1_init 21 = .ok (.aload_n 0, 1) := dk_42 (dk_at dksX1_init_0 21 rfl rfl)
theorem dX1_init_22 : decode cX1_init 22 = .ok (.iconst 4, 1) := dk_7 (dk_at dksX1_init_0 22 rfl rfl)
theorem dX1_init_23 : decode cX1_init 23 = .ok (.newarray .int, 2) := dk_188_10 (dk_at dksX1_init_1 0 rfl rfl)
theorem dX1_init_25 : decode cX1_init 25 = .ok (.putfield 21, 3) := dk_181 0 21 (dk_at dksX1_init_1 2 rfl rfl)
theorem dX1_init_28 : decode cX1_init 28 = .ok (.aload_n 0, 1) := dk_42 (dk_at dksX1_init_1 5 rfl rfl)
theorem dX1_init_29 : decode cX1_init 29 = .ok (.iconst 4, 1) := dk_7 (dk_at dksX1_init_1 6 rfl rfl)
theorem dX1_init_30 : decode cX1_init 30 = .ok (.newarray .int, 2) := dk_188_10 (dk_at dksX1_init_1 7 rfl rfl)
theorem dX1_init_32 : decode cX1_init 32 = .ok (.putfield 24, 3) := dk_181 0 24 (dk_at dksX1_init_1 9 rfl rfl)
theorem dX1_init_35 : decode cX1_init 35 = .ok (.aload_n 0, 1) := dk_42 (dk_at dksX1_init_1 12 rfl rfl)
theorem dX1_init_36 : decode cX1_init 36 = .ok (.new 27, 3) := dk_187 0 27 (dk_at dksX1_init_1 13 rfl rfl)
theorem dX1_init_39 : decode cX1_init 39 = .ok (.dup, 1) := dk_89 (dk_at dksX1_init_1 16 rfl rfl)
theorem dX1_init_40 : decode cX1_init 40 = .ok (.invokespecial 29, 3) := dk_183 0 29 (dk_at dksX1_init_1 17 rfl rfl)
theorem dX1_init_43 : decode cX1_init 43 = .ok (.putfield 30, 3) := dk_181 0 30 (dk_at dksX1_init_1 20 rfl rfl)
theorem dX1_init_46 : decode cX1_init 46 = .ok (.aload_n 0, 1) := dk_42 (dk_at dksX1_init_1 23 rfl rfl)
theorem dX1_init_47 : decode cX1_init 47 = .ok (.bipush 70, 2) := dk_16 70 (dk_at dksX1_init_2 0 rfl rfl)
theorem dX1_init_49 : decode cX1_init 49 = .ok (.newarray .int, 2) := dk_188_10 (dk_at dksX1_init_2 2 rfl rfl)
theorem dX1_init_51 : decode cX1_init 51 = .ok (.putfield 34, 3) := dk_181 0 34 (dk_at dksX1_init_2 4 rfl rfl)
theorem dX1_init_54 : decode cX1_init 54 = .ok (.aload_n 0, 1) := dk_42 (dk_at dksX1_init_2 7 rfl rfl)
theorem dX1_init_55 : decode cX1_init 55 = .ok (.iconst 5, 1) := dk_8 (dk_at dksX1_init_2 8 rfl rfl)
theorem dX1_init_56 : decode cX1_init 56 = .ok (.putfield 37, 3) := dk_181 0 37 (dk_at dksX1_init_2 9 rfl rfl)
theorem dX1_init_59 : decode cX1_init 59 = .ok (.aload_n 0, 1) := dk_42 (dk_at dksX1_init_2 12 rfl rfl)
theorem dX1_init_60 : decode cX1_init 60 = .ok (.iconst 1, 1) := dk_4 (dk_at dksX1_init_2 13 rfl rfl)
theorem dX1_init_61 : decode cX1_init 61 = .ok (.putfield 41, 3) := dk_181 0 41 (dk_at dksX1_init_2 14 rfl rfl)
theorem dX1_init_64 : decode cX1_init 64 = .ok (.return_, 1) := dk_177 (dk_at dksX1_init_2 17 rfl rfl)
def dkwX1_isPost_0 : List UInt8 := [31, 9, 148, 155, 0, 17, 31, 42, 180, 0, 54, 133, 148, 156, 0, 7, 4, 167, 0, 4, 3, 172]
abbrev dktX1_isPost_0 : List UInt8 := dkwX1_isPost_0 ++ []
theorem dksX1_isPost_0 : cX1_isPost.data.toList.drop 0 = dktX1_isPost_0 := by decide +kernel
theorem dX1_isPost_0 : decode cX1_isPost 0 = .ok (.lload_n 1, 1) := dk_31 (dk_at dksX1_isPost_0 0 rfl rfl)
theorem dX1_isPost_1 : decode cX1_isPost 1 = .ok (.lconst 0, 1) := dk_9 (dk_at dksX1_isPost_0 1 rfl rfl)
theorem dX1_isPost_2 : decode cX1_isPost 2 = .ok (.lcmp, 1) := dk_148 (dk_at dksX1_isPost_0 2 rfl rfl)
theorem dX1_isPost_3 : decode cX1_isPost 3 = .ok (.ifCond .lt 17, 3) := dk_155 0 17 (dk_at dksX1_isPost_0 3 rfl rfl)
theorem dX1_isPost_6 : decode cX1_isPost 6 = .ok (.lload_n 1, 1) := dk_31 (dk_at dksX1_isPost_0 6 rfl rfl)
theorem dX1_isPost_7 : decode cX1_isPost 7 = .ok (.aload_n 0, 1) := dk_42 (dk_at dksX1_isPost_0 7 rfl rfl)
theorem dX1_isPost_8 : decode cX1_isPost 8 = .ok (.getfield 54, 3) := dk_180 0 54 (dk_at dksX1_isPost_0 8 rfl rfl)
theorem dX1_isPost_11 : decode cX1_isPost 11 = .ok (.i2l, 1) := dk_133 (dk_at dksX1_isPost_0 11 rfl rfl)
theorem dX1_isPost_12 : decode cX1_isPost 12 = .ok (.lcmp, 1) := dk_148 (dk_at dksX1_isPost_0 12 rfl rfl)
theorem dX1_isPost_13 : decode cX1_isPost 13 = .ok (.ifCond .ge 7, 3) := dk_156 0 7 (dk_at dksX1_isPost_0 13 rfl rfl)
theorem dX1_isPost_16 : decode cX1_isPost 16 = .ok (.iconst 1, 1) := dk_4 (dk_at dksX1_isPost_0 16 rfl rfl)
theorem dX1_isPost_17 : decode cX1_isPost 17 = .ok (.goto 4, 3) := dk_167 0 4 (dk_at dksX1_isPost_0 17 rfl rfl)
theorem dX1_isPost_20 : decode cX1_isPost 20 = .ok (.iconst 0, 1) := dk_3 (dk_at dksX1_isPost_0 20 rfl rfl)
theorem dX1_isPost_21 : decode cX1_isPost 21 = .ok (.ireturn, 1) := dk_172 (dk_at dksX1_isPost_0 21 rfl rfl)
def dkwX1_lost_2 : List UInt8 := [42, 180, 0, 30, 89, 180, 0, 88, 4, 96, 181, 0, 88, 132, 1, 1, 167, 255, 203, 42, 180, 0, 30, 176]
abbrev dktX1_lost_2 : List UInt8 := dkwX1_lost_2 ++ []
def dkwX1_lost_1 : List UInt8 := [153, 0, 37, 42, 180, 0, 30, 180, 0, 94, 42, 180, 0, 30, 180, 0, 88, 42, 180, 0, 21, 27, 46, 79]
abbrev dktX1_lost_1 : List UInt8 := dkwX1_lost_1 ++ dktX1_lost_2
def dkwX1_lost_0 : List UInt8 := [42, 180, 0, 30, 3, 181, 0, 88, 3, 60, 27, 42, 180, 0, 57, 162, 0, 51, 42, 27, 182, 0, 91]
abbrev dktX1_lost_0 : List UInt8 := dkwX1_lost_0 ++ dktX1_lost_1
theorem dksX1_lost_0 : cX1_lost.data.toList.drop 0 = dktX1_lost_0 := by decide +kernel
theorem dksX1_lost_1 : cX1_lost.data.toList.drop 23 = dktX1_lost_1 := dk_seg dksX1_lost_0 23 rfl rfl
theorem dksX1_lost_2 : cX1_lost.data.toList.drop 47 = dktX1_lost_2 := dk_seg dksX1_lost_1 24 rfl rfl
theorem dX1_lost_0 : decode cX1_lost 0 = .ok (.aload_n 0, 1) := dk_42 (dk_at dksX1_lost_0 0 rfl rfl)
theorem dX1_lost_1 : decode cX1_lost 1 = .ok (.getfield 30, 3) := dk_180 0 30 (dk_at dksX1_lost_0 1 rfl rfl)
theorem dX1_lost_4 : decode cX1_lost 4 = .ok (.iconst 0, 1) := dk_3 (dk_at dksX1_lost_0 4 rfl rfl)
theorem dX1_lost_5 : decode cX1_lost 5 = .ok (.putfield 88, 3) := dk_181 0 88 (dk_at dksX1_lost_0 5 rfl rfl)
theorem dX1_lost_8 : decode cX1_lost 8 = .ok (.iconst 0, 1) := dk_3 (dk_at dksX1_lost_0 8 rfl rfl)
theorem dX1_lost_9 : decode cX1_lost 9 = .ok (.istore_n 1, 1) := dk_60 (dk_at dksX1_lost_0 9 rfl rfl)
theorem dX1_lost_10 : decode cX1_lost 10 = .ok (.iload_n 1, 1) := dk_27 (dk_at dksX1_lost_0 10 rfl rfl)
theorem dX1_lost_11 : decode cX1_lost 11 = .ok (.aload_n 0, 1) := dk_42 (dk_at dksX1_lost_0 11 rfl rfl)
theorem dX1_lost_12 : decode cX1_lost 12 = .ok (.getfield 57, 3) := dk_180 0 57 (dk_at dksX1_lost_0 12 rfl rfl)
theorem dX1_lost_15 : decode cX1_lost 15 = .ok (.if_icmp .ge 51, 3) := dk_162 0 51 (dk_at dksX1_lost_0 15 rfl rfl)
theorem dX1_lost_18 : decode cX1_lost 18 = .ok (.aload_n 0, 1) := dk_42 (dk_at dksX1_lost_0 18 rfl rfl)
theorem dX1_lost_19 : decode cX1_lost 19 = .ok (.iload_n 1, 1) := dk_27 (dk_at dksX1_lost_0 19 rfl rfl)
theorem dX1_lost_20 : decode cX1_lost 20 = .ok (.invokevirtual 91, 3) := dk_182 0 91 (dk_at dksX1_lost_0 20 rfl rfl)
theorem dX1_lost_23 : decode cX1_lost 23 = .ok (.ifCond .eq 37, 3) := dk_153 0 37 (dk_at dksX1_lost_1 0 rfl rfl)
theorem dX1_lost_26 : decode cX1_lost 26 = .ok (.aload_n 0, 1) := dk_42 (dk_at dksX1_lost_1 3 rfl rfl)
theorem dX1_lost_27 : decode cX1_lost 27 = .ok (.getfield 30, 3) := dk_180 0 30 (dk_at dksX1_lost_1 4 rfl rfl)
theorem dX1_lost_30 : decode cX1_lost 30 = .ok (.getfield 94, 3) := dk_180 0 94 (dk_at dksX1_lost_1 7 rfl rfl)
theorem dX1_lost_33 : decode cX1_lost 33 = .ok (.aload_n 0, 1) := dk_42 (dk_at dksX1_lost_1 10 rfl rfl)
theorem dX1_lost_34 : decode cX1_lost 34 = .ok (.getfield 30, 3) := dk_180 0 30 (dk_at dksX1_lost_1 11 rfl rfl)
theorem dX1_lost_37 : decode cX1_lost 37 = .ok (.getfield 88, 3) := dk_180 0 88 (dk_at dksX1_lost_1 14 rfl rfl)
theorem dX1_lost_40 : decode cX1_lost 40 = .ok (.aload_n 0, 1) := dk_42 (dk_at dksX1_lost_1 17 rfl rfl)
theorem dX1_lost_41 : decode cX1_lost 41 = .ok (.getfield 21, 3) := dk_180 0 21 (dk_at dksX1_lost_1 18 rfl rfl)
theorem dX1_lost_44 : decode cX1_lost 44 = .ok (.iload_n 1, 1) := dk_27 (dk_at dksX1_lost_1 21 rfl rfl)
theorem dX1_lost_45 : decode cX1_lost 45 = .ok (.iaload, 1) := dk_46 (dk_at dksX1_lost_1 22 rfl rfl)
theorem dX1_lost_46 : decode cX1_lost 46 = .ok (.iastore, 1) := dk_79 (dk_at dksX1_lost_1 23 rfl rfl)
theorem dX1_lost_47 : decode cX1_lost 47 = .ok (.aload_n 0, 1) := dk_42 (dk_at dksX1_lost_2 0 rfl rfl)
theorem dX1_lost_48 : decode cX1_lost 48 = .ok (.getfield 30, 3) := dk_180 0 30 (dk_at dksX1_lost_2 1 rfl rfl)
theorem dX1_lost_51 : decode cX1_lost 51 = .ok (.dup, 1) := dk_89 (dk_at dksX1_lost_2 4 rfl rfl)
theorem dX1_lost_52 : decode cX1_lost 52 = .ok (.getfield 88, 3) := dk_180 0 88 (dk_at dksX1_lost_2 5 rfl rfl)
theorem dX1_lost_55 : decode cX1_lost 55 = .ok (.iconst 1, 1) := dk_4 (dk_at dksX1_lost_2 8 rfl rfl)
theorem dX1_lost_56 : decode cX1_lost 56 = .ok (.iadd, 1) := dk_96 (dk_at dksX1_lost_2 9 rfl rfl)
theorem dX1_lost_57 : decode cX1_lost 57 = .ok (.putfield 88, 3) := dk_181 0 88 (dk_at dksX1_lost_2 10 rfl rfl)
theorem dX1_lost_60 : decode cX1_lost 60 = .ok (.iinc 1 1, 3) := dk_132 1 1 (dk_at dksX1_lost_2 13 rfl rfl)
theorem dX1_lost_63 : decode cX1_lost 63 = .ok (.goto (-53), 3) := dk_167 255 203 (dk_at dksX1_lost_2 16 rfl rfl)
theorem dX1_lost_66 : decode cX1_lost 66 = .ok (.aload_n 0, 1) := dk_42 (dk_at dksX1_lost_2 19 rfl rfl)
theorem dX1_lost_67 : decode cX1_lost 67 = .ok (.getfield 30, 3) := dk_180 0 30 (dk_at dksX1_lost_2 20 rfl rfl)
theorem dX1_lost_70 : decode cX1_lost 70 = .ok (.areturn, 1) := dk_176 (dk_at dksX1_lost_2 23 rfl rfl)
def dkwX1_isLost_0 : List UInt8 := [42, 180, 0, 24, 27, 46, 8, 162, 0, 7, 4, 167, 0, 4, 3, 172]
abbrev dktX1_isLost_0 : List UInt8 := dkwX1_isLost_0 ++ []
theorem dksX1_isLost_0 : cX1_isLost.data.toList.drop 0 = dktX1_isLost_0 := by decide +kernel
theorem dX1_isLost_0 : decode cX1_isLost 0 = .ok (.aload_n 0, 1) := dk_42 (dk_at dksX1_isLost_0 0 rfl rfl)
theorem dX1_isLost_1 : decode cX1_isLost 1 = .ok (.getfield 24, 3) := dk_180 0 24 (dk_at dksX1_isLost_0 1 rfl rfl)
theorem dX1_isLost_4 : decode cX1_isLost 4 = .ok (.iload_n 1, 1) := dk_27 (dk_at dksX1_isLost_0 4 rfl rfl)
theorem dX1_isLost_5 : decode cX1_isLost 5 = .ok (.iaload, 1) := dk_46 (dk_at dksX1_isLost_0 5 rfl rfl)
theorem dX1_isLost_6 : decode cX1_isLost 6 = .ok (.iconst 5, 1) := dk_8 (dk_at dksX1_isLost_0 6 rfl rfl)
theorem dX1_isLost_7 : decode cX1_isLost 7 = .ok (.if_icmp .ge 7, 3) := dk_162 0 7 (dk_at dksX1_isLost_0 7 rfl rfl)
theorem dX1_isLost_10 : decode cX1_isLost 10 = .ok (.iconst 1, 1) := dk_4 (dk_at dksX1_isLost_0 10 rfl rfl)
theorem dX1_isLost_11 : decode cX1_isLost 11 = .ok (.goto 4, 3) := dk_167 0 4 (dk_at dksX1_isLost_0 11 rfl rfl)
theorem dX1_isLost_14 : decode cX1_isLost 14 = .ok (.iconst 0, 1) := dk_3 (dk_at dksX1_isLost_0 14 rfl rfl)
theorem dX1_isLost_15 : decode cX1_isLost 15 = .ok (.ireturn, 1) := dk_172 (dk_at dksX1_isLost_0 15 rfl rfl)
def dkwX1_isCell_1 : List UInt8 := [113, 42, 180, 0, 37, 133, 148, 156, 0, 7, 4, 167, 0, 4, 3, 172]
abbrev dktX1_isCell_1 : List UInt8 := dkwX1_isCell_1 ++ []
def dkwX1_isCell_0 : List UInt8 := [31, 9, 148, 155, 0, 35, 31, 20, 0, 64, 109, 42, 180, 0, 37, 133, 148, 156, 0, 21, 31, 20, 0, 64]
abbrev dktX1_isCell_0 : List UInt8 := dkwX1_isCell_0 ++ dktX1_isCell_1
theorem dksX1_isCell_0 : cX1_isCell.data.toList.drop 0 = dktX1_isCell_0 := by decide +kernel
theorem dksX1_isCell_1 : cX1_isCell.data.toList.drop 24 = dktX1_isCell_1 := dk_seg dksX1_isCell_0 24 rfl rfl
theorem dX1_isCell_0 : decode cX1_isCell 0 = .ok (.lload_n 1, 1) := dk_31 (dk_at dksX1_isCell_0 0 rfl rfl)
theorem dX1_isCell_1 : decode cX1_isCell 1 = .ok (.lconst 0, 1) := dk_9 (dk_at dksX1_isCell_0 1 rfl rfl)
theorem dX1_isCell_2 : decode cX1_isCell 2 = .ok (.lcmp, 1) := dk_148 (dk_at dksX1_isCell_0 2 rfl rfl)
theorem dX1_isCell_3 : decode cX1_isCell 3 = .ok (.ifCond .lt 35, 3) := dk_155 0 35 (dk_at dksX1_isCell_0 3 rfl rfl)
theorem dX1_isCell_6 : decode cX1_isCell 6 = .ok (.lload_n 1, 1) := dk_31 (dk_at dksX1_isCell_0 6 rfl rfl)
theorem dX1_isCell_7 : decode cX1_isCell 7 = .ok (.ldc2_w 64, 3) := dk_20 0 64 (dk_at dksX1_isCell_0 7 rfl rfl)
theorem dX1_isCell_10 : decode cX1_isCell 10 = .ok (.ldiv, 1) := dk_109 (dk_at dksX1_isCell_0 10 rfl rfl)
theorem dX1_isCell_11 : decode cX1_isCell 11 = .ok (.aload_n 0, 1) := dk_42 (dk_at dksX1_isCell_0 11 rfl rfl)
theorem dX1_isCell_12 : decode cX1_isCell 12 = .ok (.getfield 37, 3) := dk_180 0 37 (dk_at dksX1_isCell_0 12 rfl rfl)
theorem dX1_isCell_15 : decode cX1_isCell 15 = .ok (.i2l, 1) := dk_133 (dk_at dksX1_isCell_0 15 rfl rfl)
theorem dX1_isCell_16 : decode cX1_isCell 16 = .ok (.lcmp, 1) := dk_148 (dk_at dksX1_isCell_0 16 rfl rfl)
theorem dX1_isCell_17 : decode cX1_isCell 17 = .ok (.ifCond .ge 21, 3) := dk_156 0 21 (dk_at dksX1_isCell_0 17 rfl rfl)
theorem dX1_isCell_20 : decode cX1_isCell 20 = .ok (.lload_n 1, 1) := dk_31 (dk_at dksX1_isCell_0 20 rfl rfl)
theorem dX1_isCell_21 : decode cX1_isCell 21 = .ok (.ldc2_w 64, 3) := dk_20 0 64 (dk_at dksX1_isCell_0 21 rfl rfl)
theorem dX1_isCell_24 : decode cX1_isCell 24 = .ok (.lrem, 1) := dk_113 (dk_at dksX1_isCell_1 0 rfl rfl)
theorem dX1_isCell_25 : decode cX1_isCell 25 = .ok (.aload_n 0, 1) := dk_42 (dk_at dksX1_isCell_1 1 rfl rfl)
theorem dX1_isCell_26 : decode cX1_isCell 26 = .ok (.getfield 37, 3) := dk_180 0 37 (dk_at dksX1_isCell_1 2 rfl rfl)
theorem dX1_isCell_29 : decode cX1_isCell 29 = .ok (.i2l, 1) := dk_133 (dk_at dksX1_isCell_1 5 rfl rfl)
theorem dX1_isCell_30 : decode cX1_isCell 30 = .ok (.lcmp, 1) := dk_148 (dk_at dksX1_isCell_1 6 rfl rfl)
theorem dX1_isCell_31 : decode cX1_isCell 31 = .ok (.ifCond .ge 7, 3) := dk_156 0 7 (dk_at dksX1_isCell_1 7 rfl rfl)
theorem dX1_isCell_34 : decode cX1_isCell 34 = .ok (.iconst 1, 1) := dk_4 (dk_at dksX1_isCell_1 10 rfl rfl)
theorem dX1_isCell_35 : decode cX1_isCell 35 = .ok (.goto 4, 3) := dk_167 0 4 (dk_at dksX1_isCell_1 11 rfl rfl)
theorem dX1_isCell_38 : decode cX1_isCell 38 = .ok (.iconst 0, 1) := dk_3 (dk_at dksX1_isCell_1 14 rfl rfl)
theorem dX1_isCell_39 : decode cX1_isCell 39 = .ok (.ireturn, 1) := dk_172 (dk_at dksX1_isCell_1 15 rfl rfl)
def dkwX1_mayBog_2 : List UInt8 := [28, 172]
abbrev dktX1_mayBog_2 : List UInt8 := dkwX1_mayBog_2 ++ []
def dkwX1_mayBog_1 : List UInt8 := [28, 42, 180, 0, 21, 29, 46, 27, 159, 0, 7, 4, 167, 0, 4, 3, 126, 61, 132, 3, 1, 167, 255, 227]
abbrev dktX1_mayBog_1 : List UInt8 := dkwX1_mayBog_1 ++ dktX1_mayBog_2
def dkwX1_mayBog_0 : List UInt8 := [27, 42, 180, 0, 51, 159, 0, 7, 4, 167, 0, 4, 3, 61, 3, 62, 29, 42, 180, 0, 57, 162, 0, 27]
abbrev dktX1_mayBog_0 : List UInt8 := dkwX1_mayBog_0 ++ dktX1_mayBog_1
theorem dksX1_mayBog_0 : cX1_mayBog.data.toList.drop 0 = dktX1_mayBog_0 := by decide +kernel
theorem dksX1_mayBog_1 : cX1_mayBog.data.toList.drop 24 = dktX1_mayBog_1 := dk_seg dksX1_mayBog_0 24 rfl rfl
theorem dksX1_mayBog_2 : cX1_mayBog.data.toList.drop 48 = dktX1_mayBog_2 := dk_seg dksX1_mayBog_1 24 rfl rfl
theorem dX1_mayBog_0 : decode cX1_mayBog 0 = .ok (.iload_n 1, 1) := dk_27 (dk_at dksX1_mayBog_0 0 rfl rfl)
theorem dX1_mayBog_1 : decode cX1_mayBog 1 = .ok (.aload_n 0, 1) := dk_42 (dk_at dksX1_mayBog_0 1 rfl rfl)
theorem dX1_mayBog_2 : decode cX1_mayBog 2 = .ok (.getfield 51, 3) := dk_180 0 51 (dk_at dksX1_mayBog_0 2 rfl rfl)
theorem dX1_mayBog_5 : decode cX1_mayBog 5 = .ok (.if_icmp .eq 7, 3) := dk_159 0 7 (dk_at dksX1_mayBog_0 5 rfl rfl)
theorem dX1_mayBog_8 : decode cX1_mayBog 8 = .ok (.iconst 1, 1) := dk_4 (dk_at dksX1_mayBog_0 8 rfl rfl)
theorem dX1_mayBog_9 : decode cX1_mayBog 9 = .ok (.goto 4, 3) := dk_167 0 4 (dk_at dksX1_mayBog_0 9 rfl rfl)
theorem dX1_mayBog_12 : decode cX1_mayBog 12 = .ok (.iconst 0, 1) := dk_3 (dk_at dksX1_mayBog_0 12 rfl rfl)
theorem dX1_mayBog_13 : decode cX1_mayBog 13 = .ok (.istore_n 2, 1) := dk_61 (dk_at dksX1_mayBog_0 13 rfl rfl)
theorem dX1_mayBog_14 : decode cX1_mayBog 14 = .ok (.iconst 0, 1) := dk_3 (dk_at dksX1_mayBog_0 14 rfl rfl)
theorem dX1_mayBog_15 : decode cX1_mayBog 15 = .ok (.istore_n 3, 1) := dk_62 (dk_at dksX1_mayBog_0 15 rfl rfl)
theorem dX1_mayBog_16 : decode cX1_mayBog 16 = .ok (.iload_n 3, 1) := dk_29 (dk_at dksX1_mayBog_0 16 rfl rfl)
theorem dX1_mayBog_17 : decode cX1_mayBog 17 = .ok (.aload_n 0, 1) := dk_42 (dk_at dksX1_mayBog_0 17 rfl rfl)
theorem dX1_mayBog_18 : decode cX1_mayBog 18 = .ok (.getfield 57, 3) := dk_180 0 57 (dk_at dksX1_mayBog_0 18 rfl rfl)
theorem dX1_mayBog_21 : decode cX1_mayBog 21 = .ok (.if_icmp .ge 27, 3) := dk_162 0 27 (dk_at dksX1_mayBog_0 21 rfl rfl)
theorem dX1_mayBog_24 : decode cX1_mayBog 24 = .ok (.iload_n 2, 1) := dk_28 (dk_at dksX1_mayBog_1 0 rfl rfl)
theorem dX1_mayBog_25 : decode cX1_mayBog 25 = .ok (.aload_n 0, 1) := dk_42 (dk_at dksX1_mayBog_1 1 rfl rfl)
theorem dX1_mayBog_26 : decode cX1_mayBog 26 = .ok (.getfield 21, 3) := dk_180 0 21 (dk_at dksX1_mayBog_1 2 rfl rfl)
theorem dX1_mayBog_29 : decode cX1_mayBog 29 = .ok (.iload_n 3, 1) := dk_29 (dk_at dksX1_mayBog_1 5 rfl rfl)
theorem dX1_mayBog_30 : decode cX1_mayBog 30 = .ok (.iaload, 1) := dk_46 (dk_at dksX1_mayBog_1 6 rfl rfl)
theorem dX1_mayBog_31 : decode cX1_mayBog 31 = .ok (.iload_n 1, 1) := dk_27 (dk_at dksX1_mayBog_1 7 rfl rfl)
theorem dX1_mayBog_32 : decode cX1_mayBog 32 = .ok (.if_icmp .eq 7, 3) := dk_159 0 7 (dk_at dksX1_mayBog_1 8 rfl rfl)
theorem dX1_mayBog_35 : decode cX1_mayBog 35 = .ok (.iconst 1, 1) := dk_4 (dk_at dksX1_mayBog_1 11 rfl rfl)
theorem dX1_mayBog_36 : decode cX1_mayBog 36 = .ok (.goto 4, 3) := dk_167 0 4 (dk_at dksX1_mayBog_1 12 rfl rfl)
theorem dX1_mayBog_39 : decode cX1_mayBog 39 = .ok (.iconst 0, 1) := dk_3 (dk_at dksX1_mayBog_1 15 rfl rfl)
theorem dX1_mayBog_40 : decode cX1_mayBog 40 = .ok (.iand, 1) := dk_126 (dk_at dksX1_mayBog_1 16 rfl rfl)
theorem dX1_mayBog_41 : decode cX1_mayBog 41 = .ok (.istore_n 2, 1) := dk_61 (dk_at dksX1_mayBog_1 17 rfl rfl)
theorem dX1_mayBog_42 : decode cX1_mayBog 42 = .ok (.iinc 3 1, 3) := dk_132 3 1 (dk_at dksX1_mayBog_1 18 rfl rfl)
theorem dX1_mayBog_45 : decode cX1_mayBog 45 = .ok (.goto (-29), 3) := dk_167 255 227 (dk_at dksX1_mayBog_1 21 rfl rfl)
theorem dX1_mayBog_48 : decode cX1_mayBog 48 = .ok (.iload_n 2, 1) := dk_28 (dk_at dksX1_mayBog_2 0 rfl rfl)
theorem dX1_mayBog_49 : decode cX1_mayBog 49 = .ok (.ireturn, 1) := dk_172 (dk_at dksX1_mayBog_2 1 rfl rfl)
def dkwX1_isBog_0 : List UInt8 := [42, 180, 0, 9, 27, 16, 10, 108, 46, 27, 16, 10, 112, 184, 0, 66, 172]
abbrev dktX1_isBog_0 : List UInt8 := dkwX1_isBog_0 ++ []
theorem dksX1_isBog_0 : cX1_isBog.data.toList.drop 0 = dktX1_isBog_0 := by decide +kernel
theorem dX1_isBog_0 : decode cX1_isBog 0 = .ok (.aload_n 0, 1) := dk_42 (dk_at dksX1_isBog_0 0 rfl rfl)
theorem dX1_isBog_1 : decode cX1_isBog 1 = .ok (.getfield 9, 3) := dk_180 0 9 (dk_at dksX1_isBog_0 1 rfl rfl)
theorem dX1_isBog_4 : decode cX1_isBog 4 = .ok (.iload_n 1, 1) := dk_27 (dk_at dksX1_isBog_0 4 rfl rfl)
theorem dX1_isBog_5 : decode cX1_isBog 5 = .ok (.bipush 10, 2) := dk_16 10 (dk_at dksX1_isBog_0 5 rfl rfl)
theorem dX1_isBog_7 : decode cX1_isBog 7 = .ok (.idiv, 1) := dk_108 (dk_at dksX1_isBog_0 7 rfl rfl)
theorem dX1_isBog_8 : decode cX1_isBog 8 = .ok (.iaload, 1) := dk_46 (dk_at dksX1_isBog_0 8 rfl rfl)
theorem dX1_isBog_9 : decode cX1_isBog 9 = .ok (.iload_n 1, 1) := dk_27 (dk_at dksX1_isBog_0 9 rfl rfl)
theorem dX1_isBog_10 : decode cX1_isBog 10 = .ok (.bipush 10, 2) := dk_16 10 (dk_at dksX1_isBog_0 10 rfl rfl)
theorem dX1_isBog_12 : decode cX1_isBog 12 = .ok (.irem, 1) := dk_112 (dk_at dksX1_isBog_0 12 rfl rfl)
theorem dX1_isBog_13 : decode cX1_isBog 13 = .ok (.invokestatic 66, 3) := dk_184 0 66 (dk_at dksX1_isBog_0 13 rfl rfl)
theorem dX1_isBog_16 : decode cX1_isBog 16 = .ok (.ireturn, 1) := dk_172 (dk_at dksX1_isBog_0 16 rfl rfl)
def dkwX1_bog_2 : List UInt8 := [130, 126, 79, 177]
abbrev dktX1_bog_2 : List UInt8 := dkwX1_bog_2 ++ []
def dkwX1_bog_1 : List UInt8 := [16, 10, 112, 120, 128, 167, 0, 21, 42, 180, 0, 9, 27, 16, 10, 108, 46, 4, 27, 16, 10, 112, 120, 2]
abbrev dktX1_bog_1 : List UInt8 := dkwX1_bog_1 ++ dktX1_bog_2
def dkwX1_bog_0 : List UInt8 := [42, 180, 0, 9, 27, 16, 10, 108, 28, 153, 0, 22, 42, 180, 0, 9, 27, 16, 10, 108, 46, 4, 27]
abbrev dktX1_bog_0 : List UInt8 := dkwX1_bog_0 ++ dktX1_bog_1
theorem dksX1_bog_0 : cX1_bog.data.toList.drop 0 = dktX1_bog_0 := by decide +kernel
theorem dksX1_bog_1 : cX1_bog.data.toList.drop 23 = dktX1_bog_1 := dk_seg dksX1_bog_0 23 rfl rfl
theorem dksX1_bog_2 : cX1_bog.data.toList.drop 47 = dktX1_bog_2 := dk_seg dksX1_bog_1 24 rfl rfl
theorem dX1_bog_0 : decode cX1_bog 0 = .ok (.aload_n 0, 1) := dk_42 (dk_at dksX1_bog_0 0 rfl rfl)
theorem dX1_bog_1 : decode cX1_bog 1 = .ok (.getfield 9, 3) := dk_180 0 9 (dk_at dksX1_bog_0 1 rfl rfl)
theorem dX1_bog_4 : decode cX1_bog 4 = .ok (.iload_n 1, 1) := dk_27 (dk_at dksX1_bog_0 4 rfl rfl)
theorem dX1_bog_5 : decode cX1_bog 5 = .ok (.bipush 10, 2) := dk_16 10 (dk_at dksX1_bog_0 5 rfl rfl)
theorem dX1_bog_7 : decode cX1_bog 7 = .ok (.idiv, 1) := dk_108 (dk_at dksX1_bog_0 7 rfl rfl)
theorem dX1_bog_8 : decode cX1_bog 8 = .ok (.iload_n 2, 1) := dk_28 (dk_at dksX1_bog_0 8 rfl rfl)
theorem dX1_bog_9 : decode cX1_bog 9 = .ok (.ifCond .eq 22, 3) := dk_153 0 22 (dk_at dksX1_bog_0 9 rfl rfl)
theorem dX1_bog_12 : decode cX1_bog 12 = .ok (.aload_n 0, 1) := dk_42 (dk_at dksX1_bog_0 12 rfl rfl)
theorem dX1_bog_13 : decode cX1_bog 13 = .ok (.getfield 9, 3) := dk_180 0 9 (dk_at dksX1_bog_0 13 rfl rfl)
theorem dX1_bog_16 : decode cX1_bog 16 = .ok (.iload_n 1, 1) := dk_27 (dk_at dksX1_bog_0 16 rfl rfl)
theorem dX1_bog_17 : decode cX1_bog 17 = .ok (.bipush 10, 2) := dk_16 10 (dk_at dksX1_bog_0 17 rfl rfl)
theorem dX1_bog_19 : decode cX1_bog 19 = .ok (.idiv, 1) := dk_108 (dk_at dksX1_bog_0 19 rfl rfl)
theorem dX1_bog_20 : decode cX1_bog 20 = .ok (.iaload, 1) := dk_46 (dk_at dksX1_bog_0 20 rfl rfl)
theorem dX1_bog_21 : decode cX1_bog 21 = .ok (.iconst 1, 1) := dk_4 (dk_at dksX1_bog_0 21 rfl rfl)
theorem dX1_bog_22 : decode cX1_bog 22 = .ok (.iload_n 1, 1) := dk_27 (dk_at dksX1_bog_0 22 rfl rfl)
theorem dX1_bog_23 : decode cX1_bog 23 = .ok (.bipush 10, 2) := dk_16 10 (dk_at dksX1_bog_1 0 rfl rfl)
theorem dX1_bog_25 : decode cX1_bog 25 = .ok (.irem, 1) := dk_112 (dk_at dksX1_bog_1 2 rfl rfl)
theorem dX1_bog_26 : decode cX1_bog 26 = .ok (.ishl, 1) := dk_120 (dk_at dksX1_bog_1 3 rfl rfl)
theorem dX1_bog_27 : decode cX1_bog 27 = .ok (.ior, 1) := dk_128 (dk_at dksX1_bog_1 4 rfl rfl)
theorem dX1_bog_28 : decode cX1_bog 28 = .ok (.goto 21, 3) := dk_167 0 21 (dk_at dksX1_bog_1 5 rfl rfl)
theorem dX1_bog_31 : decode cX1_bog 31 = .ok (.aload_n 0, 1) := dk_42 (dk_at dksX1_bog_1 8 rfl rfl)
theorem dX1_bog_32 : decode cX1_bog 32 = .ok (.getfield 9, 3) := dk_180 0 9 (dk_at dksX1_bog_1 9 rfl rfl)
theorem dX1_bog_35 : decode cX1_bog 35 = .ok (.iload_n 1, 1) := dk_27 (dk_at dksX1_bog_1 12 rfl rfl)
theorem dX1_bog_36 : decode cX1_bog 36 = .ok (.bipush 10, 2) := dk_16 10 (dk_at dksX1_bog_1 13 rfl rfl)
theorem dX1_bog_38 : decode cX1_bog 38 = .ok (.idiv, 1) := dk_108 (dk_at dksX1_bog_1 15 rfl rfl)
theorem dX1_bog_39 : decode cX1_bog 39 = .ok (.iaload, 1) := dk_46 (dk_at dksX1_bog_1 16 rfl rfl)
theorem dX1_bog_40 : decode cX1_bog 40 = .ok (.iconst 1, 1) := dk_4 (dk_at dksX1_bog_1 17 rfl rfl)
theorem dX1_bog_41 : decode cX1_bog 41 = .ok (.iload_n 1, 1) := dk_27 (dk_at dksX1_bog_1 18 rfl rfl)
theorem dX1_bog_42 : decode cX1_bog 42 = .ok (.bipush 10, 2) := dk_16 10 (dk_at dksX1_bog_1 19 rfl rfl)
theorem dX1_bog_44 : decode cX1_bog 44 = .ok (.irem, 1) := dk_112 (dk_at dksX1_bog_1 21 rfl rfl)
theorem dX1_bog_45 : decode cX1_bog 45 = .ok (.ishl, 1) := dk_120 (dk_at dksX1_bog_1 22 rfl rfl)
theorem dX1_bog_46 : decode cX1_bog 46 = .ok (.iconst (-1), 1) := dk_2 (dk_at dksX1_bog_1 23 rfl rfl)
theorem dX1_bog_47 : decode cX1_bog 47 = .ok (.ixor, 1) := dk_130 (dk_at dksX1_bog_2 0 rfl rfl)
theorem dX1_bog_48 : decode cX1_bog 48 = .ok (.iand, 1) := dk_126 (dk_at dksX1_bog_2 1 rfl rfl)
theorem dX1_bog_49 : decode cX1_bog 49 = .ok (.iastore, 1) := dk_79 (dk_at dksX1_bog_2 2 rfl rfl)
theorem dX1_bog_50 : decode cX1_bog 50 = .ok (.return_, 1) := dk_177 (dk_at dksX1_bog_2 3 rfl rfl)
def dkwX1_addsPost_1 : List UInt8 := [4, 96, 181, 0, 54, 42, 180, 0, 54, 4, 100, 172]
abbrev dktX1_addsPost_1 : List UInt8 := dkwX1_addsPost_1 ++ []
def dkwX1_addsPost_0 : List UInt8 := [42, 180, 0, 17, 42, 180, 0, 54, 27, 42, 180, 0, 54, 28, 29, 184, 0, 60, 83, 42, 89, 180, 0, 54]
abbrev dktX1_addsPost_0 : List UInt8 := dkwX1_addsPost_0 ++ dktX1_addsPost_1
theorem dksX1_addsPost_0 : cX1_addsPost.data.toList.drop 0 = dktX1_addsPost_0 := by decide +kernel
theorem dksX1_addsPost_1 : cX1_addsPost.data.toList.drop 24 = dktX1_addsPost_1 := dk_seg dksX1_addsPost_0 24 rfl rfl
theorem dX1_addsPost_0 : decode cX1_addsPost 0 = .ok (.aload_n 0, 1) := dk_42 (dk_at dksX1_addsPost_0 0 rfl rfl)
theorem dX1_addsPost_1 : decode cX1_addsPost 1 = .ok (.getfield 17, 3) := dk_180 0 17 (dk_at dksX1_addsPost_0 1 rfl rfl)
theorem dX1_addsPost_4 : decode cX1_addsPost 4 = .ok (.aload_n 0, 1) := dk_42 (dk_at dksX1_addsPost_0 4 rfl rfl)
theorem dX1_addsPost_5 : decode cX1_addsPost 5 = .ok (.getfield 54, 3) := dk_180 0 54 (dk_at dksX1_addsPost_0 5 rfl rfl)
theorem dX1_addsPost_8 : decode cX1_addsPost 8 = .ok (.iload_n 1, 1) := dk_27 (dk_at dksX1_addsPost_0 8 rfl rfl)
theorem dX1_addsPost_9 : decode cX1_addsPost 9 = .ok (.aload_n 0, 1) := dk_42 (dk_at dksX1_addsPost_0 9 rfl rfl)
theorem dX1_addsPost_10 : decode cX1_addsPost 10 = .ok (.getfield 54, 3) := dk_180 0 54 (dk_at dksX1_addsPost_0 10 rfl rfl)
theorem dX1_addsPost_13 : decode cX1_addsPost 13 = .ok (.iload_n 2, 1) := dk_28 (dk_at dksX1_addsPost_0 13 rfl rfl)
theorem dX1_addsPost_14 : decode cX1_addsPost 14 = .ok (.iload_n 3, 1) := dk_29 (dk_at dksX1_addsPost_0 14 rfl rfl)
theorem dX1_addsPost_15 : decode cX1_addsPost 15 = .ok (.invokestatic 60, 3) := dk_184 0 60 (dk_at dksX1_addsPost_0 15 rfl rfl)
theorem dX1_addsPost_18 : decode cX1_addsPost 18 = .ok (.aastore, 1) := dk_83 (dk_at dksX1_addsPost_0 18 rfl rfl)
theorem dX1_addsPost_19 : decode cX1_addsPost 19 = .ok (.aload_n 0, 1) := dk_42 (dk_at dksX1_addsPost_0 19 rfl rfl)
theorem dX1_addsPost_20 : decode cX1_addsPost 20 = .ok (.dup, 1) := dk_89 (dk_at dksX1_addsPost_0 20 rfl rfl)
theorem dX1_addsPost_21 : decode cX1_addsPost 21 = .ok (.getfield 54, 3) := dk_180 0 54 (dk_at dksX1_addsPost_0 21 rfl rfl)
theorem dX1_addsPost_24 : decode cX1_addsPost 24 = .ok (.iconst 1, 1) := dk_4 (dk_at dksX1_addsPost_1 0 rfl rfl)
theorem dX1_addsPost_25 : decode cX1_addsPost 25 = .ok (.iadd, 1) := dk_96 (dk_at dksX1_addsPost_1 1 rfl rfl)
theorem dX1_addsPost_26 : decode cX1_addsPost 26 = .ok (.putfield 54, 3) := dk_181 0 54 (dk_at dksX1_addsPost_1 2 rfl rfl)
theorem dX1_addsPost_29 : decode cX1_addsPost 29 = .ok (.aload_n 0, 1) := dk_42 (dk_at dksX1_addsPost_1 5 rfl rfl)
theorem dX1_addsPost_30 : decode cX1_addsPost 30 = .ok (.getfield 54, 3) := dk_180 0 54 (dk_at dksX1_addsPost_1 6 rfl rfl)
theorem dX1_addsPost_33 : decode cX1_addsPost 33 = .ok (.iconst 1, 1) := dk_4 (dk_at dksX1_addsPost_1 9 rfl rfl)
theorem dX1_addsPost_34 : decode cX1_addsPost 34 = .ok (.isub, 1) := dk_100 (dk_at dksX1_addsPost_1 10 rfl rfl)
theorem dX1_addsPost_35 : decode cX1_addsPost 35 = .ok (.ireturn, 1) := dk_172 (dk_at dksX1_addsPost_1 11 rfl rfl)
def dkwX1_addsWalker_1 : List UInt8 := [180, 0, 57, 4, 96, 181, 0, 57, 42, 180, 0, 57, 4, 100, 172]
abbrev dktX1_addsWalker_1 : List UInt8 := dkwX1_addsWalker_1 ++ []
def dkwX1_addsWalker_0 : List UInt8 := [42, 180, 0, 21, 42, 180, 0, 57, 27, 79, 42, 180, 0, 24, 42, 180, 0, 57, 28, 79, 42, 89]
abbrev dktX1_addsWalker_0 : List UInt8 := dkwX1_addsWalker_0 ++ dktX1_addsWalker_1
theorem dksX1_addsWalker_0 : cX1_addsWalker.data.toList.drop 0 = dktX1_addsWalker_0 := by decide +kernel
theorem dksX1_addsWalker_1 : cX1_addsWalker.data.toList.drop 22 = dktX1_addsWalker_1 := dk_seg dksX1_addsWalker_0 22 rfl rfl
theorem dX1_addsWalker_0 : decode cX1_addsWalker 0 = .ok (.aload_n 0, 1) := dk_42 (dk_at dksX1_addsWalker_0 0 rfl rfl)
theorem dX1_addsWalker_1 : decode cX1_addsWalker 1 = .ok (.getfield 21, 3) := dk_180 0 21 (dk_at dksX1_addsWalker_0 1 rfl rfl)
theorem dX1_addsWalker_4 : decode cX1_addsWalker 4 = .ok (.aload_n 0, 1) := dk_42 (dk_at dksX1_addsWalker_0 4 rfl rfl)
theorem dX1_addsWalker_5 : decode cX1_addsWalker 5 = .ok (.getfield 57, 3) := dk_180 0 57 (dk_at dksX1_addsWalker_0 5 rfl rfl)
theorem dX1_addsWalker_8 : decode cX1_addsWalker 8 = .ok (.iload_n 1, 1) := dk_27 (dk_at dksX1_addsWalker_0 8 rfl rfl)
theorem dX1_addsWalker_9 : decode cX1_addsWalker 9 = .ok (.iastore, 1) := dk_79 (dk_at dksX1_addsWalker_0 9 rfl rfl)
theorem dX1_addsWalker_10 : decode cX1_addsWalker 10 = .ok (.aload_n 0, 1) := dk_42 (dk_at dksX1_addsWalker_0 10 rfl rfl)
theorem dX1_addsWalker_11 : decode cX1_addsWalker 11 = .ok (.getfield 24, 3) := dk_180 0 24 (dk_at dksX1_addsWalker_0 11 rfl rfl)
theorem dX1_addsWalker_14 : decode cX1_addsWalker 14 = .ok (.aload_n 0, 1) := dk_42 (dk_at dksX1_addsWalker_0 14 rfl rfl)
theorem dX1_addsWalker_15 : decode cX1_addsWalker 15 = .ok (.getfield 57, 3) := dk_180 0 57 (dk_at dksX1_addsWalker_0 15 rfl rfl)
theorem dX1_addsWalker_18 : decode cX1_addsWalker 18 = .ok (.iload_n 2, 1) := dk_28 (dk_at dksX1_addsWalker_0 18 rfl rfl)
theorem dX1_addsWalker_19 : decode cX1_addsWalker 19 = .ok (.iastore, 1) := dk_79 (dk_at dksX1_addsWalker_0 19 rfl rfl)
theorem dX1_addsWalker_20 : decode cX1_addsWalker 20 = .ok (.aload_n 0, 1) := dk_42 (dk_at dksX1_addsWalker_0 20 rfl rfl)
theorem dX1_addsWalker_21 : decode cX1_addsWalker 21 = .ok (.dup, 1) := dk_89 (dk_at dksX1_addsWalker_0 21 rfl rfl)
theorem dX1_addsWalker_22 : decode cX1_addsWalker 22 = .ok (.getfield 57, 3) := dk_180 0 57 (dk_at dksX1_addsWalker_1 0 rfl rfl)
theorem dX1_addsWalker_25 : decode cX1_addsWalker 25 = .ok (.iconst 1, 1) := dk_4 (dk_at dksX1_addsWalker_1 3 rfl rfl)
theorem dX1_addsWalker_26 : decode cX1_addsWalker 26 = .ok (.iadd, 1) := dk_96 (dk_at dksX1_addsWalker_1 4 rfl rfl)
theorem dX1_addsWalker_27 : decode cX1_addsWalker 27 = .ok (.putfield 57, 3) := dk_181 0 57 (dk_at dksX1_addsWalker_1 5 rfl rfl)
theorem dX1_addsWalker_30 : decode cX1_addsWalker 30 = .ok (.aload_n 0, 1) := dk_42 (dk_at dksX1_addsWalker_1 8 rfl rfl)
theorem dX1_addsWalker_31 : decode cX1_addsWalker 31 = .ok (.getfield 57, 3) := dk_180 0 57 (dk_at dksX1_addsWalker_1 9 rfl rfl)
theorem dX1_addsWalker_34 : decode cX1_addsWalker 34 = .ok (.iconst 1, 1) := dk_4 (dk_at dksX1_addsWalker_1 12 rfl rfl)
theorem dX1_addsWalker_35 : decode cX1_addsWalker 35 = .ok (.isub, 1) := dk_100 (dk_at dksX1_addsWalker_1 13 rfl rfl)
theorem dX1_addsWalker_36 : decode cX1_addsWalker 36 = .ok (.ireturn, 1) := dk_172 (dk_at dksX1_addsWalker_1 14 rfl rfl)
def dkwX1_isWalker_0 : List UInt8 := [27, 3, 42, 180, 0, 57, 4, 100, 184, 0, 84, 172]
abbrev dktX1_isWalker_0 : List UInt8 := dkwX1_isWalker_0 ++ []
theorem dksX1_isWalker_0 : cX1_isWalker.data.toList.drop 0 = dktX1_isWalker_0 := by decide +kernel
theorem dX1_isWalker_0 : decode cX1_isWalker 0 = .ok (.iload_n 1, 1) := dk_27 (dk_at dksX1_isWalker_0 0 rfl rfl)
theorem dX1_isWalker_1 : decode cX1_isWalker 1 = .ok (.iconst 0, 1) := dk_3 (dk_at dksX1_isWalker_0 1 rfl rfl)
theorem dX1_isWalker_2 : decode cX1_isWalker 2 = .ok (.aload_n 0, 1) := dk_42 (dk_at dksX1_isWalker_0 2 rfl rfl)
theorem dX1_isWalker_3 : decode cX1_isWalker 3 = .ok (.getfield 57, 3) := dk_180 0 57 (dk_at dksX1_isWalker_0 3 rfl rfl)
theorem dX1_isWalker_6 : decode cX1_isWalker 6 = .ok (.iconst 1, 1) := dk_4 (dk_at dksX1_isWalker_0 6 rfl rfl)
theorem dX1_isWalker_7 : decode cX1_isWalker 7 = .ok (.isub, 1) := dk_100 (dk_at dksX1_isWalker_0 7 rfl rfl)
theorem dX1_isWalker_8 : decode cX1_isWalker 8 = .ok (.invokestatic 84, 3) := dk_184 0 84 (dk_at dksX1_isWalker_0 8 rfl rfl)
theorem dX1_isWalker_11 : decode cX1_isWalker 11 = .ok (.ireturn, 1) := dk_172 (dk_at dksX1_isWalker_0 11 rfl rfl)
def dkwX1_copied_4 : List UInt8 := [181, 0, 57, 43, 42, 180, 0, 41, 181, 0, 41, 43, 176]
abbrev dktX1_copied_4 : List UInt8 := dkwX1_copied_4 ++ []
def dkwX1_copied_3 : List UInt8 := [181, 0, 37, 43, 42, 180, 0, 51, 181, 0, 51, 43, 42, 180, 0, 54, 181, 0, 54, 43, 42, 180, 0, 57]
abbrev dktX1_copied_3 : List UInt8 := dkwX1_copied_3 ++ dktX1_copied_4
def dkwX1_copied_2 : List UInt8 := [7, 184, 0, 45, 42, 180, 0, 24, 3, 43, 180, 0, 24, 3, 7, 184, 0, 45, 43, 42, 180, 0, 37]
abbrev dktX1_copied_2 : List UInt8 := dkwX1_copied_2 ++ dktX1_copied_3
def dkwX1_copied_1 : List UInt8 := [180, 0, 17, 3, 43, 180, 0, 17, 3, 16, 8, 184, 0, 45, 42, 180, 0, 21, 3, 43, 180, 0, 21, 3]
abbrev dktX1_copied_1 : List UInt8 := dkwX1_copied_1 ++ dktX1_copied_2
def dkwX1_copied_0 : List UInt8 := [187, 0, 10, 89, 183, 0, 44, 76, 42, 180, 0, 9, 3, 43, 180, 0, 9, 3, 16, 7, 184, 0, 45, 42]
abbrev dktX1_copied_0 : List UInt8 := dkwX1_copied_0 ++ dktX1_copied_1
theorem dksX1_copied_0 : cX1_copied.data.toList.drop 0 = dktX1_copied_0 := by decide +kernel
theorem dksX1_copied_1 : cX1_copied.data.toList.drop 24 = dktX1_copied_1 := dk_seg dksX1_copied_0 24 rfl rfl
theorem dksX1_copied_2 : cX1_copied.data.toList.drop 48 = dktX1_copied_2 := dk_seg dksX1_copied_1 24 rfl rfl
theorem dksX1_copied_3 : cX1_copied.data.toList.drop 71 = dktX1_copied_3 := dk_seg dksX1_copied_2 23 rfl rfl
theorem dksX1_copied_4 : cX1_copied.data.toList.drop 95 = dktX1_copied_4 := dk_seg dksX1_copied_3 24 rfl rfl
theorem dX1_copied_0 : decode cX1_copied 0 = .ok (.new 10, 3) := dk_187 0 10 (dk_at dksX1_copied_0 0 rfl rfl)
theorem dX1_copied_3 : decode cX1_copied 3 = .ok (.dup, 1) := dk_89 (dk_at dksX1_copied_0 3 rfl rfl)
theorem dX1_copied_4 : decode cX1_copied 4 = .ok (.invokespecial 44, 3) := dk_183 0 44 (dk_at dksX1_copied_0 4 rfl rfl)
theorem dX1_copied_7 : decode cX1_copied 7 = .ok (.astore_n 1, 1) := dk_76 (dk_at dksX1_copied_0 7 rfl rfl)
theorem dX1_copied_8 : decode cX1_copied 8 = .ok (.aload_n 0, 1) := dk_42 (dk_at dksX1_copied_0 8 rfl rfl)
theorem dX1_copied_9 : decode cX1_copied 9 = .ok (.getfield 9, 3) := dk_180 0 9 (dk_at dksX1_copied_0 9 rfl rfl)
theorem dX1_copied_12 : decode cX1_copied 12 = .ok (.iconst 0, 1) := dk_3 (dk_at dksX1_copied_0 12 rfl rfl)
theorem dX1_copied_13 : decode cX1_copied 13 = .ok (.aload_n 1, 1) := dk_43 (dk_at dksX1_copied_0 13 rfl rfl)
theorem dX1_copied_14 : decode cX1_copied 14 = .ok (.getfield 9, 3) := dk_180 0 9 (dk_at dksX1_copied_0 14 rfl rfl)
theorem dX1_copied_17 : decode cX1_copied 17 = .ok (.iconst 0, 1) := dk_3 (dk_at dksX1_copied_0 17 rfl rfl)
theorem dX1_copied_18 : decode cX1_copied 18 = .ok (.bipush 7, 2) := dk_16 7 (dk_at dksX1_copied_0 18 rfl rfl)
theorem dX1_copied_20 : decode cX1_copied 20 = .ok (.invokestatic 45, 3) := dk_184 0 45 (dk_at dksX1_copied_0 20 rfl rfl)
theorem dX1_copied_23 : decode cX1_copied 23 = .ok (.aload_n 0, 1) := dk_42 (dk_at dksX1_copied_0 23 rfl rfl)
theorem dX1_copied_24 : decode cX1_copied 24 = .ok (.getfield 17, 3) := dk_180 0 17 (dk_at dksX1_copied_1 0 rfl rfl)
theorem dX1_copied_27 : decode cX1_copied 27 = .ok (.iconst 0, 1) := dk_3 (dk_at dksX1_copied_1 3 rfl rfl)
theorem dX1_copied_28 : decode cX1_copied 28 = .ok (.aload_n 1, 1) := dk_43 (dk_at dksX1_copied_1 4 rfl rfl)
theorem dX1_copied_29 : decode cX1_copied 29 = .ok (.getfield 17, 3) := dk_180 0 17 (dk_at dksX1_copied_1 5 rfl rfl)
theorem dX1_copied_32 : decode cX1_copied 32 = .ok (.iconst 0, 1) := dk_3 (dk_at dksX1_copied_1 8 rfl rfl)
theorem dX1_copied_33 : decode cX1_copied 33 = .ok (.bipush 8, 2) := dk_16 8 (dk_at dksX1_copied_1 9 rfl rfl)
theorem dX1_copied_35 : decode cX1_copied 35 = .ok (.invokestatic 45, 3) := dk_184 0 45 (dk_at dksX1_copied_1 11 rfl rfl)
theorem dX1_copied_38 : decode cX1_copied 38 = .ok (.aload_n 0, 1) := dk_42 (dk_at dksX1_copied_1 14 rfl rfl)
theorem dX1_copied_39 : decode cX1_copied 39 = .ok (.getfield 21, 3) := dk_180 0 21 (dk_at dksX1_copied_1 15 rfl rfl)
theorem dX1_copied_42 : decode cX1_copied 42 = .ok (.iconst 0, 1) := dk_3 (dk_at dksX1_copied_1 18 rfl rfl)
theorem dX1_copied_43 : decode cX1_copied 43 = .ok (.aload_n 1, 1) := dk_43 (dk_at dksX1_copied_1 19 rfl rfl)
theorem dX1_copied_44 : decode cX1_copied 44 = .ok (.getfield 21, 3) := dk_180 0 21 (dk_at dksX1_copied_1 20 rfl rfl)
theorem dX1_copied_47 : decode cX1_copied 47 = .ok (.iconst 0, 1) := dk_3 (dk_at dksX1_copied_1 23 rfl rfl)
theorem dX1_copied_48 : decode cX1_copied 48 = .ok (.iconst 4, 1) := dk_7 (dk_at dksX1_copied_2 0 rfl rfl)
theorem dX1_copied_49 : decode cX1_copied 49 = .ok (.invokestatic 45, 3) := dk_184 0 45 (dk_at dksX1_copied_2 1 rfl rfl)
theorem dX1_copied_52 : decode cX1_copied 52 = .ok (.aload_n 0, 1) := dk_42 (dk_at dksX1_copied_2 4 rfl rfl)
theorem dX1_copied_53 : decode cX1_copied 53 = .ok (.getfield 24, 3) := dk_180 0 24 (dk_at dksX1_copied_2 5 rfl rfl)
theorem dX1_copied_56 : decode cX1_copied 56 = .ok (.iconst 0, 1) := dk_3 (dk_at dksX1_copied_2 8 rfl rfl)
theorem dX1_copied_57 : decode cX1_copied 57 = .ok (.aload_n 1, 1) := dk_43 (dk_at dksX1_copied_2 9 rfl rfl)
theorem dX1_copied_58 : decode cX1_copied 58 = .ok (.getfield 24, 3) := dk_180 0 24 (dk_at dksX1_copied_2 10 rfl rfl)
theorem dX1_copied_61 : decode cX1_copied 61 = .ok (.iconst 0, 1) := dk_3 (dk_at dksX1_copied_2 13 rfl rfl)
theorem dX1_copied_62 : decode cX1_copied 62 = .ok (.iconst 4, 1) := dk_7 (dk_at dksX1_copied_2 14 rfl rfl)
theorem dX1_copied_63 : decode cX1_copied 63 = .ok (.invokestatic 45, 3) := dk_184 0 45 (dk_at dksX1_copied_2 15 rfl rfl)
theorem dX1_copied_66 : decode cX1_copied 66 = .ok (.aload_n 1, 1) := dk_43 (dk_at dksX1_copied_2 18 rfl rfl)
theorem dX1_copied_67 : decode cX1_copied 67 = .ok (.aload_n 0, 1) := dk_42 (dk_at dksX1_copied_2 19 rfl rfl)
theorem dX1_copied_68 : decode cX1_copied 68 = .ok (.getfield 37, 3) := dk_180 0 37 (dk_at dksX1_copied_2 20 rfl rfl)
theorem dX1_copied_71 : decode cX1_copied 71 = .ok (.putfield 37, 3) := dk_181 0 37 (dk_at dksX1_copied_3 0 rfl rfl)
theorem dX1_copied_74 : decode cX1_copied 74 = .ok (.aload_n 1, 1) := dk_43 (dk_at dksX1_copied_3 3 rfl rfl)
theorem dX1_copied_75 : decode cX1_copied 75 = .ok (.aload_n 0, 1) := dk_42 (dk_at dksX1_copied_3 4 rfl rfl)
theorem dX1_copied_76 : decode cX1_copied 76 = .ok (.getfield 51, 3) := dk_180 0 51 (dk_at dksX1_copied_3 5 rfl rfl)
theorem dX1_copied_79 : decode cX1_copied 79 = .ok (.putfield 51, 3) := dk_181 0 51 (dk_at dksX1_copied_3 8 rfl rfl)
theorem dX1_copied_82 : decode cX1_copied 82 = .ok (.aload_n 1, 1) := dk_43 (dk_at dksX1_copied_3 11 rfl rfl)
theorem dX1_copied_83 : decode cX1_copied 83 = .ok (.aload_n 0, 1) := dk_42 (dk_at dksX1_copied_3 12 rfl rfl)
theorem dX1_copied_84 : decode cX1_copied 84 = .ok (.getfield 54, 3) := dk_180 0 54 (dk_at dksX1_copied_3 13 rfl rfl)
theorem dX1_copied_87 : decode cX1_copied 87 = .ok (.putfield 54, 3) := dk_181 0 54 (dk_at dksX1_copied_3 16 rfl rfl)
theorem dX1_copied_90 : decode cX1_copied 90 = .ok (.aload_n 1, 1) := dk_43 (dk_at dksX1_copied_3 19 rfl rfl)
theorem dX1_copied_91 : decode cX1_copied 91 = .ok (.aload_n 0, 1) := dk_42 (dk_at dksX1_copied_3 20 rfl rfl)
theorem dX1_copied_92 : decode cX1_copied 92 = .ok (.getfield 57, 3) := dk_180 0 57 (dk_at dksX1_copied_3 21 rfl rfl)
theorem dX1_copied_95 : decode cX1_copied 95 = .ok (.putfield 57, 3) := dk_181 0 57 (dk_at dksX1_copied_4 0 rfl rfl)
theorem dX1_copied_98 : decode cX1_copied 98 = .ok (.aload_n 1, 1) := dk_43 (dk_at dksX1_copied_4 3 rfl rfl)
theorem dX1_copied_99 : decode cX1_copied 99 = .ok (.aload_n 0, 1) := dk_42 (dk_at dksX1_copied_4 4 rfl rfl)
theorem dX1_copied_100 : decode cX1_copied 100 = .ok (.getfield 41, 3) := dk_180 0 41 (dk_at dksX1_copied_4 5 rfl rfl)
theorem dX1_copied_103 : decode cX1_copied 103 = .ok (.putfield 41, 3) := dk_181 0 41 (dk_at dksX1_copied_4 8 rfl rfl)
theorem dX1_copied_106 : decode cX1_copied 106 = .ok (.aload_n 1, 1) := dk_43 (dk_at dksX1_copied_4 11 rfl rfl)
theorem dX1_copied_107 : decode cX1_copied 107 = .ok (.areturn, 1) := dk_176 (dk_at dksX1_copied_4 12 rfl rfl)
def dkwX1_path_0 : List UInt8 := [42, 27, 182, 0, 114, 28, 46, 172]
abbrev dktX1_path_0 : List UInt8 := dkwX1_path_0 ++ []
theorem dksX1_path_0 : cX1_path.data.toList.drop 0 = dktX1_path_0 := by decide +kernel
theorem dX1_path_0 : decode cX1_path 0 = .ok (.aload_n 0, 1) := dk_42 (dk_at dksX1_path_0 0 rfl rfl)
theorem dX1_path_1 : decode cX1_path 1 = .ok (.iload_n 1, 1) := dk_27 (dk_at dksX1_path_0 1 rfl rfl)
theorem dX1_path_2 : decode cX1_path 2 = .ok (.invokevirtual 114, 3) := dk_182 0 114 (dk_at dksX1_path_0 2 rfl rfl)
theorem dX1_path_5 : decode cX1_path 5 = .ok (.iload_n 2, 1) := dk_28 (dk_at dksX1_path_0 5 rfl rfl)
theorem dX1_path_6 : decode cX1_path 6 = .ok (.iaload, 1) := dk_46 (dk_at dksX1_path_0 6 rfl rfl)
theorem dX1_path_7 : decode cX1_path 7 = .ok (.ireturn, 1) := dk_172 (dk_at dksX1_path_0 7 rfl rfl)
def dkwX1_spreads_4 : List UInt8 := [132, 4, 1, 167, 255, 201, 132, 3, 1, 167, 255, 186, 132, 2, 1, 167, 255, 165, 42, 180, 0, 34, 176]
abbrev dktX1_spreads_4 : List UInt8 := dkwX1_spreads_4 ++ []
def dkwX1_spreads_3 : List UInt8 := [159, 0, 24, 42, 180, 0, 34, 21, 5, 46, 2, 160, 0, 13, 42, 180, 0, 34, 21, 5, 28, 4, 96, 79]
abbrev dktX1_spreads_3 : List UInt8 := dkwX1_spreads_3 ++ dktX1_spreads_4
def dkwX1_spreads_2 : List UInt8 := [42, 180, 0, 34, 29, 46, 28, 160, 0, 45, 42, 29, 21, 4, 182, 0, 110, 54, 5, 21, 5, 2]
abbrev dktX1_spreads_2 : List UInt8 := dkwX1_spreads_2 ++ dktX1_spreads_3
def dkwX1_spreads_1 : List UInt8 := [180, 0, 37, 104, 162, 0, 84, 3, 62, 29, 16, 70, 162, 0, 70, 4, 54, 4, 21, 4, 8, 162, 0, 55]
abbrev dktX1_spreads_1 : List UInt8 := dkwX1_spreads_1 ++ dktX1_spreads_2
def dkwX1_spreads_0 : List UInt8 := [42, 180, 0, 34, 2, 184, 0, 104, 42, 180, 0, 34, 27, 3, 79, 3, 61, 28, 42, 180, 0, 37, 42]
abbrev dktX1_spreads_0 : List UInt8 := dkwX1_spreads_0 ++ dktX1_spreads_1
theorem dksX1_spreads_0 : cX1_spreads.data.toList.drop 0 = dktX1_spreads_0 := by decide +kernel
theorem dksX1_spreads_1 : cX1_spreads.data.toList.drop 23 = dktX1_spreads_1 := dk_seg dksX1_spreads_0 23 rfl rfl
theorem dksX1_spreads_2 : cX1_spreads.data.toList.drop 47 = dktX1_spreads_2 := dk_seg dksX1_spreads_1 24 rfl rfl
theorem dksX1_spreads_3 : cX1_spreads.data.toList.drop 69 = dktX1_spreads_3 := dk_seg dksX1_spreads_2 22 rfl rfl
theorem dksX1_spreads_4 : cX1_spreads.data.toList.drop 93 = dktX1_spreads_4 := dk_seg dksX1_spreads_3 24 rfl rfl
theorem dX1_spreads_0 : decode cX1_spreads 0 = .ok (.aload_n 0, 1) := dk_42 (dk_at dksX1_spreads_0 0 rfl rfl)
theorem dX1_spreads_1 : decode cX1_spreads 1 = .ok (.getfield 34, 3) := dk_180 0 34 (dk_at dksX1_spreads_0 1 rfl rfl)
theorem dX1_spreads_4 : decode cX1_spreads 4 = .ok (.iconst (-1), 1) := dk_2 (dk_at dksX1_spreads_0 4 rfl rfl)
theorem dX1_spreads_5 : decode cX1_spreads 5 = .ok (.invokestatic 104, 3) := dk_184 0 104 (dk_at dksX1_spreads_0 5 rfl rfl)
theorem dX1_spreads_8 : decode cX1_spreads 8 = .ok (.aload_n 0, 1) := dk_42 (dk_at dksX1_spreads_0 8 rfl rfl)
theorem dX1_spreads_9 : decode cX1_spreads 9 = .ok (.getfield 34, 3) := dk_180 0 34 (dk_at dksX1_spreads_0 9 rfl rfl)
theorem dX1_spreads_12 : decode cX1_spreads 12 = .ok (.iload_n 1, 1) := dk_27 (dk_at dksX1_spreads_0 12 rfl rfl)
theorem dX1_spreads_13 : decode cX1_spreads 13 = .ok (.iconst 0, 1) := dk_3 (dk_at dksX1_spreads_0 13 rfl rfl)
theorem dX1_spreads_14 : decode cX1_spreads 14 = .ok (.iastore, 1) := dk_79 (dk_at dksX1_spreads_0 14 rfl rfl)
theorem dX1_spreads_15 : decode cX1_spreads 15 = .ok (.iconst 0, 1) := dk_3 (dk_at dksX1_spreads_0 15 rfl rfl)
theorem dX1_spreads_16 : decode cX1_spreads 16 = .ok (.istore_n 2, 1) := dk_61 (dk_at dksX1_spreads_0 16 rfl rfl)
theorem dX1_spreads_17 : decode cX1_spreads 17 = .ok (.iload_n 2, 1) := dk_28 (dk_at dksX1_spreads_0 17 rfl rfl)
theorem dX1_spreads_18 : decode cX1_spreads 18 = .ok (.aload_n 0, 1) := dk_42 (dk_at dksX1_spreads_0 18 rfl rfl)
theorem dX1_spreads_19 : decode cX1_spreads 19 = .ok (.getfield 37, 3) := dk_180 0 37 (dk_at dksX1_spreads_0 19 rfl rfl)
theorem dX1_spreads_22 : decode cX1_spreads 22 = .ok (.aload_n 0, 1) := dk_42 (dk_at dksX1_spreads_0 22 rfl rfl)
theorem dX1_spreads_23 : decode cX1_spreads 23 = .ok (.getfield 37, 3) := dk_180 0 37 (dk_at dksX1_spreads_1 0 rfl rfl)
theorem dX1_spreads_26 : decode cX1_spreads 26 = .ok (.imul, 1) := dk_104 (dk_at dksX1_spreads_1 3 rfl rfl)
theorem dX1_spreads_27 : decode cX1_spreads 27 = .ok (.if_icmp .ge 84, 3) := dk_162 0 84 (dk_at dksX1_spreads_1 4 rfl rfl)
theorem dX1_spreads_30 : decode cX1_spreads 30 = .ok (.iconst 0, 1) := dk_3 (dk_at dksX1_spreads_1 7 rfl rfl)
theorem dX1_spreads_31 : decode cX1_spreads 31 = .ok (.istore_n 3, 1) := dk_62 (dk_at dksX1_spreads_1 8 rfl rfl)
theorem dX1_spreads_32 : decode cX1_spreads 32 = .ok (.iload_n 3, 1) := dk_29 (dk_at dksX1_spreads_1 9 rfl rfl)
theorem dX1_spreads_33 : decode cX1_spreads 33 = .ok (.bipush 70, 2) := dk_16 70 (dk_at dksX1_spreads_1 10 rfl rfl)
theorem dX1_spreads_35 : decode cX1_spreads 35 = .ok (.if_icmp .ge 70, 3) := dk_162 0 70 (dk_at dksX1_spreads_1 12 rfl rfl)
theorem dX1_spreads_38 : decode cX1_spreads 38 = .ok (.iconst 1, 1) := dk_4 (dk_at dksX1_spreads_1 15 rfl rfl)
theorem dX1_spreads_39 : decode cX1_spreads 39 = .ok (.istore 4, 2) := dk_54 4 (dk_at dksX1_spreads_1 16 rfl rfl)
theorem dX1_spreads_41 : decode cX1_spreads 41 = .ok (.iload 4, 2) := dk_21 4 (dk_at dksX1_spreads_1 18 rfl rfl)
theorem dX1_spreads_43 : decode cX1_spreads 43 = .ok (.iconst 5, 1) := dk_8 (dk_at dksX1_spreads_1 20 rfl rfl)
theorem dX1_spreads_44 : decode cX1_spreads 44 = .ok (.if_icmp .ge 55, 3) := dk_162 0 55 (dk_at dksX1_spreads_1 21 rfl rfl)
theorem dX1_spreads_47 : decode cX1_spreads 47 = .ok (.aload_n 0, 1) := dk_42 (dk_at dksX1_spreads_2 0 rfl rfl)
theorem dX1_spreads_48 : decode cX1_spreads 48 = .ok (.getfield 34, 3) := dk_180 0 34 (dk_at dksX1_spreads_2 1 rfl rfl)
theorem dX1_spreads_51 : decode cX1_spreads 51 = .ok (.iload_n 3, 1) := dk_29 (dk_at dksX1_spreads_2 4 rfl rfl)
theorem dX1_spreads_52 : decode cX1_spreads 52 = .ok (.iaload, 1) := dk_46 (dk_at dksX1_spreads_2 5 rfl rfl)
theorem dX1_spreads_53 : decode cX1_spreads 53 = .ok (.iload_n 2, 1) := dk_28 (dk_at dksX1_spreads_2 6 rfl rfl)
theorem dX1_spreads_54 : decode cX1_spreads 54 = .ok (.if_icmp .ne 45, 3) := dk_160 0 45 (dk_at dksX1_spreads_2 7 rfl rfl)
theorem dX1_spreads_57 : decode cX1_spreads 57 = .ok (.aload_n 0, 1) := dk_42 (dk_at dksX1_spreads_2 10 rfl rfl)
theorem dX1_spreads_58 : decode cX1_spreads 58 = .ok (.iload_n 3, 1) := dk_29 (dk_at dksX1_spreads_2 11 rfl rfl)
theorem dX1_spreads_59 : decode cX1_spreads 59 = .ok (.iload 4, 2) := dk_21 4 (dk_at dksX1_spreads_2 12 rfl rfl)
theorem dX1_spreads_61 : decode cX1_spreads 61 = .ok (.invokevirtual 110, 3) := dk_182 0 110 (dk_at dksX1_spreads_2 14 rfl rfl)
theorem dX1_spreads_64 : decode cX1_spreads 64 = .ok (.istore 5, 2) := dk_54 5 (dk_at dksX1_spreads_2 17 rfl rfl)
theorem dX1_spreads_66 : decode cX1_spreads 66 = .ok (.iload 5, 2) := dk_21 5 (dk_at dksX1_spreads_2 19 rfl rfl)
theorem dX1_spreads_68 : decode cX1_spreads 68 = .ok (.iconst (-1), 1) := dk_2 (dk_at dksX1_spreads_2 21 rfl rfl)
theorem dX1_spreads_69 : decode cX1_spreads 69 = .ok (.if_icmp .eq 24, 3) := dk_159 0 24 (dk_at dksX1_spreads_3 0 rfl rfl)
theorem dX1_spreads_72 : decode cX1_spreads 72 = .ok (.aload_n 0, 1) := dk_42 (dk_at dksX1_spreads_3 3 rfl rfl)
theorem dX1_spreads_73 : decode cX1_spreads 73 = .ok (.getfield 34, 3) := dk_180 0 34 (dk_at dksX1_spreads_3 4 rfl rfl)
theorem dX1_spreads_76 : decode cX1_spreads 76 = .ok (.iload 5, 2) := dk_21 5 (dk_at dksX1_spreads_3 7 rfl rfl)
theorem dX1_spreads_78 : decode cX1_spreads 78 = .ok (.iaload, 1) := dk_46 (dk_at dksX1_spreads_3 9 rfl rfl)
theorem dX1_spreads_79 : decode cX1_spreads 79 = .ok (.iconst (-1), 1) := dk_2 (dk_at dksX1_spreads_3 10 rfl rfl)
theorem dX1_spreads_80 : decode cX1_spreads 80 = .ok (.if_icmp .ne 13, 3) := dk_160 0 13 (dk_at dksX1_spreads_3 11 rfl rfl)
theorem dX1_spreads_83 : decode cX1_spreads 83 = .ok (.aload_n 0, 1) := dk_42 (dk_at dksX1_spreads_3 14 rfl rfl)
theorem dX1_spreads_84 : decode cX1_spreads 84 = .ok (.getfield 34, 3) := dk_180 0 34 (dk_at dksX1_spreads_3 15 rfl rfl)
theorem dX1_spreads_87 : decode cX1_spreads 87 = .ok (.iload 5, 2) := dk_21 5 (dk_at dksX1_spreads_3 18 rfl rfl)
theorem dX1_spreads_89 : decode cX1_spreads 89 = .ok (.iload_n 2, 1) := dk_28 (dk_at dksX1_spreads_3 20 rfl rfl)
theorem dX1_spreads_90 : decode cX1_spreads 90 = .ok (.iconst 1, 1) := dk_4 (dk_at dksX1_spreads_3 21 rfl rfl)
theorem dX1_spreads_91 : decode cX1_spreads 91 = .ok (.iadd, 1) := dk_96 (dk_at dksX1_spreads_3 22 rfl rfl)
theorem dX1_spreads_92 : decode cX1_spreads 92 = .ok (.iastore, 1) := dk_79 (dk_at dksX1_spreads_3 23 rfl rfl)
theorem dX1_spreads_93 : decode cX1_spreads 93 = .ok (.iinc 4 1, 3) := dk_132 4 1 (dk_at dksX1_spreads_4 0 rfl rfl)
theorem dX1_spreads_96 : decode cX1_spreads 96 = .ok (.goto (-55), 3) := dk_167 255 201 (dk_at dksX1_spreads_4 3 rfl rfl)
theorem dX1_spreads_99 : decode cX1_spreads 99 = .ok (.iinc 3 1, 3) := dk_132 3 1 (dk_at dksX1_spreads_4 6 rfl rfl)
theorem dX1_spreads_102 : decode cX1_spreads 102 = .ok (.goto (-70), 3) := dk_167 255 186 (dk_at dksX1_spreads_4 9 rfl rfl)
theorem dX1_spreads_105 : decode cX1_spreads 105 = .ok (.iinc 2 1, 3) := dk_132 2 1 (dk_at dksX1_spreads_4 12 rfl rfl)
theorem dX1_spreads_108 : decode cX1_spreads 108 = .ok (.goto (-91), 3) := dk_167 255 165 (dk_at dksX1_spreads_4 15 rfl rfl)
theorem dX1_spreads_111 : decode cX1_spreads 111 = .ok (.aload_n 0, 1) := dk_42 (dk_at dksX1_spreads_4 18 rfl rfl)
theorem dX1_spreads_112 : decode cX1_spreads 112 = .ok (.getfield 34, 3) := dk_180 0 34 (dk_at dksX1_spreads_4 19 rfl rfl)
theorem dX1_spreads_115 : decode cX1_spreads 115 = .ok (.areturn, 1) := dk_176 (dk_at dksX1_spreads_4 22 rfl rfl)
def dkwX1_beside_3 : List UInt8 := [21, 4, 96, 182, 0, 74, 154, 0, 13, 16, 10, 29, 104, 21, 4, 96, 167, 0, 4, 2, 172]
abbrev dktX1_beside_3 : List UInt8 := dkwX1_beside_3 ++ []
def dkwX1_beside_2 : List UInt8 := [184, 0, 84, 153, 0, 7, 4, 167, 0, 4, 3, 54, 5, 21, 5, 153, 0, 27, 42, 16, 10, 29, 104]
abbrev dktX1_beside_2 : List UInt8 := dkwX1_beside_2 ++ dktX1_beside_3
def dkwX1_beside_1 : List UInt8 := [3, 42, 180, 0, 37, 4, 100, 184, 0, 84, 153, 0, 22, 21, 4, 3, 42, 180, 0, 37, 4, 100]
abbrev dktX1_beside_1 : List UInt8 := dkwX1_beside_1 ++ dktX1_beside_2
def dkwX1_beside_0 : List UInt8 := [27, 16, 10, 108, 178, 0, 98, 28, 46, 96, 62, 27, 16, 10, 112, 178, 0, 101, 28, 46, 96, 54, 4, 29]
abbrev dktX1_beside_0 : List UInt8 := dkwX1_beside_0 ++ dktX1_beside_1
theorem dksX1_beside_0 : cX1_beside.data.toList.drop 0 = dktX1_beside_0 := by decide +kernel
theorem dksX1_beside_1 : cX1_beside.data.toList.drop 24 = dktX1_beside_1 := dk_seg dksX1_beside_0 24 rfl rfl
theorem dksX1_beside_2 : cX1_beside.data.toList.drop 46 = dktX1_beside_2 := dk_seg dksX1_beside_1 22 rfl rfl
theorem dksX1_beside_3 : cX1_beside.data.toList.drop 69 = dktX1_beside_3 := dk_seg dksX1_beside_2 23 rfl rfl
theorem dX1_beside_0 : decode cX1_beside 0 = .ok (.iload_n 1, 1) := dk_27 (dk_at dksX1_beside_0 0 rfl rfl)
theorem dX1_beside_1 : decode cX1_beside 1 = .ok (.bipush 10, 2) := dk_16 10 (dk_at dksX1_beside_0 1 rfl rfl)
theorem dX1_beside_3 : decode cX1_beside 3 = .ok (.idiv, 1) := dk_108 (dk_at dksX1_beside_0 3 rfl rfl)
theorem dX1_beside_4 : decode cX1_beside 4 = .ok (.getstatic 98, 3) := dk_178 0 98 (dk_at dksX1_beside_0 4 rfl rfl)
theorem dX1_beside_7 : decode cX1_beside 7 = .ok (.iload_n 2, 1) := dk_28 (dk_at dksX1_beside_0 7 rfl rfl)
theorem dX1_beside_8 : decode cX1_beside 8 = .ok (.iaload, 1) := dk_46 (dk_at dksX1_beside_0 8 rfl rfl)
theorem dX1_beside_9 : decode cX1_beside 9 = .ok (.iadd, 1) := dk_96 (dk_at dksX1_beside_0 9 rfl rfl)
theorem dX1_beside_10 : decode cX1_beside 10 = .ok (.istore_n 3, 1) := dk_62 (dk_at dksX1_beside_0 10 rfl rfl)
theorem dX1_beside_11 : decode cX1_beside 11 = .ok (.iload_n 1, 1) := dk_27 (dk_at dksX1_beside_0 11 rfl rfl)
theorem dX1_beside_12 : decode cX1_beside 12 = .ok (.bipush 10, 2) := dk_16 10 (dk_at dksX1_beside_0 12 rfl rfl)
theorem dX1_beside_14 : decode cX1_beside 14 = .ok (.irem, 1) := dk_112 (dk_at dksX1_beside_0 14 rfl rfl)
theorem dX1_beside_15 : decode cX1_beside 15 = .ok (.getstatic 101, 3) := dk_178 0 101 (dk_at dksX1_beside_0 15 rfl rfl)
theorem dX1_beside_18 : decode cX1_beside 18 = .ok (.iload_n 2, 1) := dk_28 (dk_at dksX1_beside_0 18 rfl rfl)
theorem dX1_beside_19 : decode cX1_beside 19 = .ok (.iaload, 1) := dk_46 (dk_at dksX1_beside_0 19 rfl rfl)
theorem dX1_beside_20 : decode cX1_beside 20 = .ok (.iadd, 1) := dk_96 (dk_at dksX1_beside_0 20 rfl rfl)
theorem dX1_beside_21 : decode cX1_beside 21 = .ok (.istore 4, 2) := dk_54 4 (dk_at dksX1_beside_0 21 rfl rfl)
theorem dX1_beside_23 : decode cX1_beside 23 = .ok (.iload_n 3, 1) := dk_29 (dk_at dksX1_beside_0 23 rfl rfl)
theorem dX1_beside_24 : decode cX1_beside 24 = .ok (.iconst 0, 1) := dk_3 (dk_at dksX1_beside_1 0 rfl rfl)
theorem dX1_beside_25 : decode cX1_beside 25 = .ok (.aload_n 0, 1) := dk_42 (dk_at dksX1_beside_1 1 rfl rfl)
theorem dX1_beside_26 : decode cX1_beside 26 = .ok (.getfield 37, 3) := dk_180 0 37 (dk_at dksX1_beside_1 2 rfl rfl)
theorem dX1_beside_29 : decode cX1_beside 29 = .ok (.iconst 1, 1) := dk_4 (dk_at dksX1_beside_1 5 rfl rfl)
theorem dX1_beside_30 : decode cX1_beside 30 = .ok (.isub, 1) := dk_100 (dk_at dksX1_beside_1 6 rfl rfl)
theorem dX1_beside_31 : decode cX1_beside 31 = .ok (.invokestatic 84, 3) := dk_184 0 84 (dk_at dksX1_beside_1 7 rfl rfl)
theorem dX1_beside_34 : decode cX1_beside 34 = .ok (.ifCond .eq 22, 3) := dk_153 0 22 (dk_at dksX1_beside_1 10 rfl rfl)
theorem dX1_beside_37 : decode cX1_beside 37 = .ok (.iload 4, 2) := dk_21 4 (dk_at dksX1_beside_1 13 rfl rfl)
theorem dX1_beside_39 : decode cX1_beside 39 = .ok (.iconst 0, 1) := dk_3 (dk_at dksX1_beside_1 15 rfl rfl)
theorem dX1_beside_40 : decode cX1_beside 40 = .ok (.aload_n 0, 1) := dk_42 (dk_at dksX1_beside_1 16 rfl rfl)
theorem dX1_beside_41 : decode cX1_beside 41 = .ok (.getfield 37, 3) := dk_180 0 37 (dk_at dksX1_beside_1 17 rfl rfl)
theorem dX1_beside_44 : decode cX1_beside 44 = .ok (.iconst 1, 1) := dk_4 (dk_at dksX1_beside_1 20 rfl rfl)
theorem dX1_beside_45 : decode cX1_beside 45 = .ok (.isub, 1) := dk_100 (dk_at dksX1_beside_1 21 rfl rfl)
theorem dX1_beside_46 : decode cX1_beside 46 = .ok (.invokestatic 84, 3) := dk_184 0 84 (dk_at dksX1_beside_2 0 rfl rfl)
theorem dX1_beside_49 : decode cX1_beside 49 = .ok (.ifCond .eq 7, 3) := dk_153 0 7 (dk_at dksX1_beside_2 3 rfl rfl)
theorem dX1_beside_52 : decode cX1_beside 52 = .ok (.iconst 1, 1) := dk_4 (dk_at dksX1_beside_2 6 rfl rfl)
theorem dX1_beside_53 : decode cX1_beside 53 = .ok (.goto 4, 3) := dk_167 0 4 (dk_at dksX1_beside_2 7 rfl rfl)
theorem dX1_beside_56 : decode cX1_beside 56 = .ok (.iconst 0, 1) := dk_3 (dk_at dksX1_beside_2 10 rfl rfl)
theorem dX1_beside_57 : decode cX1_beside 57 = .ok (.istore 5, 2) := dk_54 5 (dk_at dksX1_beside_2 11 rfl rfl)
theorem dX1_beside_59 : decode cX1_beside 59 = .ok (.iload 5, 2) := dk_21 5 (dk_at dksX1_beside_2 13 rfl rfl)
theorem dX1_beside_61 : decode cX1_beside 61 = .ok (.ifCond .eq 27, 3) := dk_153 0 27 (dk_at dksX1_beside_2 15 rfl rfl)
theorem dX1_beside_64 : decode cX1_beside 64 = .ok (.aload_n 0, 1) := dk_42 (dk_at dksX1_beside_2 18 rfl rfl)
theorem dX1_beside_65 : decode cX1_beside 65 = .ok (.bipush 10, 2) := dk_16 10 (dk_at dksX1_beside_2 19 rfl rfl)
theorem dX1_beside_67 : decode cX1_beside 67 = .ok (.iload_n 3, 1) := dk_29 (dk_at dksX1_beside_2 21 rfl rfl)
theorem dX1_beside_68 : decode cX1_beside 68 = .ok (.imul, 1) := dk_104 (dk_at dksX1_beside_2 22 rfl rfl)
theorem dX1_beside_69 : decode cX1_beside 69 = .ok (.iload 4, 2) := dk_21 4 (dk_at dksX1_beside_3 0 rfl rfl)
theorem dX1_beside_71 : decode cX1_beside 71 = .ok (.iadd, 1) := dk_96 (dk_at dksX1_beside_3 2 rfl rfl)
theorem dX1_beside_72 : decode cX1_beside 72 = .ok (.invokevirtual 74, 3) := dk_182 0 74 (dk_at dksX1_beside_3 3 rfl rfl)
theorem dX1_beside_75 : decode cX1_beside 75 = .ok (.ifCond .ne 13, 3) := dk_154 0 13 (dk_at dksX1_beside_3 6 rfl rfl)
theorem dX1_beside_78 : decode cX1_beside 78 = .ok (.bipush 10, 2) := dk_16 10 (dk_at dksX1_beside_3 9 rfl rfl)
theorem dX1_beside_80 : decode cX1_beside 80 = .ok (.iload_n 3, 1) := dk_29 (dk_at dksX1_beside_3 11 rfl rfl)
theorem dX1_beside_81 : decode cX1_beside 81 = .ok (.imul, 1) := dk_104 (dk_at dksX1_beside_3 12 rfl rfl)
theorem dX1_beside_82 : decode cX1_beside 82 = .ok (.iload 4, 2) := dk_21 4 (dk_at dksX1_beside_3 13 rfl rfl)
theorem dX1_beside_84 : decode cX1_beside 84 = .ok (.iadd, 1) := dk_96 (dk_at dksX1_beside_3 15 rfl rfl)
theorem dX1_beside_85 : decode cX1_beside 85 = .ok (.goto 4, 3) := dk_167 0 4 (dk_at dksX1_beside_3 16 rfl rfl)
theorem dX1_beside_88 : decode cX1_beside 88 = .ok (.iconst (-1), 1) := dk_2 (dk_at dksX1_beside_3 19 rfl rfl)
theorem dX1_beside_89 : decode cX1_beside 89 = .ok (.ireturn, 1) := dk_172 (dk_at dksX1_beside_3 20 rfl rfl)
def dkwX1_next_1 : List UInt8 := [167, 255, 238, 28, 16, 70, 162, 0, 7, 28, 167, 0, 4, 2, 172]
abbrev dktX1_next_1 : List UInt8 := dkwX1_next_1 ++ []
def dkwX1_next_0 : List UInt8 := [27, 4, 96, 61, 28, 16, 70, 162, 0, 18, 42, 28, 133, 182, 0, 95, 154, 0, 9, 132, 2, 1]
abbrev dktX1_next_0 : List UInt8 := dkwX1_next_0 ++ dktX1_next_1
theorem dksX1_next_0 : cX1_next.data.toList.drop 0 = dktX1_next_0 := by decide +kernel
theorem dksX1_next_1 : cX1_next.data.toList.drop 22 = dktX1_next_1 := dk_seg dksX1_next_0 22 rfl rfl
theorem dX1_next_0 : decode cX1_next 0 = .ok (.iload_n 1, 1) := dk_27 (dk_at dksX1_next_0 0 rfl rfl)
theorem dX1_next_1 : decode cX1_next 1 = .ok (.iconst 1, 1) := dk_4 (dk_at dksX1_next_0 1 rfl rfl)
theorem dX1_next_2 : decode cX1_next 2 = .ok (.iadd, 1) := dk_96 (dk_at dksX1_next_0 2 rfl rfl)
theorem dX1_next_3 : decode cX1_next 3 = .ok (.istore_n 2, 1) := dk_61 (dk_at dksX1_next_0 3 rfl rfl)
theorem dX1_next_4 : decode cX1_next 4 = .ok (.iload_n 2, 1) := dk_28 (dk_at dksX1_next_0 4 rfl rfl)
theorem dX1_next_5 : decode cX1_next 5 = .ok (.bipush 70, 2) := dk_16 70 (dk_at dksX1_next_0 5 rfl rfl)
theorem dX1_next_7 : decode cX1_next 7 = .ok (.if_icmp .ge 18, 3) := dk_162 0 18 (dk_at dksX1_next_0 7 rfl rfl)
theorem dX1_next_10 : decode cX1_next 10 = .ok (.aload_n 0, 1) := dk_42 (dk_at dksX1_next_0 10 rfl rfl)
theorem dX1_next_11 : decode cX1_next 11 = .ok (.iload_n 2, 1) := dk_28 (dk_at dksX1_next_0 11 rfl rfl)
theorem dX1_next_12 : decode cX1_next 12 = .ok (.i2l, 1) := dk_133 (dk_at dksX1_next_0 12 rfl rfl)
theorem dX1_next_13 : decode cX1_next 13 = .ok (.invokevirtual 95, 3) := dk_182 0 95 (dk_at dksX1_next_0 13 rfl rfl)
theorem dX1_next_16 : decode cX1_next 16 = .ok (.ifCond .ne 9, 3) := dk_154 0 9 (dk_at dksX1_next_0 16 rfl rfl)
theorem dX1_next_19 : decode cX1_next 19 = .ok (.iinc 2 1, 3) := dk_132 2 1 (dk_at dksX1_next_0 19 rfl rfl)
theorem dX1_next_22 : decode cX1_next 22 = .ok (.goto (-18), 3) := dk_167 255 238 (dk_at dksX1_next_1 0 rfl rfl)
theorem dX1_next_25 : decode cX1_next 25 = .ok (.iload_n 2, 1) := dk_28 (dk_at dksX1_next_1 3 rfl rfl)
theorem dX1_next_26 : decode cX1_next 26 = .ok (.bipush 70, 2) := dk_16 70 (dk_at dksX1_next_1 4 rfl rfl)
theorem dX1_next_28 : decode cX1_next 28 = .ok (.if_icmp .ge 7, 3) := dk_162 0 7 (dk_at dksX1_next_1 6 rfl rfl)
theorem dX1_next_31 : decode cX1_next 31 = .ok (.iload_n 2, 1) := dk_28 (dk_at dksX1_next_1 9 rfl rfl)
theorem dX1_next_32 : decode cX1_next 32 = .ok (.goto 4, 3) := dk_167 0 4 (dk_at dksX1_next_1 10 rfl rfl)
theorem dX1_next_35 : decode cX1_next 35 = .ok (.iconst (-1), 1) := dk_2 (dk_at dksX1_next_1 13 rfl rfl)
theorem dX1_next_36 : decode cX1_next 36 = .ok (.ireturn, 1) := dk_172 (dk_at dksX1_next_1 14 rfl rfl)
def dkwX1_isDry_0 : List UInt8 := [42, 31, 182, 0, 70, 153, 0, 16, 42, 31, 136, 182, 0, 74, 154, 0, 7, 4, 167, 0, 4, 3, 172]
abbrev dktX1_isDry_0 : List UInt8 := dkwX1_isDry_0 ++ []
theorem dksX1_isDry_0 : cX1_isDry.data.toList.drop 0 = dktX1_isDry_0 := by decide +kernel
theorem dX1_isDry_0 : decode cX1_isDry 0 = .ok (.aload_n 0, 1) := dk_42 (dk_at dksX1_isDry_0 0 rfl rfl)
theorem dX1_isDry_1 : decode cX1_isDry 1 = .ok (.lload_n 1, 1) := dk_31 (dk_at dksX1_isDry_0 1 rfl rfl)
theorem dX1_isDry_2 : decode cX1_isDry 2 = .ok (.invokevirtual 70, 3) := dk_182 0 70 (dk_at dksX1_isDry_0 2 rfl rfl)
theorem dX1_isDry_5 : decode cX1_isDry 5 = .ok (.ifCond .eq 16, 3) := dk_153 0 16 (dk_at dksX1_isDry_0 5 rfl rfl)
theorem dX1_isDry_8 : decode cX1_isDry 8 = .ok (.aload_n 0, 1) := dk_42 (dk_at dksX1_isDry_0 8 rfl rfl)
theorem dX1_isDry_9 : decode cX1_isDry 9 = .ok (.lload_n 1, 1) := dk_31 (dk_at dksX1_isDry_0 9 rfl rfl)
theorem dX1_isDry_10 : decode cX1_isDry 10 = .ok (.l2i, 1) := dk_136 (dk_at dksX1_isDry_0 10 rfl rfl)
theorem dX1_isDry_11 : decode cX1_isDry 11 = .ok (.invokevirtual 74, 3) := dk_182 0 74 (dk_at dksX1_isDry_0 11 rfl rfl)
theorem dX1_isDry_14 : decode cX1_isDry 14 = .ok (.ifCond .ne 7, 3) := dk_154 0 7 (dk_at dksX1_isDry_0 14 rfl rfl)
theorem dX1_isDry_17 : decode cX1_isDry 17 = .ok (.iconst 1, 1) := dk_4 (dk_at dksX1_isDry_0 17 rfl rfl)
theorem dX1_isDry_18 : decode cX1_isDry 18 = .ok (.goto 4, 3) := dk_167 0 4 (dk_at dksX1_isDry_0 18 rfl rfl)
theorem dX1_isDry_21 : decode cX1_isDry 21 = .ok (.iconst 0, 1) := dk_3 (dk_at dksX1_isDry_0 21 rfl rfl)
theorem dX1_isDry_22 : decode cX1_isDry 22 = .ok (.ireturn, 1) := dk_172 (dk_at dksX1_isDry_0 22 rfl rfl)
def dkwX1_stands_2 : List UInt8 := [180, 0, 24, 27, 46, 4, 100, 184, 0, 118, 79, 177]
abbrev dktX1_stands_2 : List UInt8 := dkwX1_stands_2 ++ []
def dkwX1_stands_1 : List UInt8 := [167, 0, 33, 29, 153, 0, 29, 42, 27, 182, 0, 91, 153, 0, 21, 42, 180, 0, 24, 27, 3, 42]
abbrev dktX1_stands_1 : List UInt8 := dkwX1_stands_1 ++ dktX1_stands_2
def dkwX1_stands_0 : List UInt8 := [42, 180, 0, 21, 27, 28, 79, 28, 42, 180, 0, 51, 160, 0, 14, 42, 180, 0, 24, 27, 16, 9, 79]
abbrev dktX1_stands_0 : List UInt8 := dkwX1_stands_0 ++ dktX1_stands_1
theorem dksX1_stands_0 : cX1_stands.data.toList.drop 0 = dktX1_stands_0 := by decide +kernel
theorem dksX1_stands_1 : cX1_stands.data.toList.drop 23 = dktX1_stands_1 := dk_seg dksX1_stands_0 23 rfl rfl
theorem dksX1_stands_2 : cX1_stands.data.toList.drop 45 = dktX1_stands_2 := dk_seg dksX1_stands_1 22 rfl rfl
theorem dX1_stands_0 : decode cX1_stands 0 = .ok (.aload_n 0, 1) := dk_42 (dk_at dksX1_stands_0 0 rfl rfl)
theorem dX1_stands_1 : decode cX1_stands 1 = .ok (.getfield 21, 3) := dk_180 0 21 (dk_at dksX1_stands_0 1 rfl rfl)
theorem dX1_stands_4 : decode cX1_stands 4 = .ok (.iload_n 1, 1) := dk_27 (dk_at dksX1_stands_0 4 rfl rfl)
theorem dX1_stands_5 : decode cX1_stands 5 = .ok (.iload_n 2, 1) := dk_28 (dk_at dksX1_stands_0 5 rfl rfl)
theorem dX1_stands_6 : decode cX1_stands 6 = .ok (.iastore, 1) := dk_79 (dk_at dksX1_stands_0 6 rfl rfl)
theorem dX1_stands_7 : decode cX1_stands 7 = .ok (.iload_n 2, 1) := dk_28 (dk_at dksX1_stands_0 7 rfl rfl)
theorem dX1_stands_8 : decode cX1_stands 8 = .ok (.aload_n 0, 1) := dk_42 (dk_at dksX1_stands_0 8 rfl rfl)
theorem dX1_stands_9 : decode cX1_stands 9 = .ok (.getfield 51, 3) := dk_180 0 51 (dk_at dksX1_stands_0 9 rfl rfl)
theorem dX1_stands_12 : decode cX1_stands 12 = .ok (.if_icmp .ne 14, 3) := dk_160 0 14 (dk_at dksX1_stands_0 12 rfl rfl)
theorem dX1_stands_15 : decode cX1_stands 15 = .ok (.aload_n 0, 1) := dk_42 (dk_at dksX1_stands_0 15 rfl rfl)
theorem dX1_stands_16 : decode cX1_stands 16 = .ok (.getfield 24, 3) := dk_180 0 24 (dk_at dksX1_stands_0 16 rfl rfl)
theorem dX1_stands_19 : decode cX1_stands 19 = .ok (.iload_n 1, 1) := dk_27 (dk_at dksX1_stands_0 19 rfl rfl)
theorem dX1_stands_20 : decode cX1_stands 20 = .ok (.bipush 9, 2) := dk_16 9 (dk_at dksX1_stands_0 20 rfl rfl)
theorem dX1_stands_22 : decode cX1_stands 22 = .ok (.iastore, 1) := dk_79 (dk_at dksX1_stands_0 22 rfl rfl)
theorem dX1_stands_23 : decode cX1_stands 23 = .ok (.goto 33, 3) := dk_167 0 33 (dk_at dksX1_stands_1 0 rfl rfl)
theorem dX1_stands_26 : decode cX1_stands 26 = .ok (.iload_n 3, 1) := dk_29 (dk_at dksX1_stands_1 3 rfl rfl)
theorem dX1_stands_27 : decode cX1_stands 27 = .ok (.ifCond .eq 29, 3) := dk_153 0 29 (dk_at dksX1_stands_1 4 rfl rfl)
theorem dX1_stands_30 : decode cX1_stands 30 = .ok (.aload_n 0, 1) := dk_42 (dk_at dksX1_stands_1 7 rfl rfl)
theorem dX1_stands_31 : decode cX1_stands 31 = .ok (.iload_n 1, 1) := dk_27 (dk_at dksX1_stands_1 8 rfl rfl)
theorem dX1_stands_32 : decode cX1_stands 32 = .ok (.invokevirtual 91, 3) := dk_182 0 91 (dk_at dksX1_stands_1 9 rfl rfl)
theorem dX1_stands_35 : decode cX1_stands 35 = .ok (.ifCond .eq 21, 3) := dk_153 0 21 (dk_at dksX1_stands_1 12 rfl rfl)
theorem dX1_stands_38 : decode cX1_stands 38 = .ok (.aload_n 0, 1) := dk_42 (dk_at dksX1_stands_1 15 rfl rfl)
theorem dX1_stands_39 : decode cX1_stands 39 = .ok (.getfield 24, 3) := dk_180 0 24 (dk_at dksX1_stands_1 16 rfl rfl)
theorem dX1_stands_42 : decode cX1_stands 42 = .ok (.iload_n 1, 1) := dk_27 (dk_at dksX1_stands_1 19 rfl rfl)
theorem dX1_stands_43 : decode cX1_stands 43 = .ok (.iconst 0, 1) := dk_3 (dk_at dksX1_stands_1 20 rfl rfl)
theorem dX1_stands_44 : decode cX1_stands 44 = .ok (.aload_n 0, 1) := dk_42 (dk_at dksX1_stands_1 21 rfl rfl)
theorem dX1_stands_45 : decode cX1_stands 45 = .ok (.getfield 24, 3) := dk_180 0 24 (dk_at dksX1_stands_2 0 rfl rfl)
theorem dX1_stands_48 : decode cX1_stands 48 = .ok (.iload_n 1, 1) := dk_27 (dk_at dksX1_stands_2 3 rfl rfl)
theorem dX1_stands_49 : decode cX1_stands 49 = .ok (.iaload, 1) := dk_46 (dk_at dksX1_stands_2 4 rfl rfl)
theorem dX1_stands_50 : decode cX1_stands 50 = .ok (.iconst 1, 1) := dk_4 (dk_at dksX1_stands_2 5 rfl rfl)
theorem dX1_stands_51 : decode cX1_stands 51 = .ok (.isub, 1) := dk_100 (dk_at dksX1_stands_2 6 rfl rfl)
theorem dX1_stands_52 : decode cX1_stands 52 = .ok (.invokestatic 118, 3) := dk_184 0 118 (dk_at dksX1_stands_2 7 rfl rfl)
theorem dX1_stands_55 : decode cX1_stands 55 = .ok (.iastore, 1) := dk_79 (dk_at dksX1_stands_2 10 rfl rfl)
theorem dX1_stands_56 : decode cX1_stands 56 = .ok (.return_, 1) := dk_177 (dk_at dksX1_stands_2 11 rfl rfl)
def dkwX1_day_4 : List UInt8 := [154, 0, 8, 42, 27, 182, 0, 130, 132, 1, 1, 167, 255, 232, 177]
abbrev dktX1_day_4 : List UInt8 := dkwX1_day_4 ++ []
def dkwX1_day_3 : List UInt8 := [182, 0, 123, 132, 1, 1, 167, 255, 181, 3, 60, 27, 42, 180, 0, 57, 162, 0, 22, 42, 27, 182, 0, 91]
abbrev dktX1_day_3 : List UInt8 := dkwX1_day_3 ++ dktX1_day_4
def dkwX1_day_2 : List UInt8 := [160, 0, 12, 42, 180, 0, 21, 27, 46, 167, 0, 4, 29, 29, 2, 159, 0, 7, 4, 167, 0, 4, 3]
abbrev dktX1_day_2 : List UInt8 := dkwX1_day_2 ++ dktX1_day_3
def dkwX1_day_1 : List UInt8 := [28, 154, 0, 7, 2, 167, 0, 14, 42, 42, 180, 0, 21, 27, 46, 28, 182, 0, 110, 62, 42, 27, 29, 2]
abbrev dktX1_day_1 : List UInt8 := dkwX1_day_1 ++ dktX1_day_2
def dkwX1_day_0 : List UInt8 := [3, 60, 27, 42, 180, 0, 57, 162, 0, 73, 42, 27, 182, 0, 91, 153, 0, 59, 42, 8, 182, 0, 127, 61]
abbrev dktX1_day_0 : List UInt8 := dkwX1_day_0 ++ dktX1_day_1
theorem dksX1_day_0 : cX1_day.data.toList.drop 0 = dktX1_day_0 := by decide +kernel
theorem dksX1_day_1 : cX1_day.data.toList.drop 24 = dktX1_day_1 := dk_seg dksX1_day_0 24 rfl rfl
theorem dksX1_day_2 : cX1_day.data.toList.drop 48 = dktX1_day_2 := dk_seg dksX1_day_1 24 rfl rfl
theorem dksX1_day_3 : cX1_day.data.toList.drop 71 = dktX1_day_3 := dk_seg dksX1_day_2 23 rfl rfl
theorem dksX1_day_4 : cX1_day.data.toList.drop 95 = dktX1_day_4 := dk_seg dksX1_day_3 24 rfl rfl
theorem dX1_day_0 : decode cX1_day 0 = .ok (.iconst 0, 1) := dk_3 (dk_at dksX1_day_0 0 rfl rfl)
theorem dX1_day_1 : decode cX1_day 1 = .ok (.istore_n 1, 1) := dk_60 (dk_at dksX1_day_0 1 rfl rfl)
theorem dX1_day_2 : decode cX1_day 2 = .ok (.iload_n 1, 1) := dk_27 (dk_at dksX1_day_0 2 rfl rfl)
theorem dX1_day_3 : decode cX1_day 3 = .ok (.aload_n 0, 1) := dk_42 (dk_at dksX1_day_0 3 rfl rfl)
theorem dX1_day_4 : decode cX1_day 4 = .ok (.getfield 57, 3) := dk_180 0 57 (dk_at dksX1_day_0 4 rfl rfl)
theorem dX1_day_7 : decode cX1_day 7 = .ok (.if_icmp .ge 73, 3) := dk_162 0 73 (dk_at dksX1_day_0 7 rfl rfl)
theorem dX1_day_10 : decode cX1_day 10 = .ok (.aload_n 0, 1) := dk_42 (dk_at dksX1_day_0 10 rfl rfl)
theorem dX1_day_11 : decode cX1_day 11 = .ok (.iload_n 1, 1) := dk_27 (dk_at dksX1_day_0 11 rfl rfl)
theorem dX1_day_12 : decode cX1_day 12 = .ok (.invokevirtual 91, 3) := dk_182 0 91 (dk_at dksX1_day_0 12 rfl rfl)
theorem dX1_day_15 : decode cX1_day 15 = .ok (.ifCond .eq 59, 3) := dk_153 0 59 (dk_at dksX1_day_0 15 rfl rfl)
theorem dX1_day_18 : decode cX1_day 18 = .ok (.aload_n 0, 1) := dk_42 (dk_at dksX1_day_0 18 rfl rfl)
theorem dX1_day_19 : decode cX1_day 19 = .ok (.iconst 5, 1) := dk_8 (dk_at dksX1_day_0 19 rfl rfl)
theorem dX1_day_20 : decode cX1_day 20 = .ok (.invokevirtual 127, 3) := dk_182 0 127 (dk_at dksX1_day_0 20 rfl rfl)
theorem dX1_day_23 : decode cX1_day 23 = .ok (.istore_n 2, 1) := dk_61 (dk_at dksX1_day_0 23 rfl rfl)
theorem dX1_day_24 : decode cX1_day 24 = .ok (.iload_n 2, 1) := dk_28 (dk_at dksX1_day_1 0 rfl rfl)
theorem dX1_day_25 : decode cX1_day 25 = .ok (.ifCond .ne 7, 3) := dk_154 0 7 (dk_at dksX1_day_1 1 rfl rfl)
theorem dX1_day_28 : decode cX1_day 28 = .ok (.iconst (-1), 1) := dk_2 (dk_at dksX1_day_1 4 rfl rfl)
theorem dX1_day_29 : decode cX1_day 29 = .ok (.goto 14, 3) := dk_167 0 14 (dk_at dksX1_day_1 5 rfl rfl)
theorem dX1_day_32 : decode cX1_day 32 = .ok (.aload_n 0, 1) := dk_42 (dk_at dksX1_day_1 8 rfl rfl)
theorem dX1_day_33 : decode cX1_day 33 = .ok (.aload_n 0, 1) := dk_42 (dk_at dksX1_day_1 9 rfl rfl)
theorem dX1_day_34 : decode cX1_day 34 = .ok (.getfield 21, 3) := dk_180 0 21 (dk_at dksX1_day_1 10 rfl rfl)
theorem dX1_day_37 : decode cX1_day 37 = .ok (.iload_n 1, 1) := dk_27 (dk_at dksX1_day_1 13 rfl rfl)
theorem dX1_day_38 : decode cX1_day 38 = .ok (.iaload, 1) := dk_46 (dk_at dksX1_day_1 14 rfl rfl)
theorem dX1_day_39 : decode cX1_day 39 = .ok (.iload_n 2, 1) := dk_28 (dk_at dksX1_day_1 15 rfl rfl)
theorem dX1_day_40 : decode cX1_day 40 = .ok (.invokevirtual 110, 3) := dk_182 0 110 (dk_at dksX1_day_1 16 rfl rfl)
theorem dX1_day_43 : decode cX1_day 43 = .ok (.istore_n 3, 1) := dk_62 (dk_at dksX1_day_1 19 rfl rfl)
theorem dX1_day_44 : decode cX1_day 44 = .ok (.aload_n 0, 1) := dk_42 (dk_at dksX1_day_1 20 rfl rfl)
theorem dX1_day_45 : decode cX1_day 45 = .ok (.iload_n 1, 1) := dk_27 (dk_at dksX1_day_1 21 rfl rfl)
theorem dX1_day_46 : decode cX1_day 46 = .ok (.iload_n 3, 1) := dk_29 (dk_at dksX1_day_1 22 rfl rfl)
theorem dX1_day_47 : decode cX1_day 47 = .ok (.iconst (-1), 1) := dk_2 (dk_at dksX1_day_1 23 rfl rfl)
theorem dX1_day_48 : decode cX1_day 48 = .ok (.if_icmp .ne 12, 3) := dk_160 0 12 (dk_at dksX1_day_2 0 rfl rfl)
theorem dX1_day_51 : decode cX1_day 51 = .ok (.aload_n 0, 1) := dk_42 (dk_at dksX1_day_2 3 rfl rfl)
theorem dX1_day_52 : decode cX1_day 52 = .ok (.getfield 21, 3) := dk_180 0 21 (dk_at dksX1_day_2 4 rfl rfl)
theorem dX1_day_55 : decode cX1_day 55 = .ok (.iload_n 1, 1) := dk_27 (dk_at dksX1_day_2 7 rfl rfl)
theorem dX1_day_56 : decode cX1_day 56 = .ok (.iaload, 1) := dk_46 (dk_at dksX1_day_2 8 rfl rfl)
theorem dX1_day_57 : decode cX1_day 57 = .ok (.goto 4, 3) := dk_167 0 4 (dk_at dksX1_day_2 9 rfl rfl)
theorem dX1_day_60 : decode cX1_day 60 = .ok (.iload_n 3, 1) := dk_29 (dk_at dksX1_day_2 12 rfl rfl)
theorem dX1_day_61 : decode cX1_day 61 = .ok (.iload_n 3, 1) := dk_29 (dk_at dksX1_day_2 13 rfl rfl)
theorem dX1_day_62 : decode cX1_day 62 = .ok (.iconst (-1), 1) := dk_2 (dk_at dksX1_day_2 14 rfl rfl)
theorem dX1_day_63 : decode cX1_day 63 = .ok (.if_icmp .eq 7, 3) := dk_159 0 7 (dk_at dksX1_day_2 15 rfl rfl)
theorem dX1_day_66 : decode cX1_day 66 = .ok (.iconst 1, 1) := dk_4 (dk_at dksX1_day_2 18 rfl rfl)
theorem dX1_day_67 : decode cX1_day 67 = .ok (.goto 4, 3) := dk_167 0 4 (dk_at dksX1_day_2 19 rfl rfl)
theorem dX1_day_70 : decode cX1_day 70 = .ok (.iconst 0, 1) := dk_3 (dk_at dksX1_day_2 22 rfl rfl)
theorem dX1_day_71 : decode cX1_day 71 = .ok (.invokevirtual 123, 3) := dk_182 0 123 (dk_at dksX1_day_3 0 rfl rfl)
theorem dX1_day_74 : decode cX1_day 74 = .ok (.iinc 1 1, 3) := dk_132 1 1 (dk_at dksX1_day_3 3 rfl rfl)
theorem dX1_day_77 : decode cX1_day 77 = .ok (.goto (-75), 3) := dk_167 255 181 (dk_at dksX1_day_3 6 rfl rfl)
theorem dX1_day_80 : decode cX1_day 80 = .ok (.iconst 0, 1) := dk_3 (dk_at dksX1_day_3 9 rfl rfl)
theorem dX1_day_81 : decode cX1_day 81 = .ok (.istore_n 1, 1) := dk_60 (dk_at dksX1_day_3 10 rfl rfl)
theorem dX1_day_82 : decode cX1_day 82 = .ok (.iload_n 1, 1) := dk_27 (dk_at dksX1_day_3 11 rfl rfl)
theorem dX1_day_83 : decode cX1_day 83 = .ok (.aload_n 0, 1) := dk_42 (dk_at dksX1_day_3 12 rfl rfl)
theorem dX1_day_84 : decode cX1_day 84 = .ok (.getfield 57, 3) := dk_180 0 57 (dk_at dksX1_day_3 13 rfl rfl)
theorem dX1_day_87 : decode cX1_day 87 = .ok (.if_icmp .ge 22, 3) := dk_162 0 22 (dk_at dksX1_day_3 16 rfl rfl)
theorem dX1_day_90 : decode cX1_day 90 = .ok (.aload_n 0, 1) := dk_42 (dk_at dksX1_day_3 19 rfl rfl)
theorem dX1_day_91 : decode cX1_day 91 = .ok (.iload_n 1, 1) := dk_27 (dk_at dksX1_day_3 20 rfl rfl)
theorem dX1_day_92 : decode cX1_day 92 = .ok (.invokevirtual 91, 3) := dk_182 0 91 (dk_at dksX1_day_3 21 rfl rfl)
theorem dX1_day_95 : decode cX1_day 95 = .ok (.ifCond .ne 8, 3) := dk_154 0 8 (dk_at dksX1_day_4 0 rfl rfl)
theorem dX1_day_98 : decode cX1_day 98 = .ok (.aload_n 0, 1) := dk_42 (dk_at dksX1_day_4 3 rfl rfl)
theorem dX1_day_99 : decode cX1_day 99 = .ok (.iload_n 1, 1) := dk_27 (dk_at dksX1_day_4 4 rfl rfl)
theorem dX1_day_100 : decode cX1_day 100 = .ok (.invokevirtual 130, 3) := dk_182 0 130 (dk_at dksX1_day_4 5 rfl rfl)
theorem dX1_day_103 : decode cX1_day 103 = .ok (.iinc 1 1, 3) := dk_132 1 1 (dk_at dksX1_day_4 8 rfl rfl)
theorem dX1_day_106 : decode cX1_day 106 = .ok (.goto (-24), 3) := dk_167 255 232 (dk_at dksX1_day_4 11 rfl rfl)
theorem dX1_day_109 : decode cX1_day 109 = .ok (.return_, 1) := dk_177 (dk_at dksX1_day_4 14 rfl rfl)
def dkwX1_draw_1 : List UInt8 := [172]
abbrev dktX1_draw_1 : List UInt8 := dkwX1_draw_1 ++ []
def dkwX1_draw_0 : List UInt8 := [42, 42, 180, 0, 41, 18, 134, 104, 17, 48, 57, 96, 181, 0, 41, 42, 180, 0, 41, 16, 16, 124, 27, 112]
abbrev dktX1_draw_0 : List UInt8 := dkwX1_draw_0 ++ dktX1_draw_1
theorem dksX1_draw_0 : cX1_draw.data.toList.drop 0 = dktX1_draw_0 := by decide +kernel
theorem dksX1_draw_1 : cX1_draw.data.toList.drop 24 = dktX1_draw_1 := dk_seg dksX1_draw_0 24 rfl rfl
theorem dX1_draw_0 : decode cX1_draw 0 = .ok (.aload_n 0, 1) := dk_42 (dk_at dksX1_draw_0 0 rfl rfl)
theorem dX1_draw_1 : decode cX1_draw 1 = .ok (.aload_n 0, 1) := dk_42 (dk_at dksX1_draw_0 1 rfl rfl)
theorem dX1_draw_2 : decode cX1_draw 2 = .ok (.getfield 41, 3) := dk_180 0 41 (dk_at dksX1_draw_0 2 rfl rfl)
theorem dX1_draw_5 : decode cX1_draw 5 = .ok (.ldc 134, 2) := dk_18 134 (dk_at dksX1_draw_0 5 rfl rfl)
theorem dX1_draw_7 : decode cX1_draw 7 = .ok (.imul, 1) := dk_104 (dk_at dksX1_draw_0 7 rfl rfl)
theorem dX1_draw_8 : decode cX1_draw 8 = .ok (.sipush 12345, 3) := dk_17 48 57 (dk_at dksX1_draw_0 8 rfl rfl)
theorem dX1_draw_11 : decode cX1_draw 11 = .ok (.iadd, 1) := dk_96 (dk_at dksX1_draw_0 11 rfl rfl)
theorem dX1_draw_12 : decode cX1_draw 12 = .ok (.putfield 41, 3) := dk_181 0 41 (dk_at dksX1_draw_0 12 rfl rfl)
theorem dX1_draw_15 : decode cX1_draw 15 = .ok (.aload_n 0, 1) := dk_42 (dk_at dksX1_draw_0 15 rfl rfl)
theorem dX1_draw_16 : decode cX1_draw 16 = .ok (.getfield 41, 3) := dk_180 0 41 (dk_at dksX1_draw_0 16 rfl rfl)
theorem dX1_draw_19 : decode cX1_draw 19 = .ok (.bipush 16, 2) := dk_16 16 (dk_at dksX1_draw_0 19 rfl rfl)
theorem dX1_draw_21 : decode cX1_draw 21 = .ok (.iushr, 1) := dk_124 (dk_at dksX1_draw_0 21 rfl rfl)
theorem dX1_draw_22 : decode cX1_draw 22 = .ok (.iload_n 1, 1) := dk_27 (dk_at dksX1_draw_0 22 rfl rfl)
theorem dX1_draw_23 : decode cX1_draw 23 = .ok (.irem, 1) := dk_112 (dk_at dksX1_draw_0 23 rfl rfl)
theorem dX1_draw_24 : decode cX1_draw 24 = .ok (.ireturn, 1) := dk_172 (dk_at dksX1_draw_1 0 rfl rfl)
def dkwX1_homeward_4 : List UInt8 := [132, 2, 1, 167, 255, 193, 177]
abbrev dktX1_homeward_4 : List UInt8 := dkwX1_homeward_4 ++ []
def dkwX1_homeward_3 : List UInt8 := [46, 42, 180, 0, 34, 42, 180, 0, 21, 27, 46, 46, 162, 0, 11, 42, 27, 29, 4, 182, 0, 123, 177]
abbrev dktX1_homeward_3 : List UInt8 := dkwX1_homeward_3 ++ dktX1_homeward_4
def dkwX1_homeward_2 : List UInt8 := [182, 0, 110, 62, 29, 2, 159, 0, 41, 42, 180, 0, 34, 29, 46, 2, 159, 0, 31, 42, 180, 0, 34, 29]
abbrev dktX1_homeward_2 : List UInt8 := dkwX1_homeward_2 ++ dktX1_homeward_3
def dkwX1_homeward_1 : List UInt8 := [42, 42, 180, 0, 51, 182, 0, 114, 87, 4, 61, 28, 8, 162, 0, 64, 42, 42, 180, 0, 21, 27, 46, 28]
abbrev dktX1_homeward_1 : List UInt8 := dkwX1_homeward_1 ++ dktX1_homeward_2
def dkwX1_homeward_0 : List UInt8 := [42, 180, 0, 21, 27, 46, 42, 180, 0, 51, 160, 0, 14, 42, 27, 42, 180, 0, 51, 3, 182, 0, 123, 177]
abbrev dktX1_homeward_0 : List UInt8 := dkwX1_homeward_0 ++ dktX1_homeward_1
theorem dksX1_homeward_0 : cX1_homeward.data.toList.drop 0 = dktX1_homeward_0 := by decide +kernel
theorem dksX1_homeward_1 : cX1_homeward.data.toList.drop 24 = dktX1_homeward_1 := dk_seg dksX1_homeward_0 24 rfl rfl
theorem dksX1_homeward_2 : cX1_homeward.data.toList.drop 48 = dktX1_homeward_2 := dk_seg dksX1_homeward_1 24 rfl rfl
theorem dksX1_homeward_3 : cX1_homeward.data.toList.drop 72 = dktX1_homeward_3 := dk_seg dksX1_homeward_2 24 rfl rfl
theorem dksX1_homeward_4 : cX1_homeward.data.toList.drop 95 = dktX1_homeward_4 := dk_seg dksX1_homeward_3 23 rfl rfl
theorem dX1_homeward_0 : decode cX1_homeward 0 = .ok (.aload_n 0, 1) := dk_42 (dk_at dksX1_homeward_0 0 rfl rfl)
theorem dX1_homeward_1 : decode cX1_homeward 1 = .ok (.getfield 21, 3) := dk_180 0 21 (dk_at dksX1_homeward_0 1 rfl rfl)
theorem dX1_homeward_4 : decode cX1_homeward 4 = .ok (.iload_n 1, 1) := dk_27 (dk_at dksX1_homeward_0 4 rfl rfl)
theorem dX1_homeward_5 : decode cX1_homeward 5 = .ok (.iaload, 1) := dk_46 (dk_at dksX1_homeward_0 5 rfl rfl)
theorem dX1_homeward_6 : decode cX1_homeward 6 = .ok (.aload_n 0, 1) := dk_42 (dk_at dksX1_homeward_0 6 rfl rfl)
theorem dX1_homeward_7 : decode cX1_homeward 7 = .ok (.getfield 51, 3) := dk_180 0 51 (dk_at dksX1_homeward_0 7 rfl rfl)
theorem dX1_homeward_10 : decode cX1_homeward 10 = .ok (.if_icmp .ne 14, 3) := dk_160 0 14 (dk_at dksX1_homeward_0 10 rfl rfl)
theorem dX1_homeward_13 : decode cX1_homeward 13 = .ok (.aload_n 0, 1) := dk_42 (dk_at dksX1_homeward_0 13 rfl rfl)
theorem dX1_homeward_14 : decode cX1_homeward 14 = .ok (.iload_n 1, 1) := dk_27 (dk_at dksX1_homeward_0 14 rfl rfl)
theorem dX1_homeward_15 : decode cX1_homeward 15 = .ok (.aload_n 0, 1) := dk_42 (dk_at dksX1_homeward_0 15 rfl rfl)
theorem dX1_homeward_16 : decode cX1_homeward 16 = .ok (.getfield 51, 3) := dk_180 0 51 (dk_at dksX1_homeward_0 16 rfl rfl)
theorem dX1_homeward_19 : decode cX1_homeward 19 = .ok (.iconst 0, 1) := dk_3 (dk_at dksX1_homeward_0 19 rfl rfl)
theorem dX1_homeward_20 : decode cX1_homeward 20 = .ok (.invokevirtual 123, 3) := dk_182 0 123 (dk_at dksX1_homeward_0 20 rfl rfl)
theorem dX1_homeward_23 : decode cX1_homeward 23 = .ok (.return_, 1) := dk_177 (dk_at dksX1_homeward_0 23 rfl rfl)
theorem dX1_homeward_24 : decode cX1_homeward 24 = .ok (.aload_n 0, 1) := dk_42 (dk_at dksX1_homeward_1 0 rfl rfl)
theorem dX1_homeward_25 : decode cX1_homeward 25 = .ok (.aload_n 0, 1) := dk_42 (dk_at dksX1_homeward_1 1 rfl rfl)
theorem dX1_homeward_26 : decode cX1_homeward 26 = .ok (.getfield 51, 3) := dk_180 0 51 (dk_at dksX1_homeward_1 2 rfl rfl)
theorem dX1_homeward_29 : decode cX1_homeward 29 = .ok (.invokevirtual 114, 3) := dk_182 0 114 (dk_at dksX1_homeward_1 5 rfl rfl)
theorem dX1_homeward_32 : decode cX1_homeward 32 = .ok (.pop, 1) := dk_87 (dk_at dksX1_homeward_1 8 rfl rfl)
theorem dX1_homeward_33 : decode cX1_homeward 33 = .ok (.iconst 1, 1) := dk_4 (dk_at dksX1_homeward_1 9 rfl rfl)
theorem dX1_homeward_34 : decode cX1_homeward 34 = .ok (.istore_n 2, 1) := dk_61 (dk_at dksX1_homeward_1 10 rfl rfl)
theorem dX1_homeward_35 : decode cX1_homeward 35 = .ok (.iload_n 2, 1) := dk_28 (dk_at dksX1_homeward_1 11 rfl rfl)
theorem dX1_homeward_36 : decode cX1_homeward 36 = .ok (.iconst 5, 1) := dk_8 (dk_at dksX1_homeward_1 12 rfl rfl)
theorem dX1_homeward_37 : decode cX1_homeward 37 = .ok (.if_icmp .ge 64, 3) := dk_162 0 64 (dk_at dksX1_homeward_1 13 rfl rfl)
theorem dX1_homeward_40 : decode cX1_homeward 40 = .ok (.aload_n 0, 1) := dk_42 (dk_at dksX1_homeward_1 16 rfl rfl)
theorem dX1_homeward_41 : decode cX1_homeward 41 = .ok (.aload_n 0, 1) := dk_42 (dk_at dksX1_homeward_1 17 rfl rfl)
theorem dX1_homeward_42 : decode cX1_homeward 42 = .ok (.getfield 21, 3) := dk_180 0 21 (dk_at dksX1_homeward_1 18 rfl rfl)
theorem dX1_homeward_45 : decode cX1_homeward 45 = .ok (.iload_n 1, 1) := dk_27 (dk_at dksX1_homeward_1 21 rfl rfl)
theorem dX1_homeward_46 : decode cX1_homeward 46 = .ok (.iaload, 1) := dk_46 (dk_at dksX1_homeward_1 22 rfl rfl)
theorem dX1_homeward_47 : decode cX1_homeward 47 = .ok (.iload_n 2, 1) := dk_28 (dk_at dksX1_homeward_1 23 rfl rfl)
theorem dX1_homeward_48 : decode cX1_homeward 48 = .ok (.invokevirtual 110, 3) := dk_182 0 110 (dk_at dksX1_homeward_2 0 rfl rfl)
theorem dX1_homeward_51 : decode cX1_homeward 51 = .ok (.istore_n 3, 1) := dk_62 (dk_at dksX1_homeward_2 3 rfl rfl)
theorem dX1_homeward_52 : decode cX1_homeward 52 = .ok (.iload_n 3, 1) := dk_29 (dk_at dksX1_homeward_2 4 rfl rfl)
theorem dX1_homeward_53 : decode cX1_homeward 53 = .ok (.iconst (-1), 1) := dk_2 (dk_at dksX1_homeward_2 5 rfl rfl)
theorem dX1_homeward_54 : decode cX1_homeward 54 = .ok (.if_icmp .eq 41, 3) := dk_159 0 41 (dk_at dksX1_homeward_2 6 rfl rfl)
theorem dX1_homeward_57 : decode cX1_homeward 57 = .ok (.aload_n 0, 1) := dk_42 (dk_at dksX1_homeward_2 9 rfl rfl)
theorem dX1_homeward_58 : decode cX1_homeward 58 = .ok (.getfield 34, 3) := dk_180 0 34 (dk_at dksX1_homeward_2 10 rfl rfl)
theorem dX1_homeward_61 : decode cX1_homeward 61 = .ok (.iload_n 3, 1) := dk_29 (dk_at dksX1_homeward_2 13 rfl rfl)
theorem dX1_homeward_62 : decode cX1_homeward 62 = .ok (.iaload, 1) := dk_46 (dk_at dksX1_homeward_2 14 rfl rfl)
theorem dX1_homeward_63 : decode cX1_homeward 63 = .ok (.iconst (-1), 1) := dk_2 (dk_at dksX1_homeward_2 15 rfl rfl)
theorem dX1_homeward_64 : decode cX1_homeward 64 = .ok (.if_icmp .eq 31, 3) := dk_159 0 31 (dk_at dksX1_homeward_2 16 rfl rfl)
theorem dX1_homeward_67 : decode cX1_homeward 67 = .ok (.aload_n 0, 1) := dk_42 (dk_at dksX1_homeward_2 19 rfl rfl)
theorem dX1_homeward_68 : decode cX1_homeward 68 = .ok (.getfield 34, 3) := dk_180 0 34 (dk_at dksX1_homeward_2 20 rfl rfl)
theorem dX1_homeward_71 : decode cX1_homeward 71 = .ok (.iload_n 3, 1) := dk_29 (dk_at dksX1_homeward_2 23 rfl rfl)
theorem dX1_homeward_72 : decode cX1_homeward 72 = .ok (.iaload, 1) := dk_46 (dk_at dksX1_homeward_3 0 rfl rfl)
theorem dX1_homeward_73 : decode cX1_homeward 73 = .ok (.aload_n 0, 1) := dk_42 (dk_at dksX1_homeward_3 1 rfl rfl)
theorem dX1_homeward_74 : decode cX1_homeward 74 = .ok (.getfield 34, 3) := dk_180 0 34 (dk_at dksX1_homeward_3 2 rfl rfl)
theorem dX1_homeward_77 : decode cX1_homeward 77 = .ok (.aload_n 0, 1) := dk_42 (dk_at dksX1_homeward_3 5 rfl rfl)
theorem dX1_homeward_78 : decode cX1_homeward 78 = .ok (.getfield 21, 3) := dk_180 0 21 (dk_at dksX1_homeward_3 6 rfl rfl)
theorem dX1_homeward_81 : decode cX1_homeward 81 = .ok (.iload_n 1, 1) := dk_27 (dk_at dksX1_homeward_3 9 rfl rfl)
theorem dX1_homeward_82 : decode cX1_homeward 82 = .ok (.iaload, 1) := dk_46 (dk_at dksX1_homeward_3 10 rfl rfl)
theorem dX1_homeward_83 : decode cX1_homeward 83 = .ok (.iaload, 1) := dk_46 (dk_at dksX1_homeward_3 11 rfl rfl)
theorem dX1_homeward_84 : decode cX1_homeward 84 = .ok (.if_icmp .ge 11, 3) := dk_162 0 11 (dk_at dksX1_homeward_3 12 rfl rfl)
theorem dX1_homeward_87 : decode cX1_homeward 87 = .ok (.aload_n 0, 1) := dk_42 (dk_at dksX1_homeward_3 15 rfl rfl)
theorem dX1_homeward_88 : decode cX1_homeward 88 = .ok (.iload_n 1, 1) := dk_27 (dk_at dksX1_homeward_3 16 rfl rfl)
theorem dX1_homeward_89 : decode cX1_homeward 89 = .ok (.iload_n 3, 1) := dk_29 (dk_at dksX1_homeward_3 17 rfl rfl)
theorem dX1_homeward_90 : decode cX1_homeward 90 = .ok (.iconst 1, 1) := dk_4 (dk_at dksX1_homeward_3 18 rfl rfl)
theorem dX1_homeward_91 : decode cX1_homeward 91 = .ok (.invokevirtual 123, 3) := dk_182 0 123 (dk_at dksX1_homeward_3 19 rfl rfl)
theorem dX1_homeward_94 : decode cX1_homeward 94 = .ok (.return_, 1) := dk_177 (dk_at dksX1_homeward_3 22 rfl rfl)
theorem dX1_homeward_95 : decode cX1_homeward 95 = .ok (.iinc 2 1, 3) := dk_132 2 1 (dk_at dksX1_homeward_4 0 rfl rfl)
theorem dX1_homeward_98 : decode cX1_homeward 98 = .ok (.goto (-63), 3) := dk_167 255 193 (dk_at dksX1_homeward_4 3 rfl rfl)
theorem dX1_homeward_101 : decode cX1_homeward 101 = .ok (.return_, 1) := dk_177 (dk_at dksX1_homeward_4 6 rfl rfl)
def dkwX1_manyBogs_1 : List UInt8 := [54, 5, 27, 21, 5, 184, 0, 78, 96, 60, 132, 4, 1, 167, 255, 233, 27, 172]
abbrev dktX1_manyBogs_1 : List UInt8 := dkwX1_manyBogs_1 ++ []
def dkwX1_manyBogs_0 : List UInt8 := [3, 60, 42, 180, 0, 9, 77, 44, 190, 62, 3, 54, 4, 21, 4, 29, 162, 0, 23, 44, 21, 4, 46]
abbrev dktX1_manyBogs_0 : List UInt8 := dkwX1_manyBogs_0 ++ dktX1_manyBogs_1
theorem dksX1_manyBogs_0 : cX1_manyBogs.data.toList.drop 0 = dktX1_manyBogs_0 := by decide +kernel
theorem dksX1_manyBogs_1 : cX1_manyBogs.data.toList.drop 23 = dktX1_manyBogs_1 := dk_seg dksX1_manyBogs_0 23 rfl rfl
theorem dX1_manyBogs_0 : decode cX1_manyBogs 0 = .ok (.iconst 0, 1) := dk_3 (dk_at dksX1_manyBogs_0 0 rfl rfl)
theorem dX1_manyBogs_1 : decode cX1_manyBogs 1 = .ok (.istore_n 1, 1) := dk_60 (dk_at dksX1_manyBogs_0 1 rfl rfl)
theorem dX1_manyBogs_2 : decode cX1_manyBogs 2 = .ok (.aload_n 0, 1) := dk_42 (dk_at dksX1_manyBogs_0 2 rfl rfl)
theorem dX1_manyBogs_3 : decode cX1_manyBogs 3 = .ok (.getfield 9, 3) := dk_180 0 9 (dk_at dksX1_manyBogs_0 3 rfl rfl)
theorem dX1_manyBogs_6 : decode cX1_manyBogs 6 = .ok (.astore_n 2, 1) := dk_77 (dk_at dksX1_manyBogs_0 6 rfl rfl)
theorem dX1_manyBogs_7 : decode cX1_manyBogs 7 = .ok (.aload_n 2, 1) := dk_44 (dk_at dksX1_manyBogs_0 7 rfl rfl)
theorem dX1_manyBogs_8 : decode cX1_manyBogs 8 = .ok (.arraylength, 1) := dk_190 (dk_at dksX1_manyBogs_0 8 rfl rfl)
theorem dX1_manyBogs_9 : decode cX1_manyBogs 9 = .ok (.istore_n 3, 1) := dk_62 (dk_at dksX1_manyBogs_0 9 rfl rfl)
theorem dX1_manyBogs_10 : decode cX1_manyBogs 10 = .ok (.iconst 0, 1) := dk_3 (dk_at dksX1_manyBogs_0 10 rfl rfl)
theorem dX1_manyBogs_11 : decode cX1_manyBogs 11 = .ok (.istore 4, 2) := dk_54 4 (dk_at dksX1_manyBogs_0 11 rfl rfl)
theorem dX1_manyBogs_13 : decode cX1_manyBogs 13 = .ok (.iload 4, 2) := dk_21 4 (dk_at dksX1_manyBogs_0 13 rfl rfl)
theorem dX1_manyBogs_15 : decode cX1_manyBogs 15 = .ok (.iload_n 3, 1) := dk_29 (dk_at dksX1_manyBogs_0 15 rfl rfl)
theorem dX1_manyBogs_16 : decode cX1_manyBogs 16 = .ok (.if_icmp .ge 23, 3) := dk_162 0 23 (dk_at dksX1_manyBogs_0 16 rfl rfl)
theorem dX1_manyBogs_19 : decode cX1_manyBogs 19 = .ok (.aload_n 2, 1) := dk_44 (dk_at dksX1_manyBogs_0 19 rfl rfl)
theorem dX1_manyBogs_20 : decode cX1_manyBogs 20 = .ok (.iload 4, 2) := dk_21 4 (dk_at dksX1_manyBogs_0 20 rfl rfl)
theorem dX1_manyBogs_22 : decode cX1_manyBogs 22 = .ok (.iaload, 1) := dk_46 (dk_at dksX1_manyBogs_0 22 rfl rfl)
theorem dX1_manyBogs_23 : decode cX1_manyBogs 23 = .ok (.istore 5, 2) := dk_54 5 (dk_at dksX1_manyBogs_1 0 rfl rfl)
theorem dX1_manyBogs_25 : decode cX1_manyBogs 25 = .ok (.iload_n 1, 1) := dk_27 (dk_at dksX1_manyBogs_1 2 rfl rfl)
theorem dX1_manyBogs_26 : decode cX1_manyBogs 26 = .ok (.iload 5, 2) := dk_21 5 (dk_at dksX1_manyBogs_1 3 rfl rfl)
theorem dX1_manyBogs_28 : decode cX1_manyBogs 28 = .ok (.invokestatic 78, 3) := dk_184 0 78 (dk_at dksX1_manyBogs_1 5 rfl rfl)
theorem dX1_manyBogs_31 : decode cX1_manyBogs 31 = .ok (.iadd, 1) := dk_96 (dk_at dksX1_manyBogs_1 8 rfl rfl)
theorem dX1_manyBogs_32 : decode cX1_manyBogs 32 = .ok (.istore_n 1, 1) := dk_60 (dk_at dksX1_manyBogs_1 9 rfl rfl)
theorem dX1_manyBogs_33 : decode cX1_manyBogs 33 = .ok (.iinc 4 1, 3) := dk_132 4 1 (dk_at dksX1_manyBogs_1 10 rfl rfl)
theorem dX1_manyBogs_36 : decode cX1_manyBogs 36 = .ok (.goto (-23), 3) := dk_167 255 233 (dk_at dksX1_manyBogs_1 13 rfl rfl)
theorem dX1_manyBogs_39 : decode cX1_manyBogs 39 = .ok (.iload_n 1, 1) := dk_27 (dk_at dksX1_manyBogs_1 16 rfl rfl)
theorem dX1_manyBogs_40 : decode cX1_manyBogs 40 = .ok (.ireturn, 1) := dk_172 (dk_at dksX1_manyBogs_1 17 rfl rfl)
def dkwX2_init_0 : List UInt8 := [42, 183, 0, 3, 42, 7, 188, 10, 181, 0, 9, 177]
abbrev dktX2_init_0 : List UInt8 := dkwX2_init_0 ++ []
theorem dksX2_init_0 : cX2_init.data.toList.drop 0 = dktX2_init_0 := by decide +kernel
theorem dX2_init_0 : decode cX2_init 0 = .ok (.aload_n 0, 1) := dk_42 (dk_at dksX2_init_0 0 rfl rfl)
theorem dX2_init_1 : decode cX2_init 1 = .ok (.invokespecial 3, 3) := dk_183 0 3 (dk_at dksX2_init_0 1 rfl rfl)
theorem dX2_init_4 : decode cX2_init 4 = .ok (.aload_n 0, 1) := dk_42 (dk_at dksX2_init_0 4 rfl rfl)
theorem dX2_init_5 : decode cX2_init 5 = .ok (.iconst 4, 1) := dk_7 (dk_at dksX2_init_0 5 rfl rfl)
theorem dX2_init_6 : decode cX2_init 6 = .ok (.newarray .int, 2) := dk_188_10 (dk_at dksX2_init_0 6 rfl rfl)
theorem dX2_init_8 : decode cX2_init 8 = .ok (.putfield 9, 3) := dk_181 0 9 (dk_at dksX2_init_0 8 rfl rfl)
theorem dX2_init_11 : decode cX2_init 11 = .ok (.return_, 1) := dk_177 (dk_at dksX2_init_0 11 rfl rfl)
def dkwX2_nearest_2 : List UInt8 := [132, 3, 1, 167, 255, 211, 28, 172]
abbrev dktX2_nearest_2 : List UInt8 := dkwX2_nearest_2 ++ []
def dkwX2_nearest_1 : List UInt8 := [184, 0, 19, 42, 180, 0, 9, 28, 46, 27, 184, 0, 19, 162, 0, 7, 29, 167, 0, 4, 28, 61]
abbrev dktX2_nearest_1 : List UInt8 := dkwX2_nearest_1 ++ dktX2_nearest_2
def dkwX2_nearest_0 : List UInt8 := [2, 61, 3, 62, 29, 42, 180, 0, 15, 162, 0, 43, 28, 2, 159, 0, 26, 42, 180, 0, 9, 29, 46, 27]
abbrev dktX2_nearest_0 : List UInt8 := dkwX2_nearest_0 ++ dktX2_nearest_1
theorem dksX2_nearest_0 : cX2_nearest.data.toList.drop 0 = dktX2_nearest_0 := by decide +kernel
theorem dksX2_nearest_1 : cX2_nearest.data.toList.drop 24 = dktX2_nearest_1 := dk_seg dksX2_nearest_0 24 rfl rfl
theorem dksX2_nearest_2 : cX2_nearest.data.toList.drop 46 = dktX2_nearest_2 := dk_seg dksX2_nearest_1 22 rfl rfl
theorem dX2_nearest_0 : decode cX2_nearest 0 = .ok (.iconst (-1), 1) := dk_2 (dk_at dksX2_nearest_0 0 rfl rfl)
theorem dX2_nearest_1 : decode cX2_nearest 1 = .ok (.istore_n 2, 1) := dk_61 (dk_at dksX2_nearest_0 1 rfl rfl)
theorem dX2_nearest_2 : decode cX2_nearest 2 = .ok (.iconst 0, 1) := dk_3 (dk_at dksX2_nearest_0 2 rfl rfl)
theorem dX2_nearest_3 : decode cX2_nearest 3 = .ok (.istore_n 3, 1) := dk_62 (dk_at dksX2_nearest_0 3 rfl rfl)
theorem dX2_nearest_4 : decode cX2_nearest 4 = .ok (.iload_n 3, 1) := dk_29 (dk_at dksX2_nearest_0 4 rfl rfl)
theorem dX2_nearest_5 : decode cX2_nearest 5 = .ok (.aload_n 0, 1) := dk_42 (dk_at dksX2_nearest_0 5 rfl rfl)
theorem dX2_nearest_6 : decode cX2_nearest 6 = .ok (.getfield 15, 3) := dk_180 0 15 (dk_at dksX2_nearest_0 6 rfl rfl)
theorem dX2_nearest_9 : decode cX2_nearest 9 = .ok (.if_icmp .ge 43, 3) := dk_162 0 43 (dk_at dksX2_nearest_0 9 rfl rfl)
theorem dX2_nearest_12 : decode cX2_nearest 12 = .ok (.iload_n 2, 1) := dk_28 (dk_at dksX2_nearest_0 12 rfl rfl)
theorem dX2_nearest_13 : decode cX2_nearest 13 = .ok (.iconst (-1), 1) := dk_2 (dk_at dksX2_nearest_0 13 rfl rfl)
theorem dX2_nearest_14 : decode cX2_nearest 14 = .ok (.if_icmp .eq 26, 3) := dk_159 0 26 (dk_at dksX2_nearest_0 14 rfl rfl)
theorem dX2_nearest_17 : decode cX2_nearest 17 = .ok (.aload_n 0, 1) := dk_42 (dk_at dksX2_nearest_0 17 rfl rfl)
theorem dX2_nearest_18 : decode cX2_nearest 18 = .ok (.getfield 9, 3) := dk_180 0 9 (dk_at dksX2_nearest_0 18 rfl rfl)
theorem dX2_nearest_21 : decode cX2_nearest 21 = .ok (.iload_n 3, 1) := dk_29 (dk_at dksX2_nearest_0 21 rfl rfl)
theorem dX2_nearest_22 : decode cX2_nearest 22 = .ok (.iaload, 1) := dk_46 (dk_at dksX2_nearest_0 22 rfl rfl)
theorem dX2_nearest_23 : decode cX2_nearest 23 = .ok (.iload_n 1, 1) := dk_27 (dk_at dksX2_nearest_0 23 rfl rfl)
theorem dX2_nearest_24 : decode cX2_nearest 24 = .ok (.invokestatic 19, 3) := dk_184 0 19 (dk_at dksX2_nearest_1 0 rfl rfl)
theorem dX2_nearest_27 : decode cX2_nearest 27 = .ok (.aload_n 0, 1) := dk_42 (dk_at dksX2_nearest_1 3 rfl rfl)
theorem dX2_nearest_28 : decode cX2_nearest 28 = .ok (.getfield 9, 3) := dk_180 0 9 (dk_at dksX2_nearest_1 4 rfl rfl)
theorem dX2_nearest_31 : decode cX2_nearest 31 = .ok (.iload_n 2, 1) := dk_28 (dk_at dksX2_nearest_1 7 rfl rfl)
theorem dX2_nearest_32 : decode cX2_nearest 32 = .ok (.iaload, 1) := dk_46 (dk_at dksX2_nearest_1 8 rfl rfl)
theorem dX2_nearest_33 : decode cX2_nearest 33 = .ok (.iload_n 1, 1) := dk_27 (dk_at dksX2_nearest_1 9 rfl rfl)
theorem dX2_nearest_34 : decode cX2_nearest 34 = .ok (.invokestatic 19, 3) := dk_184 0 19 (dk_at dksX2_nearest_1 10 rfl rfl)
theorem dX2_nearest_37 : decode cX2_nearest 37 = .ok (.if_icmp .ge 7, 3) := dk_162 0 7 (dk_at dksX2_nearest_1 13 rfl rfl)
theorem dX2_nearest_40 : decode cX2_nearest 40 = .ok (.iload_n 3, 1) := dk_29 (dk_at dksX2_nearest_1 16 rfl rfl)
theorem dX2_nearest_41 : decode cX2_nearest 41 = .ok (.goto 4, 3) := dk_167 0 4 (dk_at dksX2_nearest_1 17 rfl rfl)
theorem dX2_nearest_44 : decode cX2_nearest 44 = .ok (.iload_n 2, 1) := dk_28 (dk_at dksX2_nearest_1 20 rfl rfl)
theorem dX2_nearest_45 : decode cX2_nearest 45 = .ok (.istore_n 2, 1) := dk_61 (dk_at dksX2_nearest_1 21 rfl rfl)
theorem dX2_nearest_46 : decode cX2_nearest 46 = .ok (.iinc 3 1, 3) := dk_132 3 1 (dk_at dksX2_nearest_2 0 rfl rfl)
theorem dX2_nearest_49 : decode cX2_nearest 49 = .ok (.goto (-45), 3) := dk_167 255 211 (dk_at dksX2_nearest_2 3 rfl rfl)
theorem dX2_nearest_52 : decode cX2_nearest 52 = .ok (.iload_n 2, 1) := dk_28 (dk_at dksX2_nearest_2 6 rfl rfl)
theorem dX2_nearest_53 : decode cX2_nearest 53 = .ok (.ireturn, 1) := dk_172 (dk_at dksX2_nearest_2 7 rfl rfl)
def dkwX2_alone_0 : List UInt8 := [42, 180, 0, 9, 3, 27, 79, 42, 4, 181, 0, 15, 42, 176]
abbrev dktX2_alone_0 : List UInt8 := dkwX2_alone_0 ++ []
theorem dksX2_alone_0 : cX2_alone.data.toList.drop 0 = dktX2_alone_0 := by decide +kernel
theorem dX2_alone_0 : decode cX2_alone 0 = .ok (.aload_n 0, 1) := dk_42 (dk_at dksX2_alone_0 0 rfl rfl)
theorem dX2_alone_1 : decode cX2_alone 1 = .ok (.getfield 9, 3) := dk_180 0 9 (dk_at dksX2_alone_0 1 rfl rfl)
theorem dX2_alone_4 : decode cX2_alone 4 = .ok (.iconst 0, 1) := dk_3 (dk_at dksX2_alone_0 4 rfl rfl)
theorem dX2_alone_5 : decode cX2_alone 5 = .ok (.iload_n 1, 1) := dk_27 (dk_at dksX2_alone_0 5 rfl rfl)
theorem dX2_alone_6 : decode cX2_alone 6 = .ok (.iastore, 1) := dk_79 (dk_at dksX2_alone_0 6 rfl rfl)
theorem dX2_alone_7 : decode cX2_alone 7 = .ok (.aload_n 0, 1) := dk_42 (dk_at dksX2_alone_0 7 rfl rfl)
theorem dX2_alone_8 : decode cX2_alone 8 = .ok (.iconst 1, 1) := dk_4 (dk_at dksX2_alone_0 8 rfl rfl)
theorem dX2_alone_9 : decode cX2_alone 9 = .ok (.putfield 15, 3) := dk_181 0 15 (dk_at dksX2_alone_0 9 rfl rfl)
theorem dX2_alone_12 : decode cX2_alone 12 = .ok (.aload_n 0, 1) := dk_42 (dk_at dksX2_alone_0 12 rfl rfl)
theorem dX2_alone_13 : decode cX2_alone 13 = .ok (.areturn, 1) := dk_176 (dk_at dksX2_alone_0 13 rfl rfl)
theorem dX3_init_0 : decode cX3_init 0 = .ok (.aload_n 0, 1) := by decide +kernel
theorem dX3_init_1 : decode cX3_init 1 = .ok (.invokespecial 1, 3) := by decide +kernel
theorem dX3_init_4 : decode cX3_init 4 = .ok (.return_, 1) := by decide +kernel
def dkwX5_init_0 : List UInt8 := [42, 1, 1, 3, 3, 183, 0, 1, 42, 27, 181, 0, 7, 177]
abbrev dktX5_init_0 : List UInt8 := dkwX5_init_0 ++ []
theorem dksX5_init_0 : cX5_init.data.toList.drop 0 = dktX5_init_0 := by decide +kernel
theorem dX5_init_0 : decode cX5_init 0 = .ok (.aload_n 0, 1) := dk_42 (dk_at dksX5_init_0 0 rfl rfl)
theorem dX5_init_1 : decode cX5_init 1 = .ok (.aconst_null, 1) := dk_1 (dk_at dksX5_init_0 1 rfl rfl)
theorem dX5_init_2 : decode cX5_init 2 = .ok (.aconst_null, 1) := dk_1 (dk_at dksX5_init_0 2 rfl rfl)
theorem dX5_init_3 : decode cX5_init 3 = .ok (.iconst 0, 1) := dk_3 (dk_at dksX5_init_0 3 rfl rfl)
theorem dX5_init_4 : decode cX5_init 4 = .ok (.iconst 0, 1) := dk_3 (dk_at dksX5_init_0 4 rfl rfl)
theorem dX5_init_5 : decode cX5_init 5 = .ok (.invokespecial 1, 3) := dk_183 0 1 (dk_at dksX5_init_0 5 rfl rfl)
theorem dX5_init_8 : decode cX5_init 8 = .ok (.aload_n 0, 1) := dk_42 (dk_at dksX5_init_0 8 rfl rfl)
theorem dX5_init_9 : decode cX5_init 9 = .ok (.iload_n 1, 1) := dk_27 (dk_at dksX5_init_0 9 rfl rfl)
theorem dX5_init_10 : decode cX5_init 10 = .ok (.putfield 7, 3) := dk_181 0 7 (dk_at dksX5_init_0 10 rfl rfl)
theorem dX5_init_13 : decode cX5_init 13 = .ok (.return_, 1) := dk_177 (dk_at dksX5_init_0 13 rfl rfl)
def dkwX6_arm_1 : List UInt8 := [2, 172]
abbrev dktX6_arm_1 : List UInt8 := dkwX6_arm_1 ++ []
def dkwX6_arm_0 : List UInt8 := [43, 180, 0, 21, 4, 160, 0, 19, 42, 180, 0, 18, 43, 180, 0, 26, 3, 46, 184, 0, 29, 167, 0, 4]
abbrev dktX6_arm_0 : List UInt8 := dkwX6_arm_0 ++ dktX6_arm_1
theorem dksX6_arm_0 : cX6_arm.data.toList.drop 0 = dktX6_arm_0 := by decide +kernel
theorem dksX6_arm_1 : cX6_arm.data.toList.drop 24 = dktX6_arm_1 := dk_seg dksX6_arm_0 24 rfl rfl
theorem dX6_arm_0 : decode cX6_arm 0 = .ok (.aload_n 1, 1) := dk_43 (dk_at dksX6_arm_0 0 rfl rfl)
theorem dX6_arm_1 : decode cX6_arm 1 = .ok (.getfield 21, 3) := dk_180 0 21 (dk_at dksX6_arm_0 1 rfl rfl)
theorem dX6_arm_4 : decode cX6_arm 4 = .ok (.iconst 1, 1) := dk_4 (dk_at dksX6_arm_0 4 rfl rfl)
theorem dX6_arm_5 : decode cX6_arm 5 = .ok (.if_icmp .ne 19, 3) := dk_160 0 19 (dk_at dksX6_arm_0 5 rfl rfl)
theorem dX6_arm_8 : decode cX6_arm 8 = .ok (.aload_n 0, 1) := dk_42 (dk_at dksX6_arm_0 8 rfl rfl)
theorem dX6_arm_9 : decode cX6_arm 9 = .ok (.getfield 18, 3) := dk_180 0 18 (dk_at dksX6_arm_0 9 rfl rfl)
theorem dX6_arm_12 : decode cX6_arm 12 = .ok (.aload_n 1, 1) := dk_43 (dk_at dksX6_arm_0 12 rfl rfl)
theorem dX6_arm_13 : decode cX6_arm 13 = .ok (.getfield 26, 3) := dk_180 0 26 (dk_at dksX6_arm_0 13 rfl rfl)
theorem dX6_arm_16 : decode cX6_arm 16 = .ok (.iconst 0, 1) := dk_3 (dk_at dksX6_arm_0 16 rfl rfl)
theorem dX6_arm_17 : decode cX6_arm 17 = .ok (.iaload, 1) := dk_46 (dk_at dksX6_arm_0 17 rfl rfl)
theorem dX6_arm_18 : decode cX6_arm 18 = .ok (.invokestatic 29, 3) := dk_184 0 29 (dk_at dksX6_arm_0 18 rfl rfl)
theorem dX6_arm_21 : decode cX6_arm 21 = .ok (.goto 4, 3) := dk_167 0 4 (dk_at dksX6_arm_0 21 rfl rfl)
theorem dX6_arm_24 : decode cX6_arm 24 = .ok (.iconst (-1), 1) := dk_2 (dk_at dksX6_arm_1 0 rfl rfl)
theorem dX6_arm_25 : decode cX6_arm 25 = .ok (.ireturn, 1) := dk_172 (dk_at dksX6_arm_1 1 rfl rfl)
def dkwX6_init_0 : List UInt8 := [42, 183, 0, 3, 42, 27, 181, 0, 9, 42, 28, 181, 0, 15, 42, 29, 181, 0, 18, 177]
abbrev dktX6_init_0 : List UInt8 := dkwX6_init_0 ++ []
theorem dksX6_init_0 : cX6_init.data.toList.drop 0 = dktX6_init_0 := by decide +kernel
theorem dX6_init_0 : decode cX6_init 0 = .ok (.aload_n 0, 1) := dk_42 (dk_at dksX6_init_0 0 rfl rfl)
theorem dX6_init_1 : decode cX6_init 1 = .ok (.invokespecial 3, 3) := dk_183 0 3 (dk_at dksX6_init_0 1 rfl rfl)
theorem dX6_init_4 : decode cX6_init 4 = .ok (.aload_n 0, 1) := dk_42 (dk_at dksX6_init_0 4 rfl rfl)
theorem dX6_init_5 : decode cX6_init 5 = .ok (.iload_n 1, 1) := dk_27 (dk_at dksX6_init_0 5 rfl rfl)
theorem dX6_init_6 : decode cX6_init 6 = .ok (.putfield 9, 3) := dk_181 0 9 (dk_at dksX6_init_0 6 rfl rfl)
theorem dX6_init_9 : decode cX6_init 9 = .ok (.aload_n 0, 1) := dk_42 (dk_at dksX6_init_0 9 rfl rfl)
theorem dX6_init_10 : decode cX6_init 10 = .ok (.iload_n 2, 1) := dk_28 (dk_at dksX6_init_0 10 rfl rfl)
theorem dX6_init_11 : decode cX6_init 11 = .ok (.putfield 15, 3) := dk_181 0 15 (dk_at dksX6_init_0 11 rfl rfl)
theorem dX6_init_14 : decode cX6_init 14 = .ok (.aload_n 0, 1) := dk_42 (dk_at dksX6_init_0 14 rfl rfl)
theorem dX6_init_15 : decode cX6_init 15 = .ok (.iload_n 3, 1) := dk_29 (dk_at dksX6_init_0 15 rfl rfl)
theorem dX6_init_16 : decode cX6_init 16 = .ok (.putfield 18, 3) := dk_181 0 18 (dk_at dksX6_init_0 16 rfl rfl)
theorem dX6_init_19 : decode cX6_init 19 = .ok (.return_, 1) := dk_177 (dk_at dksX6_init_0 19 rfl rfl)
theorem dX6_kind_0 : decode cX6_kind 0 = .ok (.iconst 0, 1) := by decide +kernel
theorem dX6_kind_1 : decode cX6_kind 1 = .ok (.ireturn, 1) := by decide +kernel
def dkwX7_arm_1 : List UInt8 := [180, 0, 21, 28, 46, 184, 0, 24, 172]
abbrev dktX7_arm_1 : List UInt8 := dkwX7_arm_1 ++ []
def dkwX7_arm_0 : List UInt8 := [43, 42, 180, 0, 9, 182, 0, 15, 61, 28, 2, 160, 0, 7, 2, 167, 0, 16, 42, 180, 0, 9, 43]
abbrev dktX7_arm_0 : List UInt8 := dkwX7_arm_0 ++ dktX7_arm_1
theorem dksX7_arm_0 : cX7_arm.data.toList.drop 0 = dktX7_arm_0 := by decide +kernel
theorem dksX7_arm_1 : cX7_arm.data.toList.drop 23 = dktX7_arm_1 := dk_seg dksX7_arm_0 23 rfl rfl
theorem dX7_arm_0 : decode cX7_arm 0 = .ok (.aload_n 1, 1) := dk_43 (dk_at dksX7_arm_0 0 rfl rfl)
theorem dX7_arm_1 : decode cX7_arm 1 = .ok (.aload_n 0, 1) := dk_42 (dk_at dksX7_arm_0 1 rfl rfl)
theorem dX7_arm_2 : decode cX7_arm 2 = .ok (.getfield 9, 3) := dk_180 0 9 (dk_at dksX7_arm_0 2 rfl rfl)
theorem dX7_arm_5 : decode cX7_arm 5 = .ok (.invokevirtual 15, 3) := dk_182 0 15 (dk_at dksX7_arm_0 5 rfl rfl)
theorem dX7_arm_8 : decode cX7_arm 8 = .ok (.istore_n 2, 1) := dk_61 (dk_at dksX7_arm_0 8 rfl rfl)
theorem dX7_arm_9 : decode cX7_arm 9 = .ok (.iload_n 2, 1) := dk_28 (dk_at dksX7_arm_0 9 rfl rfl)
theorem dX7_arm_10 : decode cX7_arm 10 = .ok (.iconst (-1), 1) := dk_2 (dk_at dksX7_arm_0 10 rfl rfl)
theorem dX7_arm_11 : decode cX7_arm 11 = .ok (.if_icmp .ne 7, 3) := dk_160 0 7 (dk_at dksX7_arm_0 11 rfl rfl)
theorem dX7_arm_14 : decode cX7_arm 14 = .ok (.iconst (-1), 1) := dk_2 (dk_at dksX7_arm_0 14 rfl rfl)
theorem dX7_arm_15 : decode cX7_arm 15 = .ok (.goto 16, 3) := dk_167 0 16 (dk_at dksX7_arm_0 15 rfl rfl)
theorem dX7_arm_18 : decode cX7_arm 18 = .ok (.aload_n 0, 1) := dk_42 (dk_at dksX7_arm_0 18 rfl rfl)
theorem dX7_arm_19 : decode cX7_arm 19 = .ok (.getfield 9, 3) := dk_180 0 9 (dk_at dksX7_arm_0 19 rfl rfl)
theorem dX7_arm_22 : decode cX7_arm 22 = .ok (.aload_n 1, 1) := dk_43 (dk_at dksX7_arm_0 22 rfl rfl)
theorem dX7_arm_23 : decode cX7_arm 23 = .ok (.getfield 21, 3) := dk_180 0 21 (dk_at dksX7_arm_1 0 rfl rfl)
theorem dX7_arm_26 : decode cX7_arm 26 = .ok (.iload_n 2, 1) := dk_28 (dk_at dksX7_arm_1 3 rfl rfl)
theorem dX7_arm_27 : decode cX7_arm 27 = .ok (.iaload, 1) := dk_46 (dk_at dksX7_arm_1 4 rfl rfl)
theorem dX7_arm_28 : decode cX7_arm 28 = .ok (.invokestatic 24, 3) := dk_184 0 24 (dk_at dksX7_arm_1 5 rfl rfl)
theorem dX7_arm_31 : decode cX7_arm 31 = .ok (.ireturn, 1) := dk_172 (dk_at dksX7_arm_1 8 rfl rfl)
def dkwX7_init_0 : List UInt8 := [42, 27, 28, 29, 183, 0, 3, 177]
abbrev dktX7_init_0 : List UInt8 := dkwX7_init_0 ++ []
theorem dksX7_init_0 : cX7_init.data.toList.drop 0 = dktX7_init_0 := by decide +kernel
theorem dX7_init_0 : decode cX7_init 0 = .ok (.aload_n 0, 1) := dk_42 (dk_at dksX7_init_0 0 rfl rfl)
theorem dX7_init_1 : decode cX7_init 1 = .ok (.iload_n 1, 1) := dk_27 (dk_at dksX7_init_0 1 rfl rfl)
theorem dX7_init_2 : decode cX7_init 2 = .ok (.iload_n 2, 1) := dk_28 (dk_at dksX7_init_0 2 rfl rfl)
theorem dX7_init_3 : decode cX7_init 3 = .ok (.iload_n 3, 1) := dk_29 (dk_at dksX7_init_0 3 rfl rfl)
theorem dX7_init_4 : decode cX7_init 4 = .ok (.invokespecial 3, 3) := dk_183 0 3 (dk_at dksX7_init_0 4 rfl rfl)
theorem dX7_init_7 : decode cX7_init 7 = .ok (.return_, 1) := dk_177 (dk_at dksX7_init_0 7 rfl rfl)
theorem dX7_kind_0 : decode cX7_kind 0 = .ok (.iconst 1, 1) := by decide +kernel
theorem dX7_kind_1 : decode cX7_kind 1 = .ok (.ireturn, 1) := by decide +kernel
def dkwX8_arm_1 : List UInt8 := [42, 180, 0, 28, 164, 0, 7, 2, 167, 0, 4, 28, 172]
abbrev dktX8_arm_1 : List UInt8 := dkwX8_arm_1 ++ []
def dkwX8_arm_0 : List UInt8 := [42, 43, 183, 0, 9, 61, 28, 2, 159, 0, 27, 42, 180, 0, 13, 43, 180, 0, 19, 3, 46, 184, 0, 24]
abbrev dktX8_arm_0 : List UInt8 := dkwX8_arm_0 ++ dktX8_arm_1
theorem dksX8_arm_0 : cX8_arm.data.toList.drop 0 = dktX8_arm_0 := by decide +kernel
theorem dksX8_arm_1 : cX8_arm.data.toList.drop 24 = dktX8_arm_1 := dk_seg dksX8_arm_0 24 rfl rfl
theorem dX8_arm_0 : decode cX8_arm 0 = .ok (.aload_n 0, 1) := dk_42 (dk_at dksX8_arm_0 0 rfl rfl)
theorem dX8_arm_1 : decode cX8_arm 1 = .ok (.aload_n 1, 1) := dk_43 (dk_at dksX8_arm_0 1 rfl rfl)
theorem dX8_arm_2 : decode cX8_arm 2 = .ok (.invokespecial 9, 3) := dk_183 0 9 (dk_at dksX8_arm_0 2 rfl rfl)
theorem dX8_arm_5 : decode cX8_arm 5 = .ok (.istore_n 2, 1) := dk_61 (dk_at dksX8_arm_0 5 rfl rfl)
theorem dX8_arm_6 : decode cX8_arm 6 = .ok (.iload_n 2, 1) := dk_28 (dk_at dksX8_arm_0 6 rfl rfl)
theorem dX8_arm_7 : decode cX8_arm 7 = .ok (.iconst (-1), 1) := dk_2 (dk_at dksX8_arm_0 7 rfl rfl)
theorem dX8_arm_8 : decode cX8_arm 8 = .ok (.if_icmp .eq 27, 3) := dk_159 0 27 (dk_at dksX8_arm_0 8 rfl rfl)
theorem dX8_arm_11 : decode cX8_arm 11 = .ok (.aload_n 0, 1) := dk_42 (dk_at dksX8_arm_0 11 rfl rfl)
theorem dX8_arm_12 : decode cX8_arm 12 = .ok (.getfield 13, 3) := dk_180 0 13 (dk_at dksX8_arm_0 12 rfl rfl)
theorem dX8_arm_15 : decode cX8_arm 15 = .ok (.aload_n 1, 1) := dk_43 (dk_at dksX8_arm_0 15 rfl rfl)
theorem dX8_arm_16 : decode cX8_arm 16 = .ok (.getfield 19, 3) := dk_180 0 19 (dk_at dksX8_arm_0 16 rfl rfl)
theorem dX8_arm_19 : decode cX8_arm 19 = .ok (.iconst 0, 1) := dk_3 (dk_at dksX8_arm_0 19 rfl rfl)
theorem dX8_arm_20 : decode cX8_arm 20 = .ok (.iaload, 1) := dk_46 (dk_at dksX8_arm_0 20 rfl rfl)
theorem dX8_arm_21 : decode cX8_arm 21 = .ok (.invokestatic 24, 3) := dk_184 0 24 (dk_at dksX8_arm_0 21 rfl rfl)
theorem dX8_arm_24 : decode cX8_arm 24 = .ok (.aload_n 0, 1) := dk_42 (dk_at dksX8_arm_1 0 rfl rfl)
theorem dX8_arm_25 : decode cX8_arm 25 = .ok (.getfield 28, 3) := dk_180 0 28 (dk_at dksX8_arm_1 1 rfl rfl)
theorem dX8_arm_28 : decode cX8_arm 28 = .ok (.if_icmp .le 7, 3) := dk_164 0 7 (dk_at dksX8_arm_1 4 rfl rfl)
theorem dX8_arm_31 : decode cX8_arm 31 = .ok (.iconst (-1), 1) := dk_2 (dk_at dksX8_arm_1 7 rfl rfl)
theorem dX8_arm_32 : decode cX8_arm 32 = .ok (.goto 4, 3) := dk_167 0 4 (dk_at dksX8_arm_1 8 rfl rfl)
theorem dX8_arm_35 : decode cX8_arm 35 = .ok (.iload_n 2, 1) := dk_28 (dk_at dksX8_arm_1 11 rfl rfl)
theorem dX8_arm_36 : decode cX8_arm 36 = .ok (.ireturn, 1) := dk_172 (dk_at dksX8_arm_1 12 rfl rfl)
def dkwX8_init_0 : List UInt8 := [42, 27, 28, 29, 183, 0, 3, 177]
abbrev dktX8_init_0 : List UInt8 := dkwX8_init_0 ++ []
theorem dksX8_init_0 : cX8_init.data.toList.drop 0 = dktX8_init_0 := by decide +kernel
theorem dX8_init_0 : decode cX8_init 0 = .ok (.aload_n 0, 1) := dk_42 (dk_at dksX8_init_0 0 rfl rfl)
theorem dX8_init_1 : decode cX8_init 1 = .ok (.iload_n 1, 1) := dk_27 (dk_at dksX8_init_0 1 rfl rfl)
theorem dX8_init_2 : decode cX8_init 2 = .ok (.iload_n 2, 1) := dk_28 (dk_at dksX8_init_0 2 rfl rfl)
theorem dX8_init_3 : decode cX8_init 3 = .ok (.iload_n 3, 1) := dk_29 (dk_at dksX8_init_0 3 rfl rfl)
theorem dX8_init_4 : decode cX8_init 4 = .ok (.invokespecial 3, 3) := dk_183 0 3 (dk_at dksX8_init_0 4 rfl rfl)
theorem dX8_init_7 : decode cX8_init 7 = .ok (.return_, 1) := dk_177 (dk_at dksX8_init_0 7 rfl rfl)
theorem dX8_kind_0 : decode cX8_kind 0 = .ok (.iconst 2, 1) := by decide +kernel
theorem dX8_kind_1 : decode cX8_kind 1 = .ok (.ireturn, 1) := by decide +kernel
def dkwX9_arm_0 : List UInt8 := [42, 43, 183, 0, 7, 4, 184, 0, 11, 172]
abbrev dktX9_arm_0 : List UInt8 := dkwX9_arm_0 ++ []
theorem dksX9_arm_0 : cX9_arm.data.toList.drop 0 = dktX9_arm_0 := by decide +kernel
theorem dX9_arm_0 : decode cX9_arm 0 = .ok (.aload_n 0, 1) := dk_42 (dk_at dksX9_arm_0 0 rfl rfl)
theorem dX9_arm_1 : decode cX9_arm 1 = .ok (.aload_n 1, 1) := dk_43 (dk_at dksX9_arm_0 1 rfl rfl)
theorem dX9_arm_2 : decode cX9_arm 2 = .ok (.invokespecial 7, 3) := dk_183 0 7 (dk_at dksX9_arm_0 2 rfl rfl)
theorem dX9_arm_5 : decode cX9_arm 5 = .ok (.iconst 1, 1) := dk_4 (dk_at dksX9_arm_0 5 rfl rfl)
theorem dX9_arm_6 : decode cX9_arm 6 = .ok (.invokestatic 11, 3) := dk_184 0 11 (dk_at dksX9_arm_0 6 rfl rfl)
theorem dX9_arm_9 : decode cX9_arm 9 = .ok (.ireturn, 1) := dk_172 (dk_at dksX9_arm_0 9 rfl rfl)
def dkwX9_init_0 : List UInt8 := [42, 27, 28, 29, 183, 0, 1, 177]
abbrev dktX9_init_0 : List UInt8 := dkwX9_init_0 ++ []
theorem dksX9_init_0 : cX9_init.data.toList.drop 0 = dktX9_init_0 := by decide +kernel
theorem dX9_init_0 : decode cX9_init 0 = .ok (.aload_n 0, 1) := dk_42 (dk_at dksX9_init_0 0 rfl rfl)
theorem dX9_init_1 : decode cX9_init 1 = .ok (.iload_n 1, 1) := dk_27 (dk_at dksX9_init_0 1 rfl rfl)
theorem dX9_init_2 : decode cX9_init 2 = .ok (.iload_n 2, 1) := dk_28 (dk_at dksX9_init_0 2 rfl rfl)
theorem dX9_init_3 : decode cX9_init 3 = .ok (.iload_n 3, 1) := dk_29 (dk_at dksX9_init_0 3 rfl rfl)
theorem dX9_init_4 : decode cX9_init 4 = .ok (.invokespecial 1, 3) := dk_183 0 1 (dk_at dksX9_init_0 4 rfl rfl)
theorem dX9_init_7 : decode cX9_init 7 = .ok (.return_, 1) := dk_177 (dk_at dksX9_init_0 7 rfl rfl)
theorem dX9_kind_0 : decode cX9_kind 0 = .ok (.iconst 3, 1) := by decide +kernel
theorem dX9_kind_1 : decode cX9_kind 1 = .ok (.ireturn, 1) := by decide +kernel
def dkwX10_arm_0 : List UInt8 := [42, 43, 183, 0, 9, 7, 184, 0, 13, 172]
abbrev dktX10_arm_0 : List UInt8 := dkwX10_arm_0 ++ []
theorem dksX10_arm_0 : cX10_arm.data.toList.drop 0 = dktX10_arm_0 := by decide +kernel
theorem dX10_arm_0 : decode cX10_arm 0 = .ok (.aload_n 0, 1) := dk_42 (dk_at dksX10_arm_0 0 rfl rfl)
theorem dX10_arm_1 : decode cX10_arm 1 = .ok (.aload_n 1, 1) := dk_43 (dk_at dksX10_arm_0 1 rfl rfl)
theorem dX10_arm_2 : decode cX10_arm 2 = .ok (.invokespecial 9, 3) := dk_183 0 9 (dk_at dksX10_arm_0 2 rfl rfl)
theorem dX10_arm_5 : decode cX10_arm 5 = .ok (.iconst 4, 1) := dk_7 (dk_at dksX10_arm_0 5 rfl rfl)
theorem dX10_arm_6 : decode cX10_arm 6 = .ok (.invokestatic 13, 3) := dk_184 0 13 (dk_at dksX10_arm_0 6 rfl rfl)
theorem dX10_arm_9 : decode cX10_arm 9 = .ok (.ireturn, 1) := dk_172 (dk_at dksX10_arm_0 9 rfl rfl)
def dkwX10_init_0 : List UInt8 := [42, 27, 28, 29, 183, 0, 3, 177]
abbrev dktX10_init_0 : List UInt8 := dkwX10_init_0 ++ []
theorem dksX10_init_0 : cX10_init.data.toList.drop 0 = dktX10_init_0 := by decide +kernel
theorem dX10_init_0 : decode cX10_init 0 = .ok (.aload_n 0, 1) := dk_42 (dk_at dksX10_init_0 0 rfl rfl)
theorem dX10_init_1 : decode cX10_init 1 = .ok (.iload_n 1, 1) := dk_27 (dk_at dksX10_init_0 1 rfl rfl)
theorem dX10_init_2 : decode cX10_init 2 = .ok (.iload_n 2, 1) := dk_28 (dk_at dksX10_init_0 2 rfl rfl)
theorem dX10_init_3 : decode cX10_init 3 = .ok (.iload_n 3, 1) := dk_29 (dk_at dksX10_init_0 3 rfl rfl)
theorem dX10_init_4 : decode cX10_init 4 = .ok (.invokespecial 3, 3) := dk_183 0 3 (dk_at dksX10_init_0 4 rfl rfl)
theorem dX10_init_7 : decode cX10_init 7 = .ok (.return_, 1) := dk_177 (dk_at dksX10_init_0 7 rfl rfl)
theorem dX10_kind_0 : decode cX10_kind 0 = .ok (.iconst 4, 1) := by decide +kernel
theorem dX10_kind_1 : decode cX10_kind 1 = .ok (.ireturn, 1) := by decide +kernel
def dkwX11_arm_3 : List UInt8 := [167, 0, 8, 28, 29, 184, 0, 23, 172]
abbrev dktX11_arm_3 : List UInt8 := dkwX11_arm_3 ++ []
def dkwX11_arm_2 : List UInt8 := [42, 180, 0, 19, 16, 10, 112, 100, 96, 62, 132, 4, 1, 167, 255, 202, 43, 180, 0, 9, 154, 0, 7, 2]
abbrev dktX11_arm_2 : List UInt8 := dkwX11_arm_2 ++ dktX11_arm_3
def dkwX11_arm_1 : List UInt8 := [16, 10, 108, 42, 180, 0, 19, 16, 10, 108, 100, 96, 61, 29, 43, 180, 0, 15, 21, 4, 46, 16, 10, 112]
abbrev dktX11_arm_1 : List UInt8 := dkwX11_arm_1 ++ dktX11_arm_2
def dkwX11_arm_0 : List UInt8 := [3, 61, 3, 62, 3, 54, 4, 21, 4, 43, 180, 0, 9, 162, 0, 51, 28, 43, 180, 0, 15, 21, 4, 46]
abbrev dktX11_arm_0 : List UInt8 := dkwX11_arm_0 ++ dktX11_arm_1
theorem dksX11_arm_0 : cX11_arm.data.toList.drop 0 = dktX11_arm_0 := by decide +kernel
theorem dksX11_arm_1 : cX11_arm.data.toList.drop 24 = dktX11_arm_1 := dk_seg dksX11_arm_0 24 rfl rfl
theorem dksX11_arm_2 : cX11_arm.data.toList.drop 48 = dktX11_arm_2 := dk_seg dksX11_arm_1 24 rfl rfl
theorem dksX11_arm_3 : cX11_arm.data.toList.drop 72 = dktX11_arm_3 := dk_seg dksX11_arm_2 24 rfl rfl
theorem dX11_arm_0 : decode cX11_arm 0 = .ok (.iconst 0, 1) := dk_3 (dk_at dksX11_arm_0 0 rfl rfl)
theorem dX11_arm_1 : decode cX11_arm 1 = .ok (.istore_n 2, 1) := dk_61 (dk_at dksX11_arm_0 1 rfl rfl)
theorem dX11_arm_2 : decode cX11_arm 2 = .ok (.iconst 0, 1) := dk_3 (dk_at dksX11_arm_0 2 rfl rfl)
theorem dX11_arm_3 : decode cX11_arm 3 = .ok (.istore_n 3, 1) := dk_62 (dk_at dksX11_arm_0 3 rfl rfl)
theorem dX11_arm_4 : decode cX11_arm 4 = .ok (.iconst 0, 1) := dk_3 (dk_at dksX11_arm_0 4 rfl rfl)
theorem dX11_arm_5 : decode cX11_arm 5 = .ok (.istore 4, 2) := dk_54 4 (dk_at dksX11_arm_0 5 rfl rfl)
theorem dX11_arm_7 : decode cX11_arm 7 = .ok (.iload 4, 2) := dk_21 4 (dk_at dksX11_arm_0 7 rfl rfl)
theorem dX11_arm_9 : decode cX11_arm 9 = .ok (.aload_n 1, 1) := dk_43 (dk_at dksX11_arm_0 9 rfl rfl)
theorem dX11_arm_10 : decode cX11_arm 10 = .ok (.getfield 9, 3) := dk_180 0 9 (dk_at dksX11_arm_0 10 rfl rfl)
theorem dX11_arm_13 : decode cX11_arm 13 = .ok (.if_icmp .ge 51, 3) := dk_162 0 51 (dk_at dksX11_arm_0 13 rfl rfl)
theorem dX11_arm_16 : decode cX11_arm 16 = .ok (.iload_n 2, 1) := dk_28 (dk_at dksX11_arm_0 16 rfl rfl)
theorem dX11_arm_17 : decode cX11_arm 17 = .ok (.aload_n 1, 1) := dk_43 (dk_at dksX11_arm_0 17 rfl rfl)
theorem dX11_arm_18 : decode cX11_arm 18 = .ok (.getfield 15, 3) := dk_180 0 15 (dk_at dksX11_arm_0 18 rfl rfl)
theorem dX11_arm_21 : decode cX11_arm 21 = .ok (.iload 4, 2) := dk_21 4 (dk_at dksX11_arm_0 21 rfl rfl)
theorem dX11_arm_23 : decode cX11_arm 23 = .ok (.iaload, 1) := dk_46 (dk_at dksX11_arm_0 23 rfl rfl)
theorem dX11_arm_24 : decode cX11_arm 24 = .ok (.bipush 10, 2) := dk_16 10 (dk_at dksX11_arm_1 0 rfl rfl)
theorem dX11_arm_26 : decode cX11_arm 26 = .ok (.idiv, 1) := dk_108 (dk_at dksX11_arm_1 2 rfl rfl)
theorem dX11_arm_27 : decode cX11_arm 27 = .ok (.aload_n 0, 1) := dk_42 (dk_at dksX11_arm_1 3 rfl rfl)
theorem dX11_arm_28 : decode cX11_arm 28 = .ok (.getfield 19, 3) := dk_180 0 19 (dk_at dksX11_arm_1 4 rfl rfl)
theorem dX11_arm_31 : decode cX11_arm 31 = .ok (.bipush 10, 2) := dk_16 10 (dk_at dksX11_arm_1 7 rfl rfl)
theorem dX11_arm_33 : decode cX11_arm 33 = .ok (.idiv, 1) := dk_108 (dk_at dksX11_arm_1 9 rfl rfl)
theorem dX11_arm_34 : decode cX11_arm 34 = .ok (.isub, 1) := dk_100 (dk_at dksX11_arm_1 10 rfl rfl)
theorem dX11_arm_35 : decode cX11_arm 35 = .ok (.iadd, 1) := dk_96 (dk_at dksX11_arm_1 11 rfl rfl)
theorem dX11_arm_36 : decode cX11_arm 36 = .ok (.istore_n 2, 1) := dk_61 (dk_at dksX11_arm_1 12 rfl rfl)
theorem dX11_arm_37 : decode cX11_arm 37 = .ok (.iload_n 3, 1) := dk_29 (dk_at dksX11_arm_1 13 rfl rfl)
theorem dX11_arm_38 : decode cX11_arm 38 = .ok (.aload_n 1, 1) := dk_43 (dk_at dksX11_arm_1 14 rfl rfl)
theorem dX11_arm_39 : decode cX11_arm 39 = .ok (.getfield 15, 3) := dk_180 0 15 (dk_at dksX11_arm_1 15 rfl rfl)
theorem dX11_arm_42 : decode cX11_arm 42 = .ok (.iload 4, 2) := dk_21 4 (dk_at dksX11_arm_1 18 rfl rfl)
theorem dX11_arm_44 : decode cX11_arm 44 = .ok (.iaload, 1) := dk_46 (dk_at dksX11_arm_1 20 rfl rfl)
theorem dX11_arm_45 : decode cX11_arm 45 = .ok (.bipush 10, 2) := dk_16 10 (dk_at dksX11_arm_1 21 rfl rfl)
theorem dX11_arm_47 : decode cX11_arm 47 = .ok (.irem, 1) := dk_112 (dk_at dksX11_arm_1 23 rfl rfl)
theorem dX11_arm_48 : decode cX11_arm 48 = .ok (.aload_n 0, 1) := dk_42 (dk_at dksX11_arm_2 0 rfl rfl)
theorem dX11_arm_49 : decode cX11_arm 49 = .ok (.getfield 19, 3) := dk_180 0 19 (dk_at dksX11_arm_2 1 rfl rfl)
theorem dX11_arm_52 : decode cX11_arm 52 = .ok (.bipush 10, 2) := dk_16 10 (dk_at dksX11_arm_2 4 rfl rfl)
theorem dX11_arm_54 : decode cX11_arm 54 = .ok (.irem, 1) := dk_112 (dk_at dksX11_arm_2 6 rfl rfl)
theorem dX11_arm_55 : decode cX11_arm 55 = .ok (.isub, 1) := dk_100 (dk_at dksX11_arm_2 7 rfl rfl)
theorem dX11_arm_56 : decode cX11_arm 56 = .ok (.iadd, 1) := dk_96 (dk_at dksX11_arm_2 8 rfl rfl)
theorem dX11_arm_57 : decode cX11_arm 57 = .ok (.istore_n 3, 1) := dk_62 (dk_at dksX11_arm_2 9 rfl rfl)
theorem dX11_arm_58 : decode cX11_arm 58 = .ok (.iinc 4 1, 3) := dk_132 4 1 (dk_at dksX11_arm_2 10 rfl rfl)
theorem dX11_arm_61 : decode cX11_arm 61 = .ok (.goto (-54), 3) := dk_167 255 202 (dk_at dksX11_arm_2 13 rfl rfl)
theorem dX11_arm_64 : decode cX11_arm 64 = .ok (.aload_n 1, 1) := dk_43 (dk_at dksX11_arm_2 16 rfl rfl)
theorem dX11_arm_65 : decode cX11_arm 65 = .ok (.getfield 9, 3) := dk_180 0 9 (dk_at dksX11_arm_2 17 rfl rfl)
theorem dX11_arm_68 : decode cX11_arm 68 = .ok (.ifCond .ne 7, 3) := dk_154 0 7 (dk_at dksX11_arm_2 20 rfl rfl)
theorem dX11_arm_71 : decode cX11_arm 71 = .ok (.iconst (-1), 1) := dk_2 (dk_at dksX11_arm_2 23 rfl rfl)
theorem dX11_arm_72 : decode cX11_arm 72 = .ok (.goto 8, 3) := dk_167 0 8 (dk_at dksX11_arm_3 0 rfl rfl)
theorem dX11_arm_75 : decode cX11_arm 75 = .ok (.iload_n 2, 1) := dk_28 (dk_at dksX11_arm_3 3 rfl rfl)
theorem dX11_arm_76 : decode cX11_arm 76 = .ok (.iload_n 3, 1) := dk_29 (dk_at dksX11_arm_3 4 rfl rfl)
theorem dX11_arm_77 : decode cX11_arm 77 = .ok (.invokestatic 23, 3) := dk_184 0 23 (dk_at dksX11_arm_3 5 rfl rfl)
theorem dX11_arm_80 : decode cX11_arm 80 = .ok (.ireturn, 1) := dk_172 (dk_at dksX11_arm_3 8 rfl rfl)
def dkwX11_init_0 : List UInt8 := [42, 27, 28, 29, 183, 0, 3, 177]
abbrev dktX11_init_0 : List UInt8 := dkwX11_init_0 ++ []
theorem dksX11_init_0 : cX11_init.data.toList.drop 0 = dktX11_init_0 := by decide +kernel
theorem dX11_init_0 : decode cX11_init 0 = .ok (.aload_n 0, 1) := dk_42 (dk_at dksX11_init_0 0 rfl rfl)
theorem dX11_init_1 : decode cX11_init 1 = .ok (.iload_n 1, 1) := dk_27 (dk_at dksX11_init_0 1 rfl rfl)
theorem dX11_init_2 : decode cX11_init 2 = .ok (.iload_n 2, 1) := dk_28 (dk_at dksX11_init_0 2 rfl rfl)
theorem dX11_init_3 : decode cX11_init 3 = .ok (.iload_n 3, 1) := dk_29 (dk_at dksX11_init_0 3 rfl rfl)
theorem dX11_init_4 : decode cX11_init 4 = .ok (.invokespecial 3, 3) := dk_183 0 3 (dk_at dksX11_init_0 4 rfl rfl)
theorem dX11_init_7 : decode cX11_init 7 = .ok (.return_, 1) := dk_177 (dk_at dksX11_init_0 7 rfl rfl)
theorem dX11_kind_0 : decode cX11_kind 0 = .ok (.iconst 5, 1) := by decide +kernel
theorem dX11_kind_1 : decode cX11_kind 1 = .ok (.ireturn, 1) := by decide +kernel
def dkwX12_init_0 : List UInt8 := [42, 183, 0, 3, 42, 43, 181, 0, 9, 42, 28, 181, 0, 15, 42, 45, 181, 0, 19, 177]
abbrev dktX12_init_0 : List UInt8 := dkwX12_init_0 ++ []
theorem dksX12_init_0 : cX12_init.data.toList.drop 0 = dktX12_init_0 := by decide +kernel
theorem dX12_init_0 : decode cX12_init 0 = .ok (.aload_n 0, 1) := dk_42 (dk_at dksX12_init_0 0 rfl rfl)
theorem dX12_init_1 : decode cX12_init 1 = .ok (.invokespecial 3, 3) := dk_183 0 3 (dk_at dksX12_init_0 1 rfl rfl)
theorem dX12_init_4 : decode cX12_init 4 = .ok (.aload_n 0, 1) := dk_42 (dk_at dksX12_init_0 4 rfl rfl)
theorem dX12_init_5 : decode cX12_init 5 = .ok (.aload_n 1, 1) := dk_43 (dk_at dksX12_init_0 5 rfl rfl)
theorem dX12_init_6 : decode cX12_init 6 = .ok (.putfield 9, 3) := dk_181 0 9 (dk_at dksX12_init_0 6 rfl rfl)
theorem dX12_init_9 : decode cX12_init 9 = .ok (.aload_n 0, 1) := dk_42 (dk_at dksX12_init_0 9 rfl rfl)
theorem dX12_init_10 : decode cX12_init 10 = .ok (.iload_n 2, 1) := dk_28 (dk_at dksX12_init_0 10 rfl rfl)
theorem dX12_init_11 : decode cX12_init 11 = .ok (.putfield 15, 3) := dk_181 0 15 (dk_at dksX12_init_0 11 rfl rfl)
theorem dX12_init_14 : decode cX12_init 14 = .ok (.aload_n 0, 1) := dk_42 (dk_at dksX12_init_0 14 rfl rfl)
theorem dX12_init_15 : decode cX12_init 15 = .ok (.aload_n 3, 1) := dk_45 (dk_at dksX12_init_0 15 rfl rfl)
theorem dX12_init_16 : decode cX12_init 16 = .ok (.putfield 19, 3) := dk_181 0 19 (dk_at dksX12_init_0 16 rfl rfl)
theorem dX12_init_19 : decode cX12_init 19 = .ok (.return_, 1) := dk_177 (dk_at dksX12_init_0 19 rfl rfl)
def dkwX12_read_1 : List UInt8 := [182, 0, 139, 154, 0, 8, 42, 182, 0, 73, 191, 42, 182, 0, 136, 132, 1, 1, 167, 255, 224, 27, 172]
abbrev dktX12_read_1 : List UInt8 := dkwX12_read_1 ++ []
def dkwX12_read_0 : List UInt8 := [4, 60, 42, 182, 0, 70, 42, 182, 0, 136, 42, 180, 0, 30, 42, 180, 0, 15, 162, 0, 27, 42, 18, 57]
abbrev dktX12_read_0 : List UInt8 := dkwX12_read_0 ++ dktX12_read_1
theorem dksX12_read_0 : cX12_read.data.toList.drop 0 = dktX12_read_0 := by decide +kernel
theorem dksX12_read_1 : cX12_read.data.toList.drop 24 = dktX12_read_1 := dk_seg dksX12_read_0 24 rfl rfl
theorem dX12_read_0 : decode cX12_read 0 = .ok (.iconst 1, 1) := dk_4 (dk_at dksX12_read_0 0 rfl rfl)
theorem dX12_read_1 : decode cX12_read 1 = .ok (.istore_n 1, 1) := dk_60 (dk_at dksX12_read_0 1 rfl rfl)
theorem dX12_read_2 : decode cX12_read 2 = .ok (.aload_n 0, 1) := dk_42 (dk_at dksX12_read_0 2 rfl rfl)
theorem dX12_read_3 : decode cX12_read 3 = .ok (.invokevirtual 70, 3) := dk_182 0 70 (dk_at dksX12_read_0 3 rfl rfl)
theorem dX12_read_6 : decode cX12_read 6 = .ok (.aload_n 0, 1) := dk_42 (dk_at dksX12_read_0 6 rfl rfl)
theorem dX12_read_7 : decode cX12_read 7 = .ok (.invokevirtual 136, 3) := dk_182 0 136 (dk_at dksX12_read_0 7 rfl rfl)
theorem dX12_read_10 : decode cX12_read 10 = .ok (.aload_n 0, 1) := dk_42 (dk_at dksX12_read_0 10 rfl rfl)
theorem dX12_read_11 : decode cX12_read 11 = .ok (.getfield 30, 3) := dk_180 0 30 (dk_at dksX12_read_0 11 rfl rfl)
theorem dX12_read_14 : decode cX12_read 14 = .ok (.aload_n 0, 1) := dk_42 (dk_at dksX12_read_0 14 rfl rfl)
theorem dX12_read_15 : decode cX12_read 15 = .ok (.getfield 15, 3) := dk_180 0 15 (dk_at dksX12_read_0 15 rfl rfl)
theorem dX12_read_18 : decode cX12_read 18 = .ok (.if_icmp .ge 27, 3) := dk_162 0 27 (dk_at dksX12_read_0 18 rfl rfl)
theorem dX12_read_21 : decode cX12_read 21 = .ok (.aload_n 0, 1) := dk_42 (dk_at dksX12_read_0 21 rfl rfl)
theorem dX12_read_22 : decode cX12_read 22 = .ok (.ldc 57, 2) := dk_18 57 (dk_at dksX12_read_0 22 rfl rfl)
theorem dX12_read_24 : decode cX12_read 24 = .ok (.invokevirtual 139, 3) := dk_182 0 139 (dk_at dksX12_read_1 0 rfl rfl)
theorem dX12_read_27 : decode cX12_read 27 = .ok (.ifCond .ne 8, 3) := dk_154 0 8 (dk_at dksX12_read_1 3 rfl rfl)
theorem dX12_read_30 : decode cX12_read 30 = .ok (.aload_n 0, 1) := dk_42 (dk_at dksX12_read_1 6 rfl rfl)
theorem dX12_read_31 : decode cX12_read 31 = .ok (.invokevirtual 73, 3) := dk_182 0 73 (dk_at dksX12_read_1 7 rfl rfl)
theorem dX12_read_34 : decode cX12_read 34 = .ok (.athrow, 1) := dk_191 (dk_at dksX12_read_1 10 rfl rfl)
theorem dX12_read_35 : decode cX12_read 35 = .ok (.aload_n 0, 1) := dk_42 (dk_at dksX12_read_1 11 rfl rfl)
theorem dX12_read_36 : decode cX12_read 36 = .ok (.invokevirtual 136, 3) := dk_182 0 136 (dk_at dksX12_read_1 12 rfl rfl)
theorem dX12_read_39 : decode cX12_read 39 = .ok (.iinc 1 1, 3) := dk_132 1 1 (dk_at dksX12_read_1 15 rfl rfl)
theorem dX12_read_42 : decode cX12_read 42 = .ok (.goto (-32), 3) := dk_167 255 224 (dk_at dksX12_read_1 18 rfl rfl)
theorem dX12_read_45 : decode cX12_read 45 = .ok (.iload_n 1, 1) := dk_27 (dk_at dksX12_read_1 21 rfl rfl)
theorem dX12_read_46 : decode cX12_read 46 = .ok (.ireturn, 1) := dk_172 (dk_at dksX12_read_1 22 rfl rfl)
def dkwX12_next_9 : List UInt8 := [181, 0, 33, 42, 89, 180, 0, 23, 4, 96, 181, 0, 23, 177]
abbrev dktX12_next_9 : List UInt8 := dkwX12_next_9 ++ []
def dkwX12_next_8 : List UInt8 := [167, 0, 4, 27, 181, 0, 37, 167, 0, 30, 42, 16, 59, 16, 59, 182, 0, 26, 153, 0, 19, 42, 18, 57]
abbrev dktX12_next_8 : List UInt8 := dkwX12_next_8 ++ dktX12_next_9
def dkwX12_next_7 : List UInt8 := [96, 181, 0, 23, 167, 255, 212, 42, 42, 180, 0, 23, 42, 180, 0, 30, 100, 5, 164, 0, 8, 16, 100]
abbrev dktX12_next_7 : List UInt8 := dkwX12_next_7 ++ dktX12_next_8
def dkwX12_next_6 : List UInt8 := [104, 42, 180, 0, 9, 42, 180, 0, 23, 46, 96, 16, 48, 100, 184, 0, 51, 60, 42, 89, 180, 0, 23, 4]
abbrev dktX12_next_6 : List UInt8 := dkwX12_next_6 ++ dktX12_next_7
def dkwX12_next_5 : List UInt8 := [182, 0, 26, 153, 0, 78, 3, 60, 42, 16, 48, 16, 57, 182, 0, 26, 153, 0, 39, 16, 100, 16, 10, 27]
abbrev dktX12_next_5 : List UInt8 := dkwX12_next_5 ++ dktX12_next_6
def dkwX12_next_4 : List UInt8 := [96, 181, 0, 23, 167, 255, 220, 42, 43, 182, 0, 47, 181, 0, 33, 167, 0, 116, 42, 16, 48, 16, 57]
abbrev dktX12_next_4 : List UInt8 := dkwX12_next_4 ++ dktX12_next_5
def dkwX12_next_3 : List UInt8 := [153, 0, 31, 43, 42, 180, 0, 9, 42, 180, 0, 23, 46, 146, 182, 0, 43, 87, 42, 89, 180, 0, 23, 4]
abbrev dktX12_next_3 : List UInt8 := dkwX12_next_3 ++ dktX12_next_4
def dkwX12_next_2 : List UInt8 := [182, 0, 26, 153, 0, 61, 187, 0, 40, 89, 183, 0, 42, 76, 42, 16, 97, 16, 122, 182, 0, 26]
abbrev dktX12_next_2 : List UInt8 := dkwX12_next_2 ++ dktX12_next_3
def dkwX12_next_1 : List UInt8 := [42, 42, 180, 0, 23, 181, 0, 30, 42, 1, 181, 0, 33, 42, 2, 181, 0, 37, 42, 16, 97, 16, 122]
abbrev dktX12_next_1 : List UInt8 := dkwX12_next_1 ++ dktX12_next_2
def dkwX12_next_0 : List UInt8 := [42, 16, 32, 16, 32, 182, 0, 26, 153, 0, 16, 42, 89, 180, 0, 23, 4, 96, 181, 0, 23, 167, 255, 235]
abbrev dktX12_next_0 : List UInt8 := dkwX12_next_0 ++ dktX12_next_1
theorem dksX12_next_0 : cX12_next.data.toList.drop 0 = dktX12_next_0 := by decide +kernel
theorem dksX12_next_1 : cX12_next.data.toList.drop 24 = dktX12_next_1 := dk_seg dksX12_next_0 24 rfl rfl
theorem dksX12_next_2 : cX12_next.data.toList.drop 47 = dktX12_next_2 := dk_seg dksX12_next_1 23 rfl rfl
theorem dksX12_next_3 : cX12_next.data.toList.drop 69 = dktX12_next_3 := dk_seg dksX12_next_2 22 rfl rfl
theorem dksX12_next_4 : cX12_next.data.toList.drop 93 = dktX12_next_4 := dk_seg dksX12_next_3 24 rfl rfl
theorem dksX12_next_5 : cX12_next.data.toList.drop 116 = dktX12_next_5 := dk_seg dksX12_next_4 23 rfl rfl
theorem dksX12_next_6 : cX12_next.data.toList.drop 140 = dktX12_next_6 := dk_seg dksX12_next_5 24 rfl rfl
theorem dksX12_next_7 : cX12_next.data.toList.drop 164 = dktX12_next_7 := dk_seg dksX12_next_6 24 rfl rfl
theorem dksX12_next_8 : cX12_next.data.toList.drop 187 = dktX12_next_8 := dk_seg dksX12_next_7 23 rfl rfl
theorem dksX12_next_9 : cX12_next.data.toList.drop 211 = dktX12_next_9 := dk_seg dksX12_next_8 24 rfl rfl
theorem dX12_next_0 : decode cX12_next 0 = .ok (.aload_n 0, 1) := dk_42 (dk_at dksX12_next_0 0 rfl rfl)
theorem dX12_next_1 : decode cX12_next 1 = .ok (.bipush 32, 2) := dk_16 32 (dk_at dksX12_next_0 1 rfl rfl)
theorem dX12_next_3 : decode cX12_next 3 = .ok (.bipush 32, 2) := dk_16 32 (dk_at dksX12_next_0 3 rfl rfl)
theorem dX12_next_5 : decode cX12_next 5 = .ok (.invokevirtual 26, 3) := dk_182 0 26 (dk_at dksX12_next_0 5 rfl rfl)
theorem dX12_next_8 : decode cX12_next 8 = .ok (.ifCond .eq 16, 3) := dk_153 0 16 (dk_at dksX12_next_0 8 rfl rfl)
theorem dX12_next_11 : decode cX12_next 11 = .ok (.aload_n 0, 1) := dk_42 (dk_at dksX12_next_0 11 rfl rfl)
theorem dX12_next_12 : decode cX12_next 12 = .ok (.dup, 1) := dk_89 (dk_at dksX12_next_0 12 rfl rfl)
theorem dX12_next_13 : decode cX12_next 13 = .ok (.getfield 23, 3) := dk_180 0 23 (dk_at dksX12_next_0 13 rfl rfl)
theorem dX12_next_16 : decode cX12_next 16 = .ok (.iconst 1, 1) := dk_4 (dk_at dksX12_next_0 16 rfl rfl)
theorem dX12_next_17 : decode cX12_next 17 = .ok (.iadd, 1) := dk_96 (dk_at dksX12_next_0 17 rfl rfl)
theorem dX12_next_18 : decode cX12_next 18 = .ok (.putfield 23, 3) := dk_181 0 23 (dk_at dksX12_next_0 18 rfl rfl)
theorem dX12_next_21 : decode cX12_next 21 = .ok (.goto (-21), 3) := dk_167 255 235 (dk_at dksX12_next_0 21 rfl rfl)
theorem dX12_next_24 : decode cX12_next 24 = .ok (.aload_n 0, 1) := dk_42 (dk_at dksX12_next_1 0 rfl rfl)
theorem dX12_next_25 : decode cX12_next 25 = .ok (.aload_n 0, 1) := dk_42 (dk_at dksX12_next_1 1 rfl rfl)
theorem dX12_next_26 : decode cX12_next 26 = .ok (.getfield 23, 3) := dk_180 0 23 (dk_at dksX12_next_1 2 rfl rfl)
theorem dX12_next_29 : decode cX12_next 29 = .ok (.putfield 30, 3) := dk_181 0 30 (dk_at dksX12_next_1 5 rfl rfl)
theorem dX12_next_32 : decode cX12_next 32 = .ok (.aload_n 0, 1) := dk_42 (dk_at dksX12_next_1 8 rfl rfl)
theorem dX12_next_33 : decode cX12_next 33 = .ok (.aconst_null, 1) := dk_1 (dk_at dksX12_next_1 9 rfl rfl)
theorem dX12_next_34 : decode cX12_next 34 = .ok (.putfield 33, 3) := dk_181 0 33 (dk_at dksX12_next_1 10 rfl rfl)
theorem dX12_next_37 : decode cX12_next 37 = .ok (.aload_n 0, 1) := dk_42 (dk_at dksX12_next_1 13 rfl rfl)
theorem dX12_next_38 : decode cX12_next 38 = .ok (.iconst (-1), 1) := dk_2 (dk_at dksX12_next_1 14 rfl rfl)
theorem dX12_next_39 : decode cX12_next 39 = .ok (.putfield 37, 3) := dk_181 0 37 (dk_at dksX12_next_1 15 rfl rfl)
theorem dX12_next_42 : decode cX12_next 42 = .ok (.aload_n 0, 1) := dk_42 (dk_at dksX12_next_1 18 rfl rfl)
theorem dX12_next_43 : decode cX12_next 43 = .ok (.bipush 97, 2) := dk_16 97 (dk_at dksX12_next_1 19 rfl rfl)
theorem dX12_next_45 : decode cX12_next 45 = .ok (.bipush 122, 2) := dk_16 122 (dk_at dksX12_next_1 21 rfl rfl)
theorem dX12_next_47 : decode cX12_next 47 = .ok (.invokevirtual 26, 3) := dk_182 0 26 (dk_at dksX12_next_2 0 rfl rfl)
theorem dX12_next_50 : decode cX12_next 50 = .ok (.ifCond .eq 61, 3) := dk_153 0 61 (dk_at dksX12_next_2 3 rfl rfl)
theorem dX12_next_53 : decode cX12_next 53 = .ok (.new 40, 3) := dk_187 0 40 (dk_at dksX12_next_2 6 rfl rfl)
theorem dX12_next_56 : decode cX12_next 56 = .ok (.dup, 1) := dk_89 (dk_at dksX12_next_2 9 rfl rfl)
theorem dX12_next_57 : decode cX12_next 57 = .ok (.invokespecial 42, 3) := dk_183 0 42 (dk_at dksX12_next_2 10 rfl rfl)
theorem dX12_next_60 : decode cX12_next 60 = .ok (.astore_n 1, 1) := dk_76 (dk_at dksX12_next_2 13 rfl rfl)
theorem dX12_next_61 : decode cX12_next 61 = .ok (.aload_n 0, 1) := dk_42 (dk_at dksX12_next_2 14 rfl rfl)
theorem dX12_next_62 : decode cX12_next 62 = .ok (.bipush 97, 2) := dk_16 97 (dk_at dksX12_next_2 15 rfl rfl)
theorem dX12_next_64 : decode cX12_next 64 = .ok (.bipush 122, 2) := dk_16 122 (dk_at dksX12_next_2 17 rfl rfl)
theorem dX12_next_66 : decode cX12_next 66 = .ok (.invokevirtual 26, 3) := dk_182 0 26 (dk_at dksX12_next_2 19 rfl rfl)
theorem dX12_next_69 : decode cX12_next 69 = .ok (.ifCond .eq 31, 3) := dk_153 0 31 (dk_at dksX12_next_3 0 rfl rfl)
theorem dX12_next_72 : decode cX12_next 72 = .ok (.aload_n 1, 1) := dk_43 (dk_at dksX12_next_3 3 rfl rfl)
theorem dX12_next_73 : decode cX12_next 73 = .ok (.aload_n 0, 1) := dk_42 (dk_at dksX12_next_3 4 rfl rfl)
theorem dX12_next_74 : decode cX12_next 74 = .ok (.getfield 9, 3) := dk_180 0 9 (dk_at dksX12_next_3 5 rfl rfl)
theorem dX12_next_77 : decode cX12_next 77 = .ok (.aload_n 0, 1) := dk_42 (dk_at dksX12_next_3 8 rfl rfl)
theorem dX12_next_78 : decode cX12_next 78 = .ok (.getfield 23, 3) := dk_180 0 23 (dk_at dksX12_next_3 9 rfl rfl)
theorem dX12_next_81 : decode cX12_next 81 = .ok (.iaload, 1) := dk_46 (dk_at dksX12_next_3 12 rfl rfl)
theorem dX12_next_82 : decode cX12_next 82 = .ok (.i2c, 1) := dk_146 (dk_at dksX12_next_3 13 rfl rfl)
theorem dX12_next_83 : decode cX12_next 83 = .ok (.invokevirtual 43, 3) := dk_182 0 43 (dk_at dksX12_next_3 14 rfl rfl)
theorem dX12_next_86 : decode cX12_next 86 = .ok (.pop, 1) := dk_87 (dk_at dksX12_next_3 17 rfl rfl)
theorem dX12_next_87 : decode cX12_next 87 = .ok (.aload_n 0, 1) := dk_42 (dk_at dksX12_next_3 18 rfl rfl)
theorem dX12_next_88 : decode cX12_next 88 = .ok (.dup, 1) := dk_89 (dk_at dksX12_next_3 19 rfl rfl)
theorem dX12_next_89 : decode cX12_next 89 = .ok (.getfield 23, 3) := dk_180 0 23 (dk_at dksX12_next_3 20 rfl rfl)
theorem dX12_next_92 : decode cX12_next 92 = .ok (.iconst 1, 1) := dk_4 (dk_at dksX12_next_3 23 rfl rfl)
theorem dX12_next_93 : decode cX12_next 93 = .ok (.iadd, 1) := dk_96 (dk_at dksX12_next_4 0 rfl rfl)
theorem dX12_next_94 : decode cX12_next 94 = .ok (.putfield 23, 3) := dk_181 0 23 (dk_at dksX12_next_4 1 rfl rfl)
theorem dX12_next_97 : decode cX12_next 97 = .ok (.goto (-36), 3) := dk_167 255 220 (dk_at dksX12_next_4 4 rfl rfl)
theorem dX12_next_100 : decode cX12_next 100 = .ok (.aload_n 0, 1) := dk_42 (dk_at dksX12_next_4 7 rfl rfl)
theorem dX12_next_101 : decode cX12_next 101 = .ok (.aload_n 1, 1) := dk_43 (dk_at dksX12_next_4 8 rfl rfl)
theorem dX12_next_102 : decode cX12_next 102 = .ok (.invokevirtual 47, 3) := dk_182 0 47 (dk_at dksX12_next_4 9 rfl rfl)
theorem dX12_next_105 : decode cX12_next 105 = .ok (.putfield 33, 3) := dk_181 0 33 (dk_at dksX12_next_4 12 rfl rfl)
theorem dX12_next_108 : decode cX12_next 108 = .ok (.goto 116, 3) := dk_167 0 116 (dk_at dksX12_next_4 15 rfl rfl)
theorem dX12_next_111 : decode cX12_next 111 = .ok (.aload_n 0, 1) := dk_42 (dk_at dksX12_next_4 18 rfl rfl)
theorem dX12_next_112 : decode cX12_next 112 = .ok (.bipush 48, 2) := dk_16 48 (dk_at dksX12_next_4 19 rfl rfl)
theorem dX12_next_114 : decode cX12_next 114 = .ok (.bipush 57, 2) := dk_16 57 (dk_at dksX12_next_4 21 rfl rfl)
theorem dX12_next_116 : decode cX12_next 116 = .ok (.invokevirtual 26, 3) := dk_182 0 26 (dk_at dksX12_next_5 0 rfl rfl)
theorem dX12_next_119 : decode cX12_next 119 = .ok (.ifCond .eq 78, 3) := dk_153 0 78 (dk_at dksX12_next_5 3 rfl rfl)
theorem dX12_next_122 : decode cX12_next 122 = .ok (.iconst 0, 1) := dk_3 (dk_at dksX12_next_5 6 rfl rfl)
theorem dX12_next_123 : decode cX12_next 123 = .ok (.istore_n 1, 1) := dk_60 (dk_at dksX12_next_5 7 rfl rfl)
theorem dX12_next_124 : decode cX12_next 124 = .ok (.aload_n 0, 1) := dk_42 (dk_at dksX12_next_5 8 rfl rfl)
theorem dX12_next_125 : decode cX12_next 125 = .ok (.bipush 48, 2) := dk_16 48 (dk_at dksX12_next_5 9 rfl rfl)
theorem dX12_next_127 : decode cX12_next 127 = .ok (.bipush 57, 2) := dk_16 57 (dk_at dksX12_next_5 11 rfl rfl)
theorem dX12_next_129 : decode cX12_next 129 = .ok (.invokevirtual 26, 3) := dk_182 0 26 (dk_at dksX12_next_5 13 rfl rfl)
theorem dX12_next_132 : decode cX12_next 132 = .ok (.ifCond .eq 39, 3) := dk_153 0 39 (dk_at dksX12_next_5 16 rfl rfl)
theorem dX12_next_135 : decode cX12_next 135 = .ok (.bipush 100, 2) := dk_16 100 (dk_at dksX12_next_5 19 rfl rfl)
theorem dX12_next_137 : decode cX12_next 137 = .ok (.bipush 10, 2) := dk_16 10 (dk_at dksX12_next_5 21 rfl rfl)
theorem dX12_next_139 : decode cX12_next 139 = .ok (.iload_n 1, 1) := dk_27 (dk_at dksX12_next_5 23 rfl rfl)
theorem dX12_next_140 : decode cX12_next 140 = .ok (.imul, 1) := dk_104 (dk_at dksX12_next_6 0 rfl rfl)
theorem dX12_next_141 : decode cX12_next 141 = .ok (.aload_n 0, 1) := dk_42 (dk_at dksX12_next_6 1 rfl rfl)
theorem dX12_next_142 : decode cX12_next 142 = .ok (.getfield 9, 3) := dk_180 0 9 (dk_at dksX12_next_6 2 rfl rfl)
theorem dX12_next_145 : decode cX12_next 145 = .ok (.aload_n 0, 1) := dk_42 (dk_at dksX12_next_6 5 rfl rfl)
theorem dX12_next_146 : decode cX12_next 146 = .ok (.getfield 23, 3) := dk_180 0 23 (dk_at dksX12_next_6 6 rfl rfl)
theorem dX12_next_149 : decode cX12_next 149 = .ok (.iaload, 1) := dk_46 (dk_at dksX12_next_6 9 rfl rfl)
theorem dX12_next_150 : decode cX12_next 150 = .ok (.iadd, 1) := dk_96 (dk_at dksX12_next_6 10 rfl rfl)
theorem dX12_next_151 : decode cX12_next 151 = .ok (.bipush 48, 2) := dk_16 48 (dk_at dksX12_next_6 11 rfl rfl)
theorem dX12_next_153 : decode cX12_next 153 = .ok (.isub, 1) := dk_100 (dk_at dksX12_next_6 13 rfl rfl)
theorem dX12_next_154 : decode cX12_next 154 = .ok (.invokestatic 51, 3) := dk_184 0 51 (dk_at dksX12_next_6 14 rfl rfl)
theorem dX12_next_157 : decode cX12_next 157 = .ok (.istore_n 1, 1) := dk_60 (dk_at dksX12_next_6 17 rfl rfl)
theorem dX12_next_158 : decode cX12_next 158 = .ok (.aload_n 0, 1) := dk_42 (dk_at dksX12_next_6 18 rfl rfl)
theorem dX12_next_159 : decode cX12_next 159 = .ok (.dup, 1) := dk_89 (dk_at dksX12_next_6 19 rfl rfl)
theorem dX12_next_160 : decode cX12_next 160 = .ok (.getfield 23, 3) := dk_180 0 23 (dk_at dksX12_next_6 20 rfl rfl)
theorem dX12_next_163 : decode cX12_next 163 = .ok (.iconst 1, 1) := dk_4 (dk_at dksX12_next_6 23 rfl rfl)
theorem dX12_next_164 : decode cX12_next 164 = .ok (.iadd, 1) := dk_96 (dk_at dksX12_next_7 0 rfl rfl)
theorem dX12_next_165 : decode cX12_next 165 = .ok (.putfield 23, 3) := dk_181 0 23 (dk_at dksX12_next_7 1 rfl rfl)
theorem dX12_next_168 : decode cX12_next 168 = .ok (.goto (-44), 3) := dk_167 255 212 (dk_at dksX12_next_7 4 rfl rfl)
theorem dX12_next_171 : decode cX12_next 171 = .ok (.aload_n 0, 1) := dk_42 (dk_at dksX12_next_7 7 rfl rfl)
theorem dX12_next_172 : decode cX12_next 172 = .ok (.aload_n 0, 1) := dk_42 (dk_at dksX12_next_7 8 rfl rfl)
theorem dX12_next_173 : decode cX12_next 173 = .ok (.getfield 23, 3) := dk_180 0 23 (dk_at dksX12_next_7 9 rfl rfl)
theorem dX12_next_176 : decode cX12_next 176 = .ok (.aload_n 0, 1) := dk_42 (dk_at dksX12_next_7 12 rfl rfl)
theorem dX12_next_177 : decode cX12_next 177 = .ok (.getfield 30, 3) := dk_180 0 30 (dk_at dksX12_next_7 13 rfl rfl)
theorem dX12_next_180 : decode cX12_next 180 = .ok (.isub, 1) := dk_100 (dk_at dksX12_next_7 16 rfl rfl)
theorem dX12_next_181 : decode cX12_next 181 = .ok (.iconst 2, 1) := dk_5 (dk_at dksX12_next_7 17 rfl rfl)
theorem dX12_next_182 : decode cX12_next 182 = .ok (.if_icmp .le 8, 3) := dk_164 0 8 (dk_at dksX12_next_7 18 rfl rfl)
theorem dX12_next_185 : decode cX12_next 185 = .ok (.bipush 100, 2) := dk_16 100 (dk_at dksX12_next_7 21 rfl rfl)
theorem dX12_next_187 : decode cX12_next 187 = .ok (.goto 4, 3) := dk_167 0 4 (dk_at dksX12_next_8 0 rfl rfl)
theorem dX12_next_190 : decode cX12_next 190 = .ok (.iload_n 1, 1) := dk_27 (dk_at dksX12_next_8 3 rfl rfl)
theorem dX12_next_191 : decode cX12_next 191 = .ok (.putfield 37, 3) := dk_181 0 37 (dk_at dksX12_next_8 4 rfl rfl)
theorem dX12_next_194 : decode cX12_next 194 = .ok (.goto 30, 3) := dk_167 0 30 (dk_at dksX12_next_8 7 rfl rfl)
theorem dX12_next_197 : decode cX12_next 197 = .ok (.aload_n 0, 1) := dk_42 (dk_at dksX12_next_8 10 rfl rfl)
theorem dX12_next_198 : decode cX12_next 198 = .ok (.bipush 59, 2) := dk_16 59 (dk_at dksX12_next_8 11 rfl rfl)
theorem dX12_next_200 : decode cX12_next 200 = .ok (.bipush 59, 2) := dk_16 59 (dk_at dksX12_next_8 13 rfl rfl)
theorem dX12_next_202 : decode cX12_next 202 = .ok (.invokevirtual 26, 3) := dk_182 0 26 (dk_at dksX12_next_8 15 rfl rfl)
theorem dX12_next_205 : decode cX12_next 205 = .ok (.ifCond .eq 19, 3) := dk_153 0 19 (dk_at dksX12_next_8 18 rfl rfl)
theorem dX12_next_208 : decode cX12_next 208 = .ok (.aload_n 0, 1) := dk_42 (dk_at dksX12_next_8 21 rfl rfl)
theorem dX12_next_209 : decode cX12_next 209 = .ok (.ldc 57, 2) := dk_18 57 (dk_at dksX12_next_8 22 rfl rfl)
theorem dX12_next_211 : decode cX12_next 211 = .ok (.putfield 33, 3) := dk_181 0 33 (dk_at dksX12_next_9 0 rfl rfl)
theorem dX12_next_214 : decode cX12_next 214 = .ok (.aload_n 0, 1) := dk_42 (dk_at dksX12_next_9 3 rfl rfl)
theorem dX12_next_215 : decode cX12_next 215 = .ok (.dup, 1) := dk_89 (dk_at dksX12_next_9 4 rfl rfl)
theorem dX12_next_216 : decode cX12_next 216 = .ok (.getfield 23, 3) := dk_180 0 23 (dk_at dksX12_next_9 5 rfl rfl)
theorem dX12_next_219 : decode cX12_next 219 = .ok (.iconst 1, 1) := dk_4 (dk_at dksX12_next_9 8 rfl rfl)
theorem dX12_next_220 : decode cX12_next 220 = .ok (.iadd, 1) := dk_96 (dk_at dksX12_next_9 9 rfl rfl)
theorem dX12_next_221 : decode cX12_next 221 = .ok (.putfield 23, 3) := dk_181 0 23 (dk_at dksX12_next_9 10 rfl rfl)
theorem dX12_next_224 : decode cX12_next 224 = .ok (.return_, 1) := dk_177 (dk_at dksX12_next_9 13 rfl rfl)
def dkwX12_isIn_1 : List UInt8 := [42, 180, 0, 9, 42, 180, 0, 23, 46, 28, 163, 0, 7, 4, 167, 0, 4, 3, 172]
abbrev dktX12_isIn_1 : List UInt8 := dkwX12_isIn_1 ++ []
def dkwX12_isIn_0 : List UInt8 := [42, 180, 0, 23, 42, 180, 0, 15, 162, 0, 33, 42, 180, 0, 9, 42, 180, 0, 23, 46, 27, 161, 0, 20]
abbrev dktX12_isIn_0 : List UInt8 := dkwX12_isIn_0 ++ dktX12_isIn_1
theorem dksX12_isIn_0 : cX12_isIn.data.toList.drop 0 = dktX12_isIn_0 := by decide +kernel
theorem dksX12_isIn_1 : cX12_isIn.data.toList.drop 24 = dktX12_isIn_1 := dk_seg dksX12_isIn_0 24 rfl rfl
theorem dX12_isIn_0 : decode cX12_isIn 0 = .ok (.aload_n 0, 1) := dk_42 (dk_at dksX12_isIn_0 0 rfl rfl)
theorem dX12_isIn_1 : decode cX12_isIn 1 = .ok (.getfield 23, 3) := dk_180 0 23 (dk_at dksX12_isIn_0 1 rfl rfl)
theorem dX12_isIn_4 : decode cX12_isIn 4 = .ok (.aload_n 0, 1) := dk_42 (dk_at dksX12_isIn_0 4 rfl rfl)
theorem dX12_isIn_5 : decode cX12_isIn 5 = .ok (.getfield 15, 3) := dk_180 0 15 (dk_at dksX12_isIn_0 5 rfl rfl)
theorem dX12_isIn_8 : decode cX12_isIn 8 = .ok (.if_icmp .ge 33, 3) := dk_162 0 33 (dk_at dksX12_isIn_0 8 rfl rfl)
theorem dX12_isIn_11 : decode cX12_isIn 11 = .ok (.aload_n 0, 1) := dk_42 (dk_at dksX12_isIn_0 11 rfl rfl)
theorem dX12_isIn_12 : decode cX12_isIn 12 = .ok (.getfield 9, 3) := dk_180 0 9 (dk_at dksX12_isIn_0 12 rfl rfl)
theorem dX12_isIn_15 : decode cX12_isIn 15 = .ok (.aload_n 0, 1) := dk_42 (dk_at dksX12_isIn_0 15 rfl rfl)
theorem dX12_isIn_16 : decode cX12_isIn 16 = .ok (.getfield 23, 3) := dk_180 0 23 (dk_at dksX12_isIn_0 16 rfl rfl)
theorem dX12_isIn_19 : decode cX12_isIn 19 = .ok (.iaload, 1) := dk_46 (dk_at dksX12_isIn_0 19 rfl rfl)
theorem dX12_isIn_20 : decode cX12_isIn 20 = .ok (.iload_n 1, 1) := dk_27 (dk_at dksX12_isIn_0 20 rfl rfl)
theorem dX12_isIn_21 : decode cX12_isIn 21 = .ok (.if_icmp .lt 20, 3) := dk_161 0 20 (dk_at dksX12_isIn_0 21 rfl rfl)
theorem dX12_isIn_24 : decode cX12_isIn 24 = .ok (.aload_n 0, 1) := dk_42 (dk_at dksX12_isIn_1 0 rfl rfl)
theorem dX12_isIn_25 : decode cX12_isIn 25 = .ok (.getfield 9, 3) := dk_180 0 9 (dk_at dksX12_isIn_1 1 rfl rfl)
theorem dX12_isIn_28 : decode cX12_isIn 28 = .ok (.aload_n 0, 1) := dk_42 (dk_at dksX12_isIn_1 4 rfl rfl)
theorem dX12_isIn_29 : decode cX12_isIn 29 = .ok (.getfield 23, 3) := dk_180 0 23 (dk_at dksX12_isIn_1 5 rfl rfl)
theorem dX12_isIn_32 : decode cX12_isIn 32 = .ok (.iaload, 1) := dk_46 (dk_at dksX12_isIn_1 8 rfl rfl)
theorem dX12_isIn_33 : decode cX12_isIn 33 = .ok (.iload_n 2, 1) := dk_28 (dk_at dksX12_isIn_1 9 rfl rfl)
theorem dX12_isIn_34 : decode cX12_isIn 34 = .ok (.if_icmp .gt 7, 3) := dk_163 0 7 (dk_at dksX12_isIn_1 10 rfl rfl)
theorem dX12_isIn_37 : decode cX12_isIn 37 = .ok (.iconst 1, 1) := dk_4 (dk_at dksX12_isIn_1 13 rfl rfl)
theorem dX12_isIn_38 : decode cX12_isIn 38 = .ok (.goto 4, 3) := dk_167 0 4 (dk_at dksX12_isIn_1 14 rfl rfl)
theorem dX12_isIn_41 : decode cX12_isIn 41 = .ok (.iconst 0, 1) := dk_3 (dk_at dksX12_isIn_1 17 rfl rfl)
theorem dX12_isIn_42 : decode cX12_isIn 42 = .ok (.ireturn, 1) := dk_172 (dk_at dksX12_isIn_1 18 rfl rfl)
def dkwX12_item_17 : List UInt8 := [191, 177]
abbrev dktX12_item_17 : List UInt8 := dkwX12_item_17 ++ []
def dkwX12_item_16 : List UInt8 := [62, 42, 180, 0, 19, 29, 42, 3, 16, 9, 182, 0, 91, 182, 0, 133, 87, 167, 0, 8, 42, 182, 0, 73]
abbrev dktX12_item_16 : List UInt8 := dkwX12_item_16 ++ dktX12_item_17
def dkwX12_item_15 : List UInt8 := [180, 0, 130, 7, 162, 0, 7, 4, 167, 0, 4, 3, 182, 0, 87, 42, 182, 0, 70, 42, 4, 182, 0, 114]
abbrev dktX12_item_15 : List UInt8 := dkwX12_item_15 ++ dktX12_item_16
def dkwX12_item_14 : List UInt8 := [180, 0, 19, 29, 21, 4, 42, 3, 182, 0, 114, 182, 0, 126, 87, 167, 0, 57, 42, 42, 180, 0, 19]
abbrev dktX12_item_14 : List UInt8 := dkwX12_item_14 ++ dktX12_item_15
def dkwX12_item_13 : List UInt8 := [182, 0, 87, 42, 182, 0, 70, 42, 3, 8, 182, 0, 91, 62, 42, 3, 16, 9, 182, 0, 91, 54, 4, 42]
abbrev dktX12_item_13 : List UInt8 := dkwX12_item_13 ++ dktX12_item_14
def dkwX12_item_12 : List UInt8 := [181, 0, 121, 167, 0, 117, 42, 42, 180, 0, 19, 180, 0, 123, 16, 8, 162, 0, 7, 4, 167, 0, 4, 3]
abbrev dktX12_item_12 : List UInt8 := dkwX12_item_12 ++ dktX12_item_13
def dkwX12_item_11 : List UInt8 := [3, 182, 0, 114, 3, 182, 0, 118, 167, 0, 136, 42, 182, 0, 70, 42, 180, 0, 19, 42, 4, 182, 0, 114]
abbrev dktX12_item_11 : List UInt8 := dkwX12_item_11 ++ dktX12_item_12
def dkwX12_item_10 : List UInt8 := [180, 0, 19, 42, 3, 182, 0, 114, 4, 182, 0, 118, 167, 0, 156, 42, 182, 0, 70, 42, 180, 0, 19, 42]
abbrev dktX12_item_10 : List UInt8 := dkwX12_item_10 ++ dktX12_item_11
def dkwX12_item_9 : List UInt8 := [180, 0, 19, 42, 180, 0, 37, 182, 0, 111, 153, 0, 7, 4, 167, 0, 4, 3, 182, 0, 87, 42]
abbrev dktX12_item_9 : List UInt8 := dkwX12_item_9 ++ dktX12_item_10
def dkwX12_item_8 : List UInt8 := [167, 0, 214, 42, 182, 0, 70, 42, 42, 180, 0, 19, 42, 180, 0, 37, 133, 182, 0, 77, 153, 0, 21, 42]
abbrev dktX12_item_8 : List UInt8 := dkwX12_item_8 ++ dktX12_item_9
def dkwX12_item_7 : List UInt8 := [42, 182, 0, 70, 42, 180, 0, 19, 42, 42, 180, 0, 19, 180, 0, 109, 16, 7, 182, 0, 91, 181, 0, 109]
abbrev dktX12_item_7 : List UInt8 := dkwX12_item_7 ++ dktX12_item_8
def dkwX12_item_6 : List UInt8 := [170, 0, 0, 0, 1, 15, 0, 0, 0, 0, 0, 0, 0, 5, 0, 0, 0, 38, 0, 0, 0, 65, 0, 0, 0, 123, 0, 0, 0, 143, 0, 0, 0, 162, 0, 0, 0, 222]
abbrev dktX12_item_6 : List UInt8 := dkwX12_item_6 ++ dktX12_item_7
def dkwX12_item_5 : List UInt8 := [18, 107, 182, 0, 64, 153, 0, 5, 8, 61, 28]
abbrev dktX12_item_5 : List UInt8 := dkwX12_item_5 ++ dktX12_item_6
def dkwX12_item_4 : List UInt8 := [153, 0, 33, 6, 61, 167, 0, 28, 43, 18, 105, 182, 0, 64, 153, 0, 19, 7, 61, 167, 0, 14, 43]
abbrev dktX12_item_4 : List UInt8 := dkwX12_item_4 ++ dktX12_item_5
def dkwX12_item_3 : List UInt8 := [61, 167, 0, 56, 43, 18, 101, 182, 0, 64, 153, 0, 47, 5, 61, 167, 0, 42, 43, 18, 103, 182, 0, 64]
abbrev dktX12_item_3 : List UInt8 := dkwX12_item_3 ++ dktX12_item_4
def dkwX12_item_2 : List UInt8 := [43, 18, 97, 182, 0, 64, 153, 0, 75, 3, 61, 167, 0, 70, 43, 18, 99, 182, 0, 64, 153, 0, 61, 4]
abbrev dktX12_item_2 : List UInt8 := dkwX12_item_2 ++ dktX12_item_3
def dkwX12_item_1 : List UInt8 := [171, 0, 0, 0, 138, 0, 0, 0, 6, 208, 154, 80, 54, 0, 0, 0, 127, 0, 1, 125, 186, 0, 0, 0, 71, 0, 1, 133, 171, 0, 0, 0, 85, 0, 48, 244, 223, 0, 0, 0, 99, 0, 52, 152, 160, 0, 0, 0, 113, 0, 53, 221, 87, 0, 0, 0, 57]
abbrev dktX12_item_1 : List UInt8 := dkwX12_item_1 ++ dktX12_item_2
def dkwX12_item_0 : List UInt8 := [42, 180, 0, 33, 199, 0, 8, 42, 182, 0, 73, 191, 42, 180, 0, 33, 76, 2, 61, 43, 182, 0, 93]
abbrev dktX12_item_0 : List UInt8 := dkwX12_item_0 ++ dktX12_item_1
theorem dksX12_item_0 : cX12_item.data.toList.drop 0 = dktX12_item_0 := by decide +kernel
theorem dksX12_item_1 : cX12_item.data.toList.drop 23 = dktX12_item_1 := dk_seg dksX12_item_0 23 rfl rfl
theorem dksX12_item_2 : cX12_item.data.toList.drop 80 = dktX12_item_2 := dk_seg dksX12_item_1 57 rfl rfl
theorem dksX12_item_3 : cX12_item.data.toList.drop 104 = dktX12_item_3 := dk_seg dksX12_item_2 24 rfl rfl
theorem dksX12_item_4 : cX12_item.data.toList.drop 128 = dktX12_item_4 := dk_seg dksX12_item_3 24 rfl rfl
theorem dksX12_item_5 : cX12_item.data.toList.drop 151 = dktX12_item_5 := dk_seg dksX12_item_4 23 rfl rfl
theorem dksX12_item_6 : cX12_item.data.toList.drop 162 = dktX12_item_6 := dk_seg dksX12_item_5 11 rfl rfl
theorem dksX12_item_7 : cX12_item.data.toList.drop 200 = dktX12_item_7 := dk_seg dksX12_item_6 38 rfl rfl
theorem dksX12_item_8 : cX12_item.data.toList.drop 224 = dktX12_item_8 := dk_seg dksX12_item_7 24 rfl rfl
theorem dksX12_item_9 : cX12_item.data.toList.drop 248 = dktX12_item_9 := dk_seg dksX12_item_8 24 rfl rfl
theorem dksX12_item_10 : cX12_item.data.toList.drop 270 = dktX12_item_10 := dk_seg dksX12_item_9 22 rfl rfl
theorem dksX12_item_11 : cX12_item.data.toList.drop 294 = dktX12_item_11 := dk_seg dksX12_item_10 24 rfl rfl
theorem dksX12_item_12 : cX12_item.data.toList.drop 318 = dktX12_item_12 := dk_seg dksX12_item_11 24 rfl rfl
theorem dksX12_item_13 : cX12_item.data.toList.drop 342 = dktX12_item_13 := dk_seg dksX12_item_12 24 rfl rfl
theorem dksX12_item_14 : cX12_item.data.toList.drop 366 = dktX12_item_14 := dk_seg dksX12_item_13 24 rfl rfl
theorem dksX12_item_15 : cX12_item.data.toList.drop 389 = dktX12_item_15 := dk_seg dksX12_item_14 23 rfl rfl
theorem dksX12_item_16 : cX12_item.data.toList.drop 413 = dktX12_item_16 := dk_seg dksX12_item_15 24 rfl rfl
theorem dksX12_item_17 : cX12_item.data.toList.drop 437 = dktX12_item_17 := dk_seg dksX12_item_16 24 rfl rfl
theorem dX12_item_0 : decode cX12_item 0 = .ok (.aload_n 0, 1) := dk_42 (dk_at dksX12_item_0 0 rfl rfl)
theorem dX12_item_1 : decode cX12_item 1 = .ok (.getfield 33, 3) := dk_180 0 33 (dk_at dksX12_item_0 1 rfl rfl)
theorem dX12_item_4 : decode cX12_item 4 = .ok (.ifnonnull 8, 3) := dk_199 0 8 (dk_at dksX12_item_0 4 rfl rfl)
theorem dX12_item_7 : decode cX12_item 7 = .ok (.aload_n 0, 1) := dk_42 (dk_at dksX12_item_0 7 rfl rfl)
theorem dX12_item_8 : decode cX12_item 8 = .ok (.invokevirtual 73, 3) := dk_182 0 73 (dk_at dksX12_item_0 8 rfl rfl)
theorem dX12_item_11 : decode cX12_item 11 = .ok (.athrow, 1) := dk_191 (dk_at dksX12_item_0 11 rfl rfl)
theorem dX12_item_12 : decode cX12_item 12 = .ok (.aload_n 0, 1) := dk_42 (dk_at dksX12_item_0 12 rfl rfl)
theorem dX12_item_13 : decode cX12_item 13 = .ok (.getfield 33, 3) := dk_180 0 33 (dk_at dksX12_item_0 13 rfl rfl)
theorem dX12_item_16 : decode cX12_item 16 = .ok (.astore_n 1, 1) := dk_76 (dk_at dksX12_item_0 16 rfl rfl)
theorem dX12_item_17 : decode cX12_item 17 = .ok (.iconst (-1), 1) := dk_2 (dk_at dksX12_item_0 17 rfl rfl)
theorem dX12_item_18 : decode cX12_item 18 = .ok (.istore_n 2, 1) := dk_61 (dk_at dksX12_item_0 18 rfl rfl)
theorem dX12_item_19 : decode cX12_item 19 = .ok (.aload_n 1, 1) := dk_43 (dk_at dksX12_item_0 19 rfl rfl)
theorem dX12_item_20 : decode cX12_item 20 = .ok (.invokevirtual 93, 3) := dk_182 0 93 (dk_at dksX12_item_0 20 rfl rfl)
theorem dX12_item_23 : decode cX12_item 23 = .ok (.lookupswitch 138 #[(-795193290, 127), (97722, 71), (99755, 85), (3208415, 99), (3446944, 113), (3530071, 57)], 57) := by decide +kernel
theorem dX12_item_80 : decode cX12_item 80 = .ok (.aload_n 1, 1) := dk_43 (dk_at dksX12_item_2 0 rfl rfl)
theorem dX12_item_81 : decode cX12_item 81 = .ok (.ldc 97, 2) := dk_18 97 (dk_at dksX12_item_2 1 rfl rfl)
theorem dX12_item_83 : decode cX12_item 83 = .ok (.invokevirtual 64, 3) := dk_182 0 64 (dk_at dksX12_item_2 3 rfl rfl)
theorem dX12_item_86 : decode cX12_item 86 = .ok (.ifCond .eq 75, 3) := dk_153 0 75 (dk_at dksX12_item_2 6 rfl rfl)
theorem dX12_item_89 : decode cX12_item 89 = .ok (.iconst 0, 1) := dk_3 (dk_at dksX12_item_2 9 rfl rfl)
theorem dX12_item_90 : decode cX12_item 90 = .ok (.istore_n 2, 1) := dk_61 (dk_at dksX12_item_2 10 rfl rfl)
theorem dX12_item_91 : decode cX12_item 91 = .ok (.goto 70, 3) := dk_167 0 70 (dk_at dksX12_item_2 11 rfl rfl)
theorem dX12_item_94 : decode cX12_item 94 = .ok (.aload_n 1, 1) := dk_43 (dk_at dksX12_item_2 14 rfl rfl)
theorem dX12_item_95 : decode cX12_item 95 = .ok (.ldc 99, 2) := dk_18 99 (dk_at dksX12_item_2 15 rfl rfl)
theorem dX12_item_97 : decode cX12_item 97 = .ok (.invokevirtual 64, 3) := dk_182 0 64 (dk_at dksX12_item_2 17 rfl rfl)
theorem dX12_item_100 : decode cX12_item 100 = .ok (.ifCond .eq 61, 3) := dk_153 0 61 (dk_at dksX12_item_2 20 rfl rfl)
theorem dX12_item_103 : decode cX12_item 103 = .ok (.iconst 1, 1) := dk_4 (dk_at dksX12_item_2 23 rfl rfl)
theorem dX12_item_104 : decode cX12_item 104 = .ok (.istore_n 2, 1) := dk_61 (dk_at dksX12_item_3 0 rfl rfl)
theorem dX12_item_105 : decode cX12_item 105 = .ok (.goto 56, 3) := dk_167 0 56 (dk_at dksX12_item_3 1 rfl rfl)
theorem dX12_item_108 : decode cX12_item 108 = .ok (.aload_n 1, 1) := dk_43 (dk_at dksX12_item_3 4 rfl rfl)
theorem dX12_item_109 : decode cX12_item 109 = .ok (.ldc 101, 2) := dk_18 101 (dk_at dksX12_item_3 5 rfl rfl)
theorem dX12_item_111 : decode cX12_item 111 = .ok (.invokevirtual 64, 3) := dk_182 0 64 (dk_at dksX12_item_3 7 rfl rfl)
theorem dX12_item_114 : decode cX12_item 114 = .ok (.ifCond .eq 47, 3) := dk_153 0 47 (dk_at dksX12_item_3 10 rfl rfl)
theorem dX12_item_117 : decode cX12_item 117 = .ok (.iconst 2, 1) := dk_5 (dk_at dksX12_item_3 13 rfl rfl)
theorem dX12_item_118 : decode cX12_item 118 = .ok (.istore_n 2, 1) := dk_61 (dk_at dksX12_item_3 14 rfl rfl)
theorem dX12_item_119 : decode cX12_item 119 = .ok (.goto 42, 3) := dk_167 0 42 (dk_at dksX12_item_3 15 rfl rfl)
theorem dX12_item_122 : decode cX12_item 122 = .ok (.aload_n 1, 1) := dk_43 (dk_at dksX12_item_3 18 rfl rfl)
theorem dX12_item_123 : decode cX12_item 123 = .ok (.ldc 103, 2) := dk_18 103 (dk_at dksX12_item_3 19 rfl rfl)
theorem dX12_item_125 : decode cX12_item 125 = .ok (.invokevirtual 64, 3) := dk_182 0 64 (dk_at dksX12_item_3 21 rfl rfl)
theorem dX12_item_128 : decode cX12_item 128 = .ok (.ifCond .eq 33, 3) := dk_153 0 33 (dk_at dksX12_item_4 0 rfl rfl)
theorem dX12_item_131 : decode cX12_item 131 = .ok (.iconst 3, 1) := dk_6 (dk_at dksX12_item_4 3 rfl rfl)
theorem dX12_item_132 : decode cX12_item 132 = .ok (.istore_n 2, 1) := dk_61 (dk_at dksX12_item_4 4 rfl rfl)
theorem dX12_item_133 : decode cX12_item 133 = .ok (.goto 28, 3) := dk_167 0 28 (dk_at dksX12_item_4 5 rfl rfl)
theorem dX12_item_136 : decode cX12_item 136 = .ok (.aload_n 1, 1) := dk_43 (dk_at dksX12_item_4 8 rfl rfl)
theorem dX12_item_137 : decode cX12_item 137 = .ok (.ldc 105, 2) := dk_18 105 (dk_at dksX12_item_4 9 rfl rfl)
theorem dX12_item_139 : decode cX12_item 139 = .ok (.invokevirtual 64, 3) := dk_182 0 64 (dk_at dksX12_item_4 11 rfl rfl)
theorem dX12_item_142 : decode cX12_item 142 = .ok (.ifCond .eq 19, 3) := dk_153 0 19 (dk_at dksX12_item_4 14 rfl rfl)
theorem dX12_item_145 : decode cX12_item 145 = .ok (.iconst 4, 1) := dk_7 (dk_at dksX12_item_4 17 rfl rfl)
theorem dX12_item_146 : decode cX12_item 146 = .ok (.istore_n 2, 1) := dk_61 (dk_at dksX12_item_4 18 rfl rfl)
theorem dX12_item_147 : decode cX12_item 147 = .ok (.goto 14, 3) := dk_167 0 14 (dk_at dksX12_item_4 19 rfl rfl)
theorem dX12_item_150 : decode cX12_item 150 = .ok (.aload_n 1, 1) := dk_43 (dk_at dksX12_item_4 22 rfl rfl)
theorem dX12_item_151 : decode cX12_item 151 = .ok (.ldc 107, 2) := dk_18 107 (dk_at dksX12_item_5 0 rfl rfl)
theorem dX12_item_153 : decode cX12_item 153 = .ok (.invokevirtual 64, 3) := dk_182 0 64 (dk_at dksX12_item_5 2 rfl rfl)
theorem dX12_item_156 : decode cX12_item 156 = .ok (.ifCond .eq 5, 3) := dk_153 0 5 (dk_at dksX12_item_5 5 rfl rfl)
theorem dX12_item_159 : decode cX12_item 159 = .ok (.iconst 5, 1) := dk_8 (dk_at dksX12_item_5 8 rfl rfl)
theorem dX12_item_160 : decode cX12_item 160 = .ok (.istore_n 2, 1) := dk_61 (dk_at dksX12_item_5 9 rfl rfl)
theorem dX12_item_161 : decode cX12_item 161 = .ok (.iload_n 2, 1) := dk_28 (dk_at dksX12_item_5 10 rfl rfl)
theorem dX12_item_162 : decode cX12_item 162 = .ok (.tableswitch 271 0 5 #[38, 65, 123, 143, 162, 222], 38) := by decide +kernel
theorem dX12_item_200 : decode cX12_item 200 = .ok (.aload_n 0, 1) := dk_42 (dk_at dksX12_item_7 0 rfl rfl)
theorem dX12_item_201 : decode cX12_item 201 = .ok (.invokevirtual 70, 3) := dk_182 0 70 (dk_at dksX12_item_7 1 rfl rfl)
theorem dX12_item_204 : decode cX12_item 204 = .ok (.aload_n 0, 1) := dk_42 (dk_at dksX12_item_7 4 rfl rfl)
theorem dX12_item_205 : decode cX12_item 205 = .ok (.getfield 19, 3) := dk_180 0 19 (dk_at dksX12_item_7 5 rfl rfl)
theorem dX12_item_208 : decode cX12_item 208 = .ok (.aload_n 0, 1) := dk_42 (dk_at dksX12_item_7 8 rfl rfl)
theorem dX12_item_209 : decode cX12_item 209 = .ok (.aload_n 0, 1) := dk_42 (dk_at dksX12_item_7 9 rfl rfl)
theorem dX12_item_210 : decode cX12_item 210 = .ok (.getfield 19, 3) := dk_180 0 19 (dk_at dksX12_item_7 10 rfl rfl)
theorem dX12_item_213 : decode cX12_item 213 = .ok (.getfield 109, 3) := dk_180 0 109 (dk_at dksX12_item_7 13 rfl rfl)
theorem dX12_item_216 : decode cX12_item 216 = .ok (.bipush 7, 2) := dk_16 7 (dk_at dksX12_item_7 16 rfl rfl)
theorem dX12_item_218 : decode cX12_item 218 = .ok (.invokevirtual 91, 3) := dk_182 0 91 (dk_at dksX12_item_7 18 rfl rfl)
theorem dX12_item_221 : decode cX12_item 221 = .ok (.putfield 109, 3) := dk_181 0 109 (dk_at dksX12_item_7 21 rfl rfl)
theorem dX12_item_224 : decode cX12_item 224 = .ok (.goto 214, 3) := dk_167 0 214 (dk_at dksX12_item_8 0 rfl rfl)
theorem dX12_item_227 : decode cX12_item 227 = .ok (.aload_n 0, 1) := dk_42 (dk_at dksX12_item_8 3 rfl rfl)
theorem dX12_item_228 : decode cX12_item 228 = .ok (.invokevirtual 70, 3) := dk_182 0 70 (dk_at dksX12_item_8 4 rfl rfl)
theorem dX12_item_231 : decode cX12_item 231 = .ok (.aload_n 0, 1) := dk_42 (dk_at dksX12_item_8 7 rfl rfl)
theorem dX12_item_232 : decode cX12_item 232 = .ok (.aload_n 0, 1) := dk_42 (dk_at dksX12_item_8 8 rfl rfl)
theorem dX12_item_233 : decode cX12_item 233 = .ok (.getfield 19, 3) := dk_180 0 19 (dk_at dksX12_item_8 9 rfl rfl)
theorem dX12_item_236 : decode cX12_item 236 = .ok (.aload_n 0, 1) := dk_42 (dk_at dksX12_item_8 12 rfl rfl)
theorem dX12_item_237 : decode cX12_item 237 = .ok (.getfield 37, 3) := dk_180 0 37 (dk_at dksX12_item_8 13 rfl rfl)
theorem dX12_item_240 : decode cX12_item 240 = .ok (.i2l, 1) := dk_133 (dk_at dksX12_item_8 16 rfl rfl)
theorem dX12_item_241 : decode cX12_item 241 = .ok (.invokevirtual 77, 3) := dk_182 0 77 (dk_at dksX12_item_8 17 rfl rfl)
theorem dX12_item_244 : decode cX12_item 244 = .ok (.ifCond .eq 21, 3) := dk_153 0 21 (dk_at dksX12_item_8 20 rfl rfl)
theorem dX12_item_247 : decode cX12_item 247 = .ok (.aload_n 0, 1) := dk_42 (dk_at dksX12_item_8 23 rfl rfl)
theorem dX12_item_248 : decode cX12_item 248 = .ok (.getfield 19, 3) := dk_180 0 19 (dk_at dksX12_item_9 0 rfl rfl)
theorem dX12_item_251 : decode cX12_item 251 = .ok (.aload_n 0, 1) := dk_42 (dk_at dksX12_item_9 3 rfl rfl)
theorem dX12_item_252 : decode cX12_item 252 = .ok (.getfield 37, 3) := dk_180 0 37 (dk_at dksX12_item_9 4 rfl rfl)
theorem dX12_item_255 : decode cX12_item 255 = .ok (.invokevirtual 111, 3) := dk_182 0 111 (dk_at dksX12_item_9 7 rfl rfl)
theorem dX12_item_258 : decode cX12_item 258 = .ok (.ifCond .eq 7, 3) := dk_153 0 7 (dk_at dksX12_item_9 10 rfl rfl)
theorem dX12_item_261 : decode cX12_item 261 = .ok (.iconst 1, 1) := dk_4 (dk_at dksX12_item_9 13 rfl rfl)
theorem dX12_item_262 : decode cX12_item 262 = .ok (.goto 4, 3) := dk_167 0 4 (dk_at dksX12_item_9 14 rfl rfl)
theorem dX12_item_265 : decode cX12_item 265 = .ok (.iconst 0, 1) := dk_3 (dk_at dksX12_item_9 17 rfl rfl)
theorem dX12_item_266 : decode cX12_item 266 = .ok (.invokevirtual 87, 3) := dk_182 0 87 (dk_at dksX12_item_9 18 rfl rfl)
theorem dX12_item_269 : decode cX12_item 269 = .ok (.aload_n 0, 1) := dk_42 (dk_at dksX12_item_9 21 rfl rfl)
theorem dX12_item_270 : decode cX12_item 270 = .ok (.getfield 19, 3) := dk_180 0 19 (dk_at dksX12_item_10 0 rfl rfl)
theorem dX12_item_273 : decode cX12_item 273 = .ok (.aload_n 0, 1) := dk_42 (dk_at dksX12_item_10 3 rfl rfl)
theorem dX12_item_274 : decode cX12_item 274 = .ok (.iconst 0, 1) := dk_3 (dk_at dksX12_item_10 4 rfl rfl)
theorem dX12_item_275 : decode cX12_item 275 = .ok (.invokevirtual 114, 3) := dk_182 0 114 (dk_at dksX12_item_10 5 rfl rfl)
theorem dX12_item_278 : decode cX12_item 278 = .ok (.iconst 1, 1) := dk_4 (dk_at dksX12_item_10 8 rfl rfl)
theorem dX12_item_279 : decode cX12_item 279 = .ok (.invokevirtual 118, 3) := dk_182 0 118 (dk_at dksX12_item_10 9 rfl rfl)
theorem dX12_item_282 : decode cX12_item 282 = .ok (.goto 156, 3) := dk_167 0 156 (dk_at dksX12_item_10 12 rfl rfl)
theorem dX12_item_285 : decode cX12_item 285 = .ok (.aload_n 0, 1) := dk_42 (dk_at dksX12_item_10 15 rfl rfl)
theorem dX12_item_286 : decode cX12_item 286 = .ok (.invokevirtual 70, 3) := dk_182 0 70 (dk_at dksX12_item_10 16 rfl rfl)
theorem dX12_item_289 : decode cX12_item 289 = .ok (.aload_n 0, 1) := dk_42 (dk_at dksX12_item_10 19 rfl rfl)
theorem dX12_item_290 : decode cX12_item 290 = .ok (.getfield 19, 3) := dk_180 0 19 (dk_at dksX12_item_10 20 rfl rfl)
theorem dX12_item_293 : decode cX12_item 293 = .ok (.aload_n 0, 1) := dk_42 (dk_at dksX12_item_10 23 rfl rfl)
theorem dX12_item_294 : decode cX12_item 294 = .ok (.iconst 0, 1) := dk_3 (dk_at dksX12_item_11 0 rfl rfl)
theorem dX12_item_295 : decode cX12_item 295 = .ok (.invokevirtual 114, 3) := dk_182 0 114 (dk_at dksX12_item_11 1 rfl rfl)
theorem dX12_item_298 : decode cX12_item 298 = .ok (.iconst 0, 1) := dk_3 (dk_at dksX12_item_11 4 rfl rfl)
theorem dX12_item_299 : decode cX12_item 299 = .ok (.invokevirtual 118, 3) := dk_182 0 118 (dk_at dksX12_item_11 5 rfl rfl)
theorem dX12_item_302 : decode cX12_item 302 = .ok (.goto 136, 3) := dk_167 0 136 (dk_at dksX12_item_11 8 rfl rfl)
theorem dX12_item_305 : decode cX12_item 305 = .ok (.aload_n 0, 1) := dk_42 (dk_at dksX12_item_11 11 rfl rfl)
theorem dX12_item_306 : decode cX12_item 306 = .ok (.invokevirtual 70, 3) := dk_182 0 70 (dk_at dksX12_item_11 12 rfl rfl)
theorem dX12_item_309 : decode cX12_item 309 = .ok (.aload_n 0, 1) := dk_42 (dk_at dksX12_item_11 15 rfl rfl)
theorem dX12_item_310 : decode cX12_item 310 = .ok (.getfield 19, 3) := dk_180 0 19 (dk_at dksX12_item_11 16 rfl rfl)
theorem dX12_item_313 : decode cX12_item 313 = .ok (.aload_n 0, 1) := dk_42 (dk_at dksX12_item_11 19 rfl rfl)
theorem dX12_item_314 : decode cX12_item 314 = .ok (.iconst 1, 1) := dk_4 (dk_at dksX12_item_11 20 rfl rfl)
theorem dX12_item_315 : decode cX12_item 315 = .ok (.invokevirtual 114, 3) := dk_182 0 114 (dk_at dksX12_item_11 21 rfl rfl)
theorem dX12_item_318 : decode cX12_item 318 = .ok (.putfield 121, 3) := dk_181 0 121 (dk_at dksX12_item_12 0 rfl rfl)
theorem dX12_item_321 : decode cX12_item 321 = .ok (.goto 117, 3) := dk_167 0 117 (dk_at dksX12_item_12 3 rfl rfl)
theorem dX12_item_324 : decode cX12_item 324 = .ok (.aload_n 0, 1) := dk_42 (dk_at dksX12_item_12 6 rfl rfl)
theorem dX12_item_325 : decode cX12_item 325 = .ok (.aload_n 0, 1) := dk_42 (dk_at dksX12_item_12 7 rfl rfl)
theorem dX12_item_326 : decode cX12_item 326 = .ok (.getfield 19, 3) := dk_180 0 19 (dk_at dksX12_item_12 8 rfl rfl)
theorem dX12_item_329 : decode cX12_item 329 = .ok (.getfield 123, 3) := dk_180 0 123 (dk_at dksX12_item_12 11 rfl rfl)
theorem dX12_item_332 : decode cX12_item 332 = .ok (.bipush 8, 2) := dk_16 8 (dk_at dksX12_item_12 14 rfl rfl)
theorem dX12_item_334 : decode cX12_item 334 = .ok (.if_icmp .ge 7, 3) := dk_162 0 7 (dk_at dksX12_item_12 16 rfl rfl)
theorem dX12_item_337 : decode cX12_item 337 = .ok (.iconst 1, 1) := dk_4 (dk_at dksX12_item_12 19 rfl rfl)
theorem dX12_item_338 : decode cX12_item 338 = .ok (.goto 4, 3) := dk_167 0 4 (dk_at dksX12_item_12 20 rfl rfl)
theorem dX12_item_341 : decode cX12_item 341 = .ok (.iconst 0, 1) := dk_3 (dk_at dksX12_item_12 23 rfl rfl)
theorem dX12_item_342 : decode cX12_item 342 = .ok (.invokevirtual 87, 3) := dk_182 0 87 (dk_at dksX12_item_13 0 rfl rfl)
theorem dX12_item_345 : decode cX12_item 345 = .ok (.aload_n 0, 1) := dk_42 (dk_at dksX12_item_13 3 rfl rfl)
theorem dX12_item_346 : decode cX12_item 346 = .ok (.invokevirtual 70, 3) := dk_182 0 70 (dk_at dksX12_item_13 4 rfl rfl)
theorem dX12_item_349 : decode cX12_item 349 = .ok (.aload_n 0, 1) := dk_42 (dk_at dksX12_item_13 7 rfl rfl)
theorem dX12_item_350 : decode cX12_item 350 = .ok (.iconst 0, 1) := dk_3 (dk_at dksX12_item_13 8 rfl rfl)
theorem dX12_item_351 : decode cX12_item 351 = .ok (.iconst 5, 1) := dk_8 (dk_at dksX12_item_13 9 rfl rfl)
theorem dX12_item_352 : decode cX12_item 352 = .ok (.invokevirtual 91, 3) := dk_182 0 91 (dk_at dksX12_item_13 10 rfl rfl)
theorem dX12_item_355 : decode cX12_item 355 = .ok (.istore_n 3, 1) := dk_62 (dk_at dksX12_item_13 13 rfl rfl)
theorem dX12_item_356 : decode cX12_item 356 = .ok (.aload_n 0, 1) := dk_42 (dk_at dksX12_item_13 14 rfl rfl)
theorem dX12_item_357 : decode cX12_item 357 = .ok (.iconst 0, 1) := dk_3 (dk_at dksX12_item_13 15 rfl rfl)
theorem dX12_item_358 : decode cX12_item 358 = .ok (.bipush 9, 2) := dk_16 9 (dk_at dksX12_item_13 16 rfl rfl)
theorem dX12_item_360 : decode cX12_item 360 = .ok (.invokevirtual 91, 3) := dk_182 0 91 (dk_at dksX12_item_13 18 rfl rfl)
theorem dX12_item_363 : decode cX12_item 363 = .ok (.istore 4, 2) := dk_54 4 (dk_at dksX12_item_13 21 rfl rfl)
theorem dX12_item_365 : decode cX12_item 365 = .ok (.aload_n 0, 1) := dk_42 (dk_at dksX12_item_13 23 rfl rfl)
theorem dX12_item_366 : decode cX12_item 366 = .ok (.getfield 19, 3) := dk_180 0 19 (dk_at dksX12_item_14 0 rfl rfl)
theorem dX12_item_369 : decode cX12_item 369 = .ok (.iload_n 3, 1) := dk_29 (dk_at dksX12_item_14 3 rfl rfl)
theorem dX12_item_370 : decode cX12_item 370 = .ok (.iload 4, 2) := dk_21 4 (dk_at dksX12_item_14 4 rfl rfl)
theorem dX12_item_372 : decode cX12_item 372 = .ok (.aload_n 0, 1) := dk_42 (dk_at dksX12_item_14 6 rfl rfl)
theorem dX12_item_373 : decode cX12_item 373 = .ok (.iconst 0, 1) := dk_3 (dk_at dksX12_item_14 7 rfl rfl)
theorem dX12_item_374 : decode cX12_item 374 = .ok (.invokevirtual 114, 3) := dk_182 0 114 (dk_at dksX12_item_14 8 rfl rfl)
theorem dX12_item_377 : decode cX12_item 377 = .ok (.invokevirtual 126, 3) := dk_182 0 126 (dk_at dksX12_item_14 11 rfl rfl)
theorem dX12_item_380 : decode cX12_item 380 = .ok (.pop, 1) := dk_87 (dk_at dksX12_item_14 14 rfl rfl)
theorem dX12_item_381 : decode cX12_item 381 = .ok (.goto 57, 3) := dk_167 0 57 (dk_at dksX12_item_14 15 rfl rfl)
theorem dX12_item_384 : decode cX12_item 384 = .ok (.aload_n 0, 1) := dk_42 (dk_at dksX12_item_14 18 rfl rfl)
theorem dX12_item_385 : decode cX12_item 385 = .ok (.aload_n 0, 1) := dk_42 (dk_at dksX12_item_14 19 rfl rfl)
theorem dX12_item_386 : decode cX12_item 386 = .ok (.getfield 19, 3) := dk_180 0 19 (dk_at dksX12_item_14 20 rfl rfl)
theorem dX12_item_389 : decode cX12_item 389 = .ok (.getfield 130, 3) := dk_180 0 130 (dk_at dksX12_item_15 0 rfl rfl)
theorem dX12_item_392 : decode cX12_item 392 = .ok (.iconst 4, 1) := dk_7 (dk_at dksX12_item_15 3 rfl rfl)
theorem dX12_item_393 : decode cX12_item 393 = .ok (.if_icmp .ge 7, 3) := dk_162 0 7 (dk_at dksX12_item_15 4 rfl rfl)
theorem dX12_item_396 : decode cX12_item 396 = .ok (.iconst 1, 1) := dk_4 (dk_at dksX12_item_15 7 rfl rfl)
theorem dX12_item_397 : decode cX12_item 397 = .ok (.goto 4, 3) := dk_167 0 4 (dk_at dksX12_item_15 8 rfl rfl)
theorem dX12_item_400 : decode cX12_item 400 = .ok (.iconst 0, 1) := dk_3 (dk_at dksX12_item_15 11 rfl rfl)
theorem dX12_item_401 : decode cX12_item 401 = .ok (.invokevirtual 87, 3) := dk_182 0 87 (dk_at dksX12_item_15 12 rfl rfl)
theorem dX12_item_404 : decode cX12_item 404 = .ok (.aload_n 0, 1) := dk_42 (dk_at dksX12_item_15 15 rfl rfl)
theorem dX12_item_405 : decode cX12_item 405 = .ok (.invokevirtual 70, 3) := dk_182 0 70 (dk_at dksX12_item_15 16 rfl rfl)
theorem dX12_item_408 : decode cX12_item 408 = .ok (.aload_n 0, 1) := dk_42 (dk_at dksX12_item_15 19 rfl rfl)
theorem dX12_item_409 : decode cX12_item 409 = .ok (.iconst 1, 1) := dk_4 (dk_at dksX12_item_15 20 rfl rfl)
theorem dX12_item_410 : decode cX12_item 410 = .ok (.invokevirtual 114, 3) := dk_182 0 114 (dk_at dksX12_item_15 21 rfl rfl)
theorem dX12_item_413 : decode cX12_item 413 = .ok (.istore_n 3, 1) := dk_62 (dk_at dksX12_item_16 0 rfl rfl)
theorem dX12_item_414 : decode cX12_item 414 = .ok (.aload_n 0, 1) := dk_42 (dk_at dksX12_item_16 1 rfl rfl)
theorem dX12_item_415 : decode cX12_item 415 = .ok (.getfield 19, 3) := dk_180 0 19 (dk_at dksX12_item_16 2 rfl rfl)
theorem dX12_item_418 : decode cX12_item 418 = .ok (.iload_n 3, 1) := dk_29 (dk_at dksX12_item_16 5 rfl rfl)
theorem dX12_item_419 : decode cX12_item 419 = .ok (.aload_n 0, 1) := dk_42 (dk_at dksX12_item_16 6 rfl rfl)
theorem dX12_item_420 : decode cX12_item 420 = .ok (.iconst 0, 1) := dk_3 (dk_at dksX12_item_16 7 rfl rfl)
theorem dX12_item_421 : decode cX12_item 421 = .ok (.bipush 9, 2) := dk_16 9 (dk_at dksX12_item_16 8 rfl rfl)
theorem dX12_item_423 : decode cX12_item 423 = .ok (.invokevirtual 91, 3) := dk_182 0 91 (dk_at dksX12_item_16 10 rfl rfl)
theorem dX12_item_426 : decode cX12_item 426 = .ok (.invokevirtual 133, 3) := dk_182 0 133 (dk_at dksX12_item_16 13 rfl rfl)
theorem dX12_item_429 : decode cX12_item 429 = .ok (.pop, 1) := dk_87 (dk_at dksX12_item_16 16 rfl rfl)
theorem dX12_item_430 : decode cX12_item 430 = .ok (.goto 8, 3) := dk_167 0 8 (dk_at dksX12_item_16 17 rfl rfl)
theorem dX12_item_433 : decode cX12_item 433 = .ok (.aload_n 0, 1) := dk_42 (dk_at dksX12_item_16 20 rfl rfl)
theorem dX12_item_434 : decode cX12_item 434 = .ok (.invokevirtual 73, 3) := dk_182 0 73 (dk_at dksX12_item_16 21 rfl rfl)
theorem dX12_item_437 : decode cX12_item 437 = .ok (.athrow, 1) := dk_191 (dk_at dksX12_item_17 0 rfl rfl)
theorem dX12_item_438 : decode cX12_item 438 = .ok (.return_, 1) := dk_177 (dk_at dksX12_item_17 1 rfl rfl)
def dkwX12_wrong_0 : List UInt8 := [187, 0, 59, 89, 42, 180, 0, 30, 183, 0, 61, 176]
abbrev dktX12_wrong_0 : List UInt8 := dkwX12_wrong_0 ++ []
theorem dksX12_wrong_0 : cX12_wrong.data.toList.drop 0 = dktX12_wrong_0 := by decide +kernel
theorem dX12_wrong_0 : decode cX12_wrong 0 = .ok (.new 59, 3) := dk_187 0 59 (dk_at dksX12_wrong_0 0 rfl rfl)
theorem dX12_wrong_3 : decode cX12_wrong 3 = .ok (.dup, 1) := dk_89 (dk_at dksX12_wrong_0 3 rfl rfl)
theorem dX12_wrong_4 : decode cX12_wrong 4 = .ok (.aload_n 0, 1) := dk_42 (dk_at dksX12_wrong_0 4 rfl rfl)
theorem dX12_wrong_5 : decode cX12_wrong 5 = .ok (.getfield 30, 3) := dk_180 0 30 (dk_at dksX12_wrong_0 5 rfl rfl)
theorem dX12_wrong_8 : decode cX12_wrong 8 = .ok (.invokespecial 61, 3) := dk_183 0 61 (dk_at dksX12_wrong_0 8 rfl rfl)
theorem dX12_wrong_11 : decode cX12_wrong 11 = .ok (.areturn, 1) := dk_176 (dk_at dksX12_wrong_0 11 rfl rfl)
def dkwX12_number_1 : List UInt8 := [180, 0, 37, 62, 42, 182, 0, 70, 29, 172]
abbrev dktX12_number_1 : List UInt8 := dkwX12_number_1 ++ []
def dkwX12_number_0 : List UInt8 := [42, 180, 0, 37, 27, 161, 0, 11, 42, 180, 0, 37, 28, 164, 0, 8, 42, 182, 0, 73, 191, 42]
abbrev dktX12_number_0 : List UInt8 := dkwX12_number_0 ++ dktX12_number_1
theorem dksX12_number_0 : cX12_number.data.toList.drop 0 = dktX12_number_0 := by decide +kernel
theorem dksX12_number_1 : cX12_number.data.toList.drop 22 = dktX12_number_1 := dk_seg dksX12_number_0 22 rfl rfl
theorem dX12_number_0 : decode cX12_number 0 = .ok (.aload_n 0, 1) := dk_42 (dk_at dksX12_number_0 0 rfl rfl)
theorem dX12_number_1 : decode cX12_number 1 = .ok (.getfield 37, 3) := dk_180 0 37 (dk_at dksX12_number_0 1 rfl rfl)
theorem dX12_number_4 : decode cX12_number 4 = .ok (.iload_n 1, 1) := dk_27 (dk_at dksX12_number_0 4 rfl rfl)
theorem dX12_number_5 : decode cX12_number 5 = .ok (.if_icmp .lt 11, 3) := dk_161 0 11 (dk_at dksX12_number_0 5 rfl rfl)
theorem dX12_number_8 : decode cX12_number 8 = .ok (.aload_n 0, 1) := dk_42 (dk_at dksX12_number_0 8 rfl rfl)
theorem dX12_number_9 : decode cX12_number 9 = .ok (.getfield 37, 3) := dk_180 0 37 (dk_at dksX12_number_0 9 rfl rfl)
theorem dX12_number_12 : decode cX12_number 12 = .ok (.iload_n 2, 1) := dk_28 (dk_at dksX12_number_0 12 rfl rfl)
theorem dX12_number_13 : decode cX12_number 13 = .ok (.if_icmp .le 8, 3) := dk_164 0 8 (dk_at dksX12_number_0 13 rfl rfl)
theorem dX12_number_16 : decode cX12_number 16 = .ok (.aload_n 0, 1) := dk_42 (dk_at dksX12_number_0 16 rfl rfl)
theorem dX12_number_17 : decode cX12_number 17 = .ok (.invokevirtual 73, 3) := dk_182 0 73 (dk_at dksX12_number_0 17 rfl rfl)
theorem dX12_number_20 : decode cX12_number 20 = .ok (.athrow, 1) := dk_191 (dk_at dksX12_number_0 20 rfl rfl)
theorem dX12_number_21 : decode cX12_number 21 = .ok (.aload_n 0, 1) := dk_42 (dk_at dksX12_number_0 21 rfl rfl)
theorem dX12_number_22 : decode cX12_number 22 = .ok (.getfield 37, 3) := dk_180 0 37 (dk_at dksX12_number_1 0 rfl rfl)
theorem dX12_number_25 : decode cX12_number 25 = .ok (.istore_n 3, 1) := dk_62 (dk_at dksX12_number_1 3 rfl rfl)
theorem dX12_number_26 : decode cX12_number 26 = .ok (.aload_n 0, 1) := dk_42 (dk_at dksX12_number_1 4 rfl rfl)
theorem dX12_number_27 : decode cX12_number 27 = .ok (.invokevirtual 70, 3) := dk_182 0 70 (dk_at dksX12_number_1 5 rfl rfl)
theorem dX12_number_30 : decode cX12_number 30 = .ok (.iload_n 3, 1) := dk_29 (dk_at dksX12_number_1 8 rfl rfl)
theorem dX12_number_31 : decode cX12_number 31 = .ok (.ireturn, 1) := dk_172 (dk_at dksX12_number_1 9 rfl rfl)
def dkwX12_need_0 : List UInt8 := [27, 154, 0, 8, 42, 182, 0, 73, 191, 177]
abbrev dktX12_need_0 : List UInt8 := dkwX12_need_0 ++ []
theorem dksX12_need_0 : cX12_need.data.toList.drop 0 = dktX12_need_0 := by decide +kernel
theorem dX12_need_0 : decode cX12_need 0 = .ok (.iload_n 1, 1) := dk_27 (dk_at dksX12_need_0 0 rfl rfl)
theorem dX12_need_1 : decode cX12_need 1 = .ok (.ifCond .ne 8, 3) := dk_154 0 8 (dk_at dksX12_need_0 1 rfl rfl)
theorem dX12_need_4 : decode cX12_need 4 = .ok (.aload_n 0, 1) := dk_42 (dk_at dksX12_need_0 4 rfl rfl)
theorem dX12_need_5 : decode cX12_need 5 = .ok (.invokevirtual 73, 3) := dk_182 0 73 (dk_at dksX12_need_0 5 rfl rfl)
theorem dX12_need_8 : decode cX12_need 8 = .ok (.athrow, 1) := dk_191 (dk_at dksX12_need_0 8 rfl rfl)
theorem dX12_need_9 : decode cX12_need 9 = .ok (.return_, 1) := dk_177 (dk_at dksX12_need_0 9 rfl rfl)
def dkwX12_cell_2 : List UInt8 := [182, 0, 91, 172]
abbrev dktX12_cell_2 : List UInt8 := dkwX12_cell_2 ++ []
def dkwX12_cell_1 : List UInt8 := [42, 180, 0, 37, 182, 0, 83, 154, 0, 7, 4, 167, 0, 4, 3, 182, 0, 87, 42, 3, 16, 70]
abbrev dktX12_cell_1 : List UInt8 := dkwX12_cell_1 ++ dktX12_cell_2
def dkwX12_cell_0 : List UInt8 := [42, 42, 180, 0, 19, 42, 180, 0, 37, 133, 182, 0, 77, 153, 0, 25, 27, 153, 0, 17, 42, 180, 0, 19]
abbrev dktX12_cell_0 : List UInt8 := dkwX12_cell_0 ++ dktX12_cell_1
theorem dksX12_cell_0 : cX12_cell.data.toList.drop 0 = dktX12_cell_0 := by decide +kernel
theorem dksX12_cell_1 : cX12_cell.data.toList.drop 24 = dktX12_cell_1 := dk_seg dksX12_cell_0 24 rfl rfl
theorem dksX12_cell_2 : cX12_cell.data.toList.drop 46 = dktX12_cell_2 := dk_seg dksX12_cell_1 22 rfl rfl
theorem dX12_cell_0 : decode cX12_cell 0 = .ok (.aload_n 0, 1) := dk_42 (dk_at dksX12_cell_0 0 rfl rfl)
theorem dX12_cell_1 : decode cX12_cell 1 = .ok (.aload_n 0, 1) := dk_42 (dk_at dksX12_cell_0 1 rfl rfl)
theorem dX12_cell_2 : decode cX12_cell 2 = .ok (.getfield 19, 3) := dk_180 0 19 (dk_at dksX12_cell_0 2 rfl rfl)
theorem dX12_cell_5 : decode cX12_cell 5 = .ok (.aload_n 0, 1) := dk_42 (dk_at dksX12_cell_0 5 rfl rfl)
theorem dX12_cell_6 : decode cX12_cell 6 = .ok (.getfield 37, 3) := dk_180 0 37 (dk_at dksX12_cell_0 6 rfl rfl)
theorem dX12_cell_9 : decode cX12_cell 9 = .ok (.i2l, 1) := dk_133 (dk_at dksX12_cell_0 9 rfl rfl)
theorem dX12_cell_10 : decode cX12_cell 10 = .ok (.invokevirtual 77, 3) := dk_182 0 77 (dk_at dksX12_cell_0 10 rfl rfl)
theorem dX12_cell_13 : decode cX12_cell 13 = .ok (.ifCond .eq 25, 3) := dk_153 0 25 (dk_at dksX12_cell_0 13 rfl rfl)
theorem dX12_cell_16 : decode cX12_cell 16 = .ok (.iload_n 1, 1) := dk_27 (dk_at dksX12_cell_0 16 rfl rfl)
theorem dX12_cell_17 : decode cX12_cell 17 = .ok (.ifCond .eq 17, 3) := dk_153 0 17 (dk_at dksX12_cell_0 17 rfl rfl)
theorem dX12_cell_20 : decode cX12_cell 20 = .ok (.aload_n 0, 1) := dk_42 (dk_at dksX12_cell_0 20 rfl rfl)
theorem dX12_cell_21 : decode cX12_cell 21 = .ok (.getfield 19, 3) := dk_180 0 19 (dk_at dksX12_cell_0 21 rfl rfl)
theorem dX12_cell_24 : decode cX12_cell 24 = .ok (.aload_n 0, 1) := dk_42 (dk_at dksX12_cell_1 0 rfl rfl)
theorem dX12_cell_25 : decode cX12_cell 25 = .ok (.getfield 37, 3) := dk_180 0 37 (dk_at dksX12_cell_1 1 rfl rfl)
theorem dX12_cell_28 : decode cX12_cell 28 = .ok (.invokevirtual 83, 3) := dk_182 0 83 (dk_at dksX12_cell_1 4 rfl rfl)
theorem dX12_cell_31 : decode cX12_cell 31 = .ok (.ifCond .ne 7, 3) := dk_154 0 7 (dk_at dksX12_cell_1 7 rfl rfl)
theorem dX12_cell_34 : decode cX12_cell 34 = .ok (.iconst 1, 1) := dk_4 (dk_at dksX12_cell_1 10 rfl rfl)
theorem dX12_cell_35 : decode cX12_cell 35 = .ok (.goto 4, 3) := dk_167 0 4 (dk_at dksX12_cell_1 11 rfl rfl)
theorem dX12_cell_38 : decode cX12_cell 38 = .ok (.iconst 0, 1) := dk_3 (dk_at dksX12_cell_1 14 rfl rfl)
theorem dX12_cell_39 : decode cX12_cell 39 = .ok (.invokevirtual 87, 3) := dk_182 0 87 (dk_at dksX12_cell_1 15 rfl rfl)
theorem dX12_cell_42 : decode cX12_cell 42 = .ok (.aload_n 0, 1) := dk_42 (dk_at dksX12_cell_1 18 rfl rfl)
theorem dX12_cell_43 : decode cX12_cell 43 = .ok (.iconst 0, 1) := dk_3 (dk_at dksX12_cell_1 19 rfl rfl)
theorem dX12_cell_44 : decode cX12_cell 44 = .ok (.bipush 70, 2) := dk_16 70 (dk_at dksX12_cell_1 20 rfl rfl)
theorem dX12_cell_46 : decode cX12_cell 46 = .ok (.invokevirtual 91, 3) := dk_182 0 91 (dk_at dksX12_cell_2 0 rfl rfl)
theorem dX12_cell_49 : decode cX12_cell 49 = .ok (.ireturn, 1) := dk_172 (dk_at dksX12_cell_2 3 rfl rfl)
def dkwX12_takes_1 : List UInt8 := [4, 172]
abbrev dktX12_takes_1 : List UInt8 := dkwX12_takes_1 ++ []
def dkwX12_takes_0 : List UInt8 := [42, 180, 0, 33, 198, 0, 14, 42, 180, 0, 33, 43, 182, 0, 64, 154, 0, 5, 3, 172, 42, 182, 0, 70]
abbrev dktX12_takes_0 : List UInt8 := dkwX12_takes_0 ++ dktX12_takes_1
theorem dksX12_takes_0 : cX12_takes.data.toList.drop 0 = dktX12_takes_0 := by decide +kernel
theorem dksX12_takes_1 : cX12_takes.data.toList.drop 24 = dktX12_takes_1 := dk_seg dksX12_takes_0 24 rfl rfl
theorem dX12_takes_0 : decode cX12_takes 0 = .ok (.aload_n 0, 1) := dk_42 (dk_at dksX12_takes_0 0 rfl rfl)
theorem dX12_takes_1 : decode cX12_takes 1 = .ok (.getfield 33, 3) := dk_180 0 33 (dk_at dksX12_takes_0 1 rfl rfl)
theorem dX12_takes_4 : decode cX12_takes 4 = .ok (.ifnull 14, 3) := dk_198 0 14 (dk_at dksX12_takes_0 4 rfl rfl)
theorem dX12_takes_7 : decode cX12_takes 7 = .ok (.aload_n 0, 1) := dk_42 (dk_at dksX12_takes_0 7 rfl rfl)
theorem dX12_takes_8 : decode cX12_takes 8 = .ok (.getfield 33, 3) := dk_180 0 33 (dk_at dksX12_takes_0 8 rfl rfl)
theorem dX12_takes_11 : decode cX12_takes 11 = .ok (.aload_n 1, 1) := dk_43 (dk_at dksX12_takes_0 11 rfl rfl)
theorem dX12_takes_12 : decode cX12_takes 12 = .ok (.invokevirtual 64, 3) := dk_182 0 64 (dk_at dksX12_takes_0 12 rfl rfl)
theorem dX12_takes_15 : decode cX12_takes 15 = .ok (.ifCond .ne 5, 3) := dk_154 0 5 (dk_at dksX12_takes_0 15 rfl rfl)
theorem dX12_takes_18 : decode cX12_takes 18 = .ok (.iconst 0, 1) := dk_3 (dk_at dksX12_takes_0 18 rfl rfl)
theorem dX12_takes_19 : decode cX12_takes 19 = .ok (.ireturn, 1) := dk_172 (dk_at dksX12_takes_0 19 rfl rfl)
theorem dX12_takes_20 : decode cX12_takes 20 = .ok (.aload_n 0, 1) := dk_42 (dk_at dksX12_takes_0 20 rfl rfl)
theorem dX12_takes_21 : decode cX12_takes 21 = .ok (.invokevirtual 70, 3) := dk_182 0 70 (dk_at dksX12_takes_0 21 rfl rfl)
theorem dX12_takes_24 : decode cX12_takes 24 = .ok (.iconst 1, 1) := dk_4 (dk_at dksX12_takes_1 0 rfl rfl)
theorem dX12_takes_25 : decode cX12_takes 25 = .ok (.ireturn, 1) := dk_172 (dk_at dksX12_takes_1 1 rfl rfl)
def dkwX13_init_0 : List UInt8 := [42, 1, 1, 3, 3, 183, 0, 1, 42, 27, 181, 0, 7, 177]
abbrev dktX13_init_0 : List UInt8 := dkwX13_init_0 ++ []
theorem dksX13_init_0 : cX13_init.data.toList.drop 0 = dktX13_init_0 := by decide +kernel
theorem dX13_init_0 : decode cX13_init 0 = .ok (.aload_n 0, 1) := dk_42 (dk_at dksX13_init_0 0 rfl rfl)
theorem dX13_init_1 : decode cX13_init 1 = .ok (.aconst_null, 1) := dk_1 (dk_at dksX13_init_0 1 rfl rfl)
theorem dX13_init_2 : decode cX13_init 2 = .ok (.aconst_null, 1) := dk_1 (dk_at dksX13_init_0 2 rfl rfl)
theorem dX13_init_3 : decode cX13_init 3 = .ok (.iconst 0, 1) := dk_3 (dk_at dksX13_init_0 3 rfl rfl)
theorem dX13_init_4 : decode cX13_init 4 = .ok (.iconst 0, 1) := dk_3 (dk_at dksX13_init_0 4 rfl rfl)
theorem dX13_init_5 : decode cX13_init 5 = .ok (.invokespecial 1, 3) := dk_183 0 1 (dk_at dksX13_init_0 5 rfl rfl)
theorem dX13_init_8 : decode cX13_init 8 = .ok (.aload_n 0, 1) := dk_42 (dk_at dksX13_init_0 8 rfl rfl)
theorem dX13_init_9 : decode cX13_init 9 = .ok (.iload_n 1, 1) := dk_27 (dk_at dksX13_init_0 9 rfl rfl)
theorem dX13_init_10 : decode cX13_init 10 = .ok (.putfield 7, 3) := dk_181 0 7 (dk_at dksX13_init_0 10 rfl rfl)
theorem dX13_init_13 : decode cX13_init 13 = .ok (.return_, 1) := dk_177 (dk_at dksX13_init_0 13 rfl rfl)
