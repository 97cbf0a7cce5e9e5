set_option maxRecDepth 100000
def dkwX4_init_7 : List UInt8 := [177]
abbrev dktX4_init_7 : List UInt8 := dkwX4_init_7 ++ []
def dkwX4_init_6 : List UInt8 := [181, 0, 64, 3, 60, 27, 16, 8, 162, 0, 16, 42, 180, 0, 32, 27, 2, 79, 132, 1, 1, 167, 255, 240]
abbrev dktX4_init_6 : List UInt8 := dkwX4_init_6 ++ dktX4_init_7
def dkwX4_init_5 : List UInt8 := [16, 67, 188, 10, 181, 0, 54, 42, 16, 67, 188, 10, 181, 0, 57, 42, 8, 181, 0, 60, 42, 4]
abbrev dktX4_init_5 : List UInt8 := dkwX4_init_5 ++ dktX4_init_6
def dkwX4_init_4 : List UInt8 := [16, 104, 188, 10, 181, 0, 45, 42, 16, 104, 188, 10, 181, 0, 48, 42, 7, 188, 10, 181, 0, 51, 42]
abbrev dktX4_init_4 : List UInt8 := dkwX4_init_4 ++ dktX4_init_5
def dkwX4_init_3 : List UInt8 := [188, 10, 181, 0, 35, 42, 17, 1, 64, 188, 11, 181, 0, 38, 42, 16, 7, 188, 10, 181, 0, 42, 42]
abbrev dktX4_init_3 : List UInt8 := dkwX4_init_3 ++ dktX4_init_4
def dkwX4_init_2 : List UInt8 := [181, 0, 26, 42, 17, 0, 250, 188, 10, 181, 0, 29, 42, 16, 8, 188, 10, 181, 0, 32, 42, 16, 8]
abbrev dktX4_init_2 : List UInt8 := dkwX4_init_2 ++ dktX4_init_3
def dkwX4_init_1 : List UInt8 := [188, 10, 181, 0, 17, 42, 16, 9, 188, 10, 181, 0, 20, 42, 7, 188, 10, 181, 0, 23, 42, 7, 188, 10]
abbrev dktX4_init_1 : List UInt8 := dkwX4_init_1 ++ dktX4_init_2
def dkwX4_init_0 : List UInt8 := [42, 183, 0, 1, 42, 16, 67, 188, 4, 181, 0, 7, 42, 16, 9, 188, 10, 181, 0, 13, 42, 16, 9]
abbrev dktX4_init_0 : List UInt8 := dkwX4_init_0 ++ dktX4_init_1
theorem dksX4_init_0 : cX4_init.data.toList.drop 0 = dktX4_init_0 := by decide +kernel
theorem dksX4_init_1 : cX4_init.data.toList.drop 23 = dktX4_init_1 := dk_seg dksX4_init_0 23 rfl rfl
theorem dksX4_init_2 : cX4_init.data.toList.drop 47 = dktX4_init_2 := dk_seg dksX4_init_1 24 rfl rfl
theorem dksX4_init_3 : cX4_init.data.toList.drop 70 = dktX4_init_3 := dk_seg dksX4_init_2 23 rfl rfl
theorem dksX4_init_4 : cX4_init.data.toList.drop 93 = dktX4_init_4 := dk_seg dksX4_init_3 23 rfl rfl
theorem dksX4_init_5 : cX4_init.data.toList.drop 116 = dktX4_init_5 := dk_seg dksX4_init_4 23 rfl rfl
theorem dksX4_init_6 : cX4_init.data.toList.drop 138 = dktX4_init_6 := dk_seg dksX4_init_5 22 rfl rfl
theorem dksX4_init_7 : cX4_init.data.toList.drop 162 = dktX4_init_7 := dk_seg dksX4_init_6 24 rfl rfl
theorem dX4_init_0 : decode cX4_init 0 = .ok (.aload_n 0, 1) := dk_42 (dk_at dksX4_init_0 0 rfl rfl)
theorem dX4_init_1 : decode cX4_init 1 = .ok (.invokespecial 1, 3) := dk_183 0 1 (dk_at dksX4_init_0 1 rfl rfl)
theorem dX4_init_4 : decode cX4_init 4 = .ok (.aload_n 0, 1) := dk_42 (dk_at dksX4_init_0 4 rfl rfl)
theorem dX4_init_5 : decode cX4_init 5 = .ok (.bipush 67, 2) := dk_16 67 (dk_at dksX4_init_0 5 rfl rfl)
theorem dX4_init_7 : decode cX4_init 7 = .ok (.newarray .boolean, 2) := dk_188_4 (dk_at dksX4_init_0 7 rfl rfl)
theorem dX4_init_9 : decode cX4_init 9 = .ok (.putfield 7, 3) := dk_181 0 7 (dk_at dksX4_init_0 9 rfl rfl)
theorem dX4_init_12 : decode cX4_init 12 = .ok (.aload_n 0, 1) := dk_42 (dk_at dksX4_init_0 12 rfl rfl)
theorem dX4_init_13 : decode cX4_init 13 = .ok (.bipush 9, 2) := dk_16 9 (dk_at dksX4_init_0 13 rfl rfl)
theorem dX4_init_15 : decode cX4_init 15 = .ok (.newarray .int, 2) := dk_188_10 (dk_at dksX4_init_0 15 rfl rfl)
theorem dX4_init_17 : decode cX4_init 17 = .ok (.putfield 13, 3) := dk_181 0 13 (dk_at dksX4_init_0 17 rfl rfl)
theorem dX4_init_20 : decode cX4_init 20 = .ok (.aload_n 0, 1) := dk_42 (dk_at dksX4_init_0 20 rfl rfl)
theorem dX4_init_21 : decode cX4_init 21 = .ok (.bipush 9, 2) := dk_16 9 (dk_at dksX4_init_0 21 rfl rfl)
theorem dX4_init_23 : decode cX4_init 23 = .ok (.newarray .int, 2) := dk_188_10 (dk_at dksX4_init_1 0 rfl rfl)
theorem dX4_init_25 : decode cX4_init 25 = .ok (.putfield 17, 3) := dk_181 0 17 (dk_at dksX4_init_1 2 rfl rfl)
theorem dX4_init_28 : decode cX4_init 28 = .ok (.aload_n 0, 1) := dk_42 (dk_at dksX4_init_1 5 rfl rfl)
theorem dX4_init_29 : decode cX4_init 29 = .ok (.bipush 9, 2) := dk_16 9 (dk_at dksX4_init_1 6 rfl rfl)
theorem dX4_init_31 : decode cX4_init 31 = .ok (.newarray .int, 2) := dk_188_10 (dk_at dksX4_init_1 8 rfl rfl)
theorem dX4_init_33 : decode cX4_init 33 = .ok (.putfield 20, 3) := dk_181 0 20 (dk_at dksX4_init_1 10 rfl rfl)
theorem dX4_init_36 : decode cX4_init 36 = .ok (.aload_n 0, 1) := dk_42 (dk_at dksX4_init_1 13 rfl rfl)
theorem dX4_init_37 : decode cX4_init 37 = .ok (.iconst 4, 1) := dk_7 (dk_at dksX4_init_1 14 rfl rfl)
theorem dX4_init_38 : decode cX4_init 38 = .ok (.newarray .int, 2) := dk_188_10 (dk_at dksX4_init_1 15 rfl rfl)
theorem dX4_init_40 : decode cX4_init 40 = .ok (.putfield 23, 3) := dk_181 0 23 (dk_at dksX4_init_1 17 rfl rfl)
theorem dX4_init_43 : decode cX4_init 43 = .ok (.aload_n 0, 1) := dk_42 (dk_at dksX4_init_1 20 rfl rfl)
theorem dX4_init_44 : decode cX4_init 44 = .ok (.iconst 4, 1) := dk_7 (dk_at dksX4_init_1 21 rfl rfl)
theorem dX4_init_45 : decode cX4_init 45 = .ok (.newarray .int, 2) := dk_188_10 (dk_at dksX4_init_1 22 rfl rfl)
theorem dX4_init_47 : decode cX4_init 47 = .ok (.putfield 26, 3) := dk_181 0 26 (dk_at dksX4_init_2 0 rfl rfl)
theorem dX4_init_50 : decode cX4_init 50 = .ok (.aload_n 0, 1) := dk_42 (dk_at dksX4_init_2 3 rfl rfl)
theorem dX4_init_51 : decode cX4_init 51 = .ok (.sipush 250, 3) := dk_17 0 250 (dk_at dksX4_init_2 4 rfl rfl)
theorem dX4_init_54 : decode cX4_init 54 = .ok (.newarray .int, 2) := dk_188_10 (dk_at dksX4_init_2 7 rfl rfl)
theorem dX4_init_56 : decode cX4_init 56 = .ok (.putfield 29, 3) := dk_181 0 29 (dk_at dksX4_init_2 9 rfl rfl)
theorem dX4_init_59 : decode cX4_init 59 = .ok (.aload_n 0, 1) := dk_42 (dk_at dksX4_init_2 12 rfl rfl)
theorem dX4_init_60 : decode cX4_init 60 = .ok (.bipush 8, 2) := dk_16 8 (dk_at dksX4_init_2 13 rfl rfl)
theorem dX4_init_62 : decode cX4_init 62 = .ok (.newarray .int, 2) := dk_188_10 (dk_at dksX4_init_2 15 rfl rfl)
theorem dX4_init_64 : decode cX4_init 64 = .ok (.putfield 32, 3) := dk_181 0 32 (dk_at dksX4_init_2 17 rfl rfl)
theorem dX4_init_67 : decode cX4_init 67 = .ok (.aload_n 0, 1) := dk_42 (dk_at dksX4_init_2 20 rfl rfl)
theorem dX4_init_68 : decode cX4_init 68 = .ok (.bipush 8, 2) := dk_16 8 (dk_at dksX4_init_2 21 rfl rfl)
theorem dX4_init_70 : decode cX4_init 70 = .ok (.newarray .int, 2) := dk_188_10 (dk_at dksX4_init_3 0 rfl rfl)
theorem dX4_init_72 : decode cX4_init 72 = .ok (.putfield 35, 3) := dk_181 0 35 (dk_at dksX4_init_3 2 rfl rfl)
theorem dX4_init_75 : decode cX4_init 75 = .ok (.aload_n 0, 1) := dk_42 (dk_at dksX4_init_3 5 rfl rfl)
theorem dX4_init_76 : decode cX4_init 76 = .ok (.sipush 320, 3) := dk_17 1 64 (dk_at dksX4_init_3 6 rfl rfl)
theorem dX4_init_79 : decode cX4_init 79 = .ok (.newarray .long, 2) := dk_188_11 (dk_at dksX4_init_3 9 rfl rfl)
theorem dX4_init_81 : decode cX4_init 81 = .ok (.putfield 38, 3) := dk_181 0 38 (dk_at dksX4_init_3 11 rfl rfl)
theorem dX4_init_84 : decode cX4_init 84 = .ok (.aload_n 0, 1) := dk_42 (dk_at dksX4_init_3 14 rfl rfl)
theorem dX4_init_85 : decode cX4_init 85 = .ok (.bipush 7, 2) := dk_16 7 (dk_at dksX4_init_3 15 rfl rfl)
theorem dX4_init_87 : decode cX4_init 87 = .ok (.newarray .int, 2) := dk_188_10 (dk_at dksX4_init_3 17 rfl rfl)
theorem dX4_init_89 : decode cX4_init 89 = .ok (.putfield 42, 3) := dk_181 0 42 (dk_at dksX4_init_3 19 rfl rfl)
theorem dX4_init_92 : decode cX4_init 92 = .ok (.aload_n 0, 1) := dk_42 (dk_at dksX4_init_3 22 rfl rfl)
theorem dX4_init_93 : decode cX4_init 93 = .ok (.bipush 104, 2) := dk_16 104 (dk_at dksX4_init_4 0 rfl rfl)
theorem dX4_init_95 : decode cX4_init 95 = .ok (.newarray .int, 2) := dk_188_10 (dk_at dksX4_init_4 2 rfl rfl)
theorem dX4_init_97 : decode cX4_init 97 = .ok (.putfield 45, 3) := dk_181 0 45 (dk_at dksX4_init_4 4 rfl rfl)
theorem dX4_init_100 : decode cX4_init 100 = .ok (.aload_n 0, 1) := dk_42 (dk_at dksX4_init_4 7 rfl rfl)
theorem dX4_init_101 : decode cX4_init 101 = .ok (.bipush 104, 2) := dk_16 104 (dk_at dksX4_init_4 8 rfl rfl)
theorem dX4_init_103 : decode cX4_init 103 = .ok (.newarray .int, 2) := dk_188_10 (dk_at dksX4_init_4 10 rfl rfl)
theorem dX4_init_105 : decode cX4_init 105 = .ok (.putfield 48, 3) := dk_181 0 48 (dk_at dksX4_init_4 12 rfl rfl)
theorem dX4_init_108 : decode cX4_init 108 = .ok (.aload_n 0, 1) := dk_42 (dk_at dksX4_init_4 15 rfl rfl)
theorem dX4_init_109 : decode cX4_init 109 = .ok (.iconst 4, 1) := dk_7 (dk_at dksX4_init_4 16 rfl rfl)
theorem dX4_init_110 : decode cX4_init 110 = .ok (.newarray .int, 2) := dk_188_10 (dk_at dksX4_init_4 17 rfl rfl)
theorem dX4_init_112 : decode cX4_init 112 = .ok (.putfield 51, 3) := dk_181 0 51 (dk_at dksX4_init_4 19 rfl rfl)
theorem dX4_init_115 : decode cX4_init 115 = .ok (.aload_n 0, 1) := dk_42 (dk_at dksX4_init_4 22 rfl rfl)
theorem dX4_init_116 : decode cX4_init 116 = .ok (.bipush 67, 2) := dk_16 67 (dk_at dksX4_init_5 0 rfl rfl)
theorem dX4_init_118 : decode cX4_init 118 = .ok (.newarray .int, 2) := dk_188_10 (dk_at dksX4_init_5 2 rfl rfl)
theorem dX4_init_120 : decode cX4_init 120 = .ok (.putfield 54, 3) := dk_181 0 54 (dk_at dksX4_init_5 4 rfl rfl)
theorem dX4_init_123 : decode cX4_init 123 = .ok (.aload_n 0, 1) := dk_42 (dk_at dksX4_init_5 7 rfl rfl)
theorem dX4_init_124 : decode cX4_init 124 = .ok (.bipush 67, 2) := dk_16 67 (dk_at dksX4_init_5 8 rfl rfl)
theorem dX4_init_126 : decode cX4_init 126 = .ok (.newarray .int, 2) := dk_188_10 (dk_at dksX4_init_5 10 rfl rfl)
theorem dX4_init_128 : decode cX4_init 128 = .ok (.putfield 57, 3) := dk_181 0 57 (dk_at dksX4_init_5 12 rfl rfl)
theorem dX4_init_131 : decode cX4_init 131 = .ok (.aload_n 0, 1) := dk_42 (dk_at dksX4_init_5 15 rfl rfl)
theorem dX4_init_132 : decode cX4_init 132 = .ok (.iconst 5, 1) := dk_8 (dk_at dksX4_init_5 16 rfl rfl)
theorem dX4_init_133 : decode cX4_init 133 = .ok (.putfield 60, 3) := dk_181 0 60 (dk_at dksX4_init_5 17 rfl rfl)
theorem dX4_init_136 : decode cX4_init 136 = .ok (.aload_n 0, 1) := dk_42 (dk_at dksX4_init_5 20 rfl rfl)
theorem dX4_init_137 : decode cX4_init 137 = .ok (.iconst 1, 1) := dk_4 (dk_at dksX4_init_5 21 rfl rfl)
theorem dX4_init_138 : decode cX4_init 138 = .ok (.putfield 64, 3) := dk_181 0 64 (dk_at dksX4_init_6 0 rfl rfl)
theorem dX4_init_141 : decode cX4_init 141 = .ok (.iconst 0, 1) := dk_3 (dk_at dksX4_init_6 3 rfl rfl)
theorem dX4_init_142 : decode cX4_init 142 = .ok (.istore_n 1, 1) := dk_60 (dk_at dksX4_init_6 4 rfl rfl)
theorem dX4_init_143 : decode cX4_init 143 = .ok (.iload_n 1, 1) := dk_27 (dk_at dksX4_init_6 5 rfl rfl)
theorem dX4_init_144 : decode cX4_init 144 = .ok (.bipush 8, 2) := dk_16 8 (dk_at dksX4_init_6 6 rfl rfl)
theorem dX4_init_146 : decode cX4_init 146 = .ok (.if_icmp .ge 16, 3) := dk_162 0 16 (dk_at dksX4_init_6 8 rfl rfl)
theorem dX4_init_149 : decode cX4_init 149 = .ok (.aload_n 0, 1) := dk_42 (dk_at dksX4_init_6 11 rfl rfl)
theorem dX4_init_150 : decode cX4_init 150 = .ok (.getfield 32, 3) := dk_180 0 32 (dk_at dksX4_init_6 12 rfl rfl)
theorem dX4_init_153 : decode cX4_init 153 = .ok (.iload_n 1, 1) := dk_27 (dk_at dksX4_init_6 15 rfl rfl)
theorem dX4_init_154 : decode cX4_init 154 = .ok (.iconst (-1), 1) := dk_2 (dk_at dksX4_init_6 16 rfl rfl)
theorem dX4_init_155 : decode cX4_init 155 = .ok (.iastore, 1) := dk_79 (dk_at dksX4_init_6 17 rfl rfl)
theorem dX4_init_156 : decode cX4_init 156 = .ok (.iinc 1 1, 3) := dk_132 1 1 (dk_at dksX4_init_6 18 rfl rfl)
theorem dX4_init_159 : decode cX4_init 159 = .ok (.goto (-16), 3) := dk_167 255 240 (dk_at dksX4_init_6 21 rfl rfl)
theorem dX4_init_162 : decode cX4_init 162 = .ok (.return_, 1) := dk_177 (dk_at dksX4_init_7 0 rfl rfl)
def dkwX4_row_3 : List UInt8 := [132, 4, 1, 167, 255, 233, 4, 172]
abbrev dktX4_row_3 : List UInt8 := dkwX4_row_3 ++ []
def dkwX4_row_2 : List UInt8 := [3, 54, 4, 21, 4, 16, 40, 162, 0, 22, 42, 180, 0, 38, 16, 40, 27, 104, 21, 4, 96, 9, 80]
abbrev dktX4_row_2 : List UInt8 := dkwX4_row_2 ++ dktX4_row_3
def dkwX4_row_1 : List UInt8 := [154, 0, 10, 42, 16, 254, 182, 0, 87, 172, 42, 180, 0, 32, 27, 28, 79, 42, 180, 0, 35, 27, 29, 79]
abbrev dktX4_row_1 : List UInt8 := dkwX4_row_1 ++ dktX4_row_2
def dkwX4_row_0 : List UInt8 := [27, 184, 0, 83, 153, 0, 22, 28, 3, 7, 184, 0, 79, 153, 0, 13, 29, 3, 16, 40, 184, 0, 79]
abbrev dktX4_row_0 : List UInt8 := dkwX4_row_0 ++ dktX4_row_1
theorem dksX4_row_0 : cX4_row.data.toList.drop 0 = dktX4_row_0 := by decide +kernel
theorem dksX4_row_1 : cX4_row.data.toList.drop 23 = dktX4_row_1 := dk_seg dksX4_row_0 23 rfl rfl
theorem dksX4_row_2 : cX4_row.data.toList.drop 47 = dktX4_row_2 := dk_seg dksX4_row_1 24 rfl rfl
theorem dksX4_row_3 : cX4_row.data.toList.drop 70 = dktX4_row_3 := dk_seg dksX4_row_2 23 rfl rfl
theorem dX4_row_0 : decode cX4_row 0 = .ok (.iload_n 1, 1) := dk_27 (dk_at dksX4_row_0 0 rfl rfl)
theorem dX4_row_1 : decode cX4_row 1 = .ok (.invokestatic 83, 3) := dk_184 0 83 (dk_at dksX4_row_0 1 rfl rfl)
theorem dX4_row_4 : decode cX4_row 4 = .ok (.ifCond .eq 22, 3) := dk_153 0 22 (dk_at dksX4_row_0 4 rfl rfl)
theorem dX4_row_7 : decode cX4_row 7 = .ok (.iload_n 2, 1) := dk_28 (dk_at dksX4_row_0 7 rfl rfl)
theorem dX4_row_8 : decode cX4_row 8 = .ok (.iconst 0, 1) := dk_3 (dk_at dksX4_row_0 8 rfl rfl)
theorem dX4_row_9 : decode cX4_row 9 = .ok (.iconst 4, 1) := dk_7 (dk_at dksX4_row_0 9 rfl rfl)
theorem dX4_row_10 : decode cX4_row 10 = .ok (.invokestatic 79, 3) := dk_184 0 79 (dk_at dksX4_row_0 10 rfl rfl)
theorem dX4_row_13 : decode cX4_row 13 = .ok (.ifCond .eq 13, 3) := dk_153 0 13 (dk_at dksX4_row_0 13 rfl rfl)
theorem dX4_row_16 : decode cX4_row 16 = .ok (.iload_n 3, 1) := dk_29 (dk_at dksX4_row_0 16 rfl rfl)
theorem dX4_row_17 : decode cX4_row 17 = .ok (.iconst 0, 1) := dk_3 (dk_at dksX4_row_0 17 rfl rfl)
theorem dX4_row_18 : decode cX4_row 18 = .ok (.bipush 40, 2) := dk_16 40 (dk_at dksX4_row_0 18 rfl rfl)
theorem dX4_row_20 : decode cX4_row 20 = .ok (.invokestatic 79, 3) := dk_184 0 79 (dk_at dksX4_row_0 20 rfl rfl)
theorem dX4_row_23 : decode cX4_row 23 = .ok (.ifCond .ne 10, 3) := dk_154 0 10 (dk_at dksX4_row_1 0 rfl rfl)
theorem dX4_row_26 : decode cX4_row 26 = .ok (.aload_n 0, 1) := dk_42 (dk_at dksX4_row_1 3 rfl rfl)
theorem dX4_row_27 : decode cX4_row 27 = .ok (.bipush (-2), 2) := dk_16 254 (dk_at dksX4_row_1 4 rfl rfl)
theorem dX4_row_29 : decode cX4_row 29 = .ok (.invokevirtual 87, 3) := dk_182 0 87 (dk_at dksX4_row_1 6 rfl rfl)
theorem dX4_row_32 : decode cX4_row 32 = .ok (.ireturn, 1) := dk_172 (dk_at dksX4_row_1 9 rfl rfl)
theorem dX4_row_33 : decode cX4_row 33 = .ok (.aload_n 0, 1) := dk_42 (dk_at dksX4_row_1 10 rfl rfl)
theorem dX4_row_34 : decode cX4_row 34 = .ok (.getfield 32, 3) := dk_180 0 32 (dk_at dksX4_row_1 11 rfl rfl)
theorem dX4_row_37 : decode cX4_row 37 = .ok (.iload_n 1, 1) := dk_27 (dk_at dksX4_row_1 14 rfl rfl)
theorem dX4_row_38 : decode cX4_row 38 = .ok (.iload_n 2, 1) := dk_28 (dk_at dksX4_row_1 15 rfl rfl)
theorem dX4_row_39 : decode cX4_row 39 = .ok (.iastore, 1) := dk_79 (dk_at dksX4_row_1 16 rfl rfl)
theorem dX4_row_40 : decode cX4_row 40 = .ok (.aload_n 0, 1) := dk_42 (dk_at dksX4_row_1 17 rfl rfl)
theorem dX4_row_41 : decode cX4_row 41 = .ok (.getfield 35, 3) := dk_180 0 35 (dk_at dksX4_row_1 18 rfl rfl)
theorem dX4_row_44 : decode cX4_row 44 = .ok (.iload_n 1, 1) := dk_27 (dk_at dksX4_row_1 21 rfl rfl)
theorem dX4_row_45 : decode cX4_row 45 = .ok (.iload_n 3, 1) := dk_29 (dk_at dksX4_row_1 22 rfl rfl)
theorem dX4_row_46 : decode cX4_row 46 = .ok (.iastore, 1) := dk_79 (dk_at dksX4_row_1 23 rfl rfl)
theorem dX4_row_47 : decode cX4_row 47 = .ok (.iconst 0, 1) := dk_3 (dk_at dksX4_row_2 0 rfl rfl)
theorem dX4_row_48 : decode cX4_row 48 = .ok (.istore 4, 2) := dk_54 4 (dk_at dksX4_row_2 1 rfl rfl)
theorem dX4_row_50 : decode cX4_row 50 = .ok (.iload 4, 2) := dk_21 4 (dk_at dksX4_row_2 3 rfl rfl)
theorem dX4_row_52 : decode cX4_row 52 = .ok (.bipush 40, 2) := dk_16 40 (dk_at dksX4_row_2 5 rfl rfl)
theorem dX4_row_54 : decode cX4_row 54 = .ok (.if_icmp .ge 22, 3) := dk_162 0 22 (dk_at dksX4_row_2 7 rfl rfl)
theorem dX4_row_57 : decode cX4_row 57 = .ok (.aload_n 0, 1) := dk_42 (dk_at dksX4_row_2 10 rfl rfl)
theorem dX4_row_58 : decode cX4_row 58 = .ok (.getfield 38, 3) := dk_180 0 38 (dk_at dksX4_row_2 11 rfl rfl)
theorem dX4_row_61 : decode cX4_row 61 = .ok (.bipush 40, 2) := dk_16 40 (dk_at dksX4_row_2 14 rfl rfl)
theorem dX4_row_63 : decode cX4_row 63 = .ok (.iload_n 1, 1) := dk_27 (dk_at dksX4_row_2 16 rfl rfl)
theorem dX4_row_64 : decode cX4_row 64 = .ok (.imul, 1) := dk_104 (dk_at dksX4_row_2 17 rfl rfl)
theorem dX4_row_65 : decode cX4_row 65 = .ok (.iload 4, 2) := dk_21 4 (dk_at dksX4_row_2 18 rfl rfl)
theorem dX4_row_67 : decode cX4_row 67 = .ok (.iadd, 1) := dk_96 (dk_at dksX4_row_2 20 rfl rfl)
theorem dX4_row_68 : decode cX4_row 68 = .ok (.lconst 0, 1) := dk_9 (dk_at dksX4_row_2 21 rfl rfl)
theorem dX4_row_69 : decode cX4_row 69 = .ok (.lastore, 1) := dk_80 (dk_at dksX4_row_2 22 rfl rfl)
theorem dX4_row_70 : decode cX4_row 70 = .ok (.iinc 4 1, 3) := dk_132 4 1 (dk_at dksX4_row_3 0 rfl rfl)
theorem dX4_row_73 : decode cX4_row 73 = .ok (.goto (-23), 3) := dk_167 255 233 (dk_at dksX4_row_3 3 rfl rfl)
theorem dX4_row_76 : decode cX4_row 76 = .ok (.iconst 1, 1) := dk_4 (dk_at dksX4_row_3 6 rfl rfl)
theorem dX4_row_77 : decode cX4_row 77 = .ok (.ireturn, 1) := dk_172 (dk_at dksX4_row_3 7 rfl rfl)
def dkwX4_isShelf_0 : List UInt8 := [26, 3, 16, 7, 184, 0, 79, 172]
abbrev dktX4_isShelf_0 : List UInt8 := dkwX4_isShelf_0 ++ []
theorem dksX4_isShelf_0 : cX4_isShelf.data.toList.drop 0 = dktX4_isShelf_0 := by decide +kernel
theorem dX4_isShelf_0 : decode cX4_isShelf 0 = .ok (.iload_n 0, 1) := dk_26 (dk_at dksX4_isShelf_0 0 rfl rfl)
theorem dX4_isShelf_1 : decode cX4_isShelf 1 = .ok (.iconst 0, 1) := dk_3 (dk_at dksX4_isShelf_0 1 rfl rfl)
theorem dX4_isShelf_2 : decode cX4_isShelf 2 = .ok (.bipush 7, 2) := dk_16 7 (dk_at dksX4_isShelf_0 2 rfl rfl)
theorem dX4_isShelf_4 : decode cX4_isShelf 4 = .ok (.invokestatic 79, 3) := dk_184 0 79 (dk_at dksX4_isShelf_0 4 rfl rfl)
theorem dX4_isShelf_7 : decode cX4_isShelf 7 = .ok (.ireturn, 1) := dk_172 (dk_at dksX4_isShelf_0 7 rfl rfl)
def dkwX4_within_0 : List UInt8 := [26, 27, 161, 0, 12, 26, 28, 163, 0, 7, 4, 167, 0, 4, 3, 172]
abbrev dktX4_within_0 : List UInt8 := dkwX4_within_0 ++ []
theorem dksX4_within_0 : cX4_within.data.toList.drop 0 = dktX4_within_0 := by decide +kernel
theorem dX4_within_0 : decode cX4_within 0 = .ok (.iload_n 0, 1) := dk_26 (dk_at dksX4_within_0 0 rfl rfl)
theorem dX4_within_1 : decode cX4_within 1 = .ok (.iload_n 1, 1) := dk_27 (dk_at dksX4_within_0 1 rfl rfl)
theorem dX4_within_2 : decode cX4_within 2 = .ok (.if_icmp .lt 12, 3) := dk_161 0 12 (dk_at dksX4_within_0 2 rfl rfl)
theorem dX4_within_5 : decode cX4_within 5 = .ok (.iload_n 0, 1) := dk_26 (dk_at dksX4_within_0 5 rfl rfl)
theorem dX4_within_6 : decode cX4_within 6 = .ok (.iload_n 2, 1) := dk_28 (dk_at dksX4_within_0 6 rfl rfl)
theorem dX4_within_7 : decode cX4_within 7 = .ok (.if_icmp .gt 7, 3) := dk_163 0 7 (dk_at dksX4_within_0 7 rfl rfl)
theorem dX4_within_10 : decode cX4_within 10 = .ok (.iconst 1, 1) := dk_4 (dk_at dksX4_within_0 10 rfl rfl)
theorem dX4_within_11 : decode cX4_within 11 = .ok (.goto 4, 3) := dk_167 0 4 (dk_at dksX4_within_0 11 rfl rfl)
theorem dX4_within_14 : decode cX4_within 14 = .ok (.iconst 0, 1) := dk_3 (dk_at dksX4_within_0 14 rfl rfl)
theorem dX4_within_15 : decode cX4_within 15 = .ok (.ireturn, 1) := dk_172 (dk_at dksX4_within_0 15 rfl rfl)
def dkwX4_no_0 : List UInt8 := [42, 180, 0, 42, 27, 116, 92, 46, 4, 96, 79, 27, 172]
abbrev dktX4_no_0 : List UInt8 := dkwX4_no_0 ++ []
theorem dksX4_no_0 : cX4_no.data.toList.drop 0 = dktX4_no_0 := by decide +kernel
theorem dX4_no_0 : decode cX4_no 0 = .ok (.aload_n 0, 1) := dk_42 (dk_at dksX4_no_0 0 rfl rfl)
theorem dX4_no_1 : decode cX4_no 1 = .ok (.getfield 42, 3) := dk_180 0 42 (dk_at dksX4_no_0 1 rfl rfl)
theorem dX4_no_4 : decode cX4_no 4 = .ok (.iload_n 1, 1) := dk_27 (dk_at dksX4_no_0 4 rfl rfl)
theorem dX4_no_5 : decode cX4_no 5 = .ok (.ineg, 1) := dk_116 (dk_at dksX4_no_0 5 rfl rfl)
theorem dX4_no_6 : decode cX4_no 6 = .ok (.dup2, 1) := dk_92 (dk_at dksX4_no_0 6 rfl rfl)
theorem dX4_no_7 : decode cX4_no 7 = .ok (.iaload, 1) := dk_46 (dk_at dksX4_no_0 7 rfl rfl)
theorem dX4_no_8 : decode cX4_no 8 = .ok (.iconst 1, 1) := dk_4 (dk_at dksX4_no_0 8 rfl rfl)
theorem dX4_no_9 : decode cX4_no 9 = .ok (.iadd, 1) := dk_96 (dk_at dksX4_no_0 9 rfl rfl)
theorem dX4_no_10 : decode cX4_no 10 = .ok (.iastore, 1) := dk_79 (dk_at dksX4_no_0 10 rfl rfl)
theorem dX4_no_11 : decode cX4_no 11 = .ok (.iload_n 1, 1) := dk_27 (dk_at dksX4_no_0 11 rfl rfl)
theorem dX4_no_12 : decode cX4_no 12 = .ok (.ireturn, 1) := dk_172 (dk_at dksX4_no_0 12 rfl rfl)
def dkwX4_set_3 : List UInt8 := [184, 0, 97, 80, 4, 172]
abbrev dktX4_set_3 : List UInt8 := dkwX4_set_3 ++ []
def dkwX4_set_2 : List UInt8 := [42, 16, 254, 182, 0, 87, 172, 42, 180, 0, 38, 16, 40, 27, 104, 28, 96, 42, 180, 0, 32, 27, 46, 33]
abbrev dktX4_set_2 : List UInt8 := dkwX4_set_2 ++ dktX4_set_3
def dkwX4_set_1 : List UInt8 := [27, 182, 0, 94, 182, 0, 87, 172, 28, 3, 42, 180, 0, 35, 27, 46, 4, 100, 184, 0, 79, 154, 0, 10]
abbrev dktX4_set_1 : List UInt8 := dkwX4_set_1 ++ dktX4_set_2
def dkwX4_set_0 : List UInt8 := [27, 184, 0, 83, 154, 0, 10, 42, 16, 254, 182, 0, 87, 172, 42, 27, 182, 0, 91, 154, 0, 13, 42, 42]
abbrev dktX4_set_0 : List UInt8 := dkwX4_set_0 ++ dktX4_set_1
theorem dksX4_set_0 : cX4_set.data.toList.drop 0 = dktX4_set_0 := by decide +kernel
theorem dksX4_set_1 : cX4_set.data.toList.drop 24 = dktX4_set_1 := dk_seg dksX4_set_0 24 rfl rfl
theorem dksX4_set_2 : cX4_set.data.toList.drop 48 = dktX4_set_2 := dk_seg dksX4_set_1 24 rfl rfl
theorem dksX4_set_3 : cX4_set.data.toList.drop 72 = dktX4_set_3 := dk_seg dksX4_set_2 24 rfl rfl
theorem dX4_set_0 : decode cX4_set 0 = .ok (.iload_n 1, 1) := dk_27 (dk_at dksX4_set_0 0 rfl rfl)
theorem dX4_set_1 : decode cX4_set 1 = .ok (.invokestatic 83, 3) := dk_184 0 83 (dk_at dksX4_set_0 1 rfl rfl)
theorem dX4_set_4 : decode cX4_set 4 = .ok (.ifCond .ne 10, 3) := dk_154 0 10 (dk_at dksX4_set_0 4 rfl rfl)
theorem dX4_set_7 : decode cX4_set 7 = .ok (.aload_n 0, 1) := dk_42 (dk_at dksX4_set_0 7 rfl rfl)
theorem dX4_set_8 : decode cX4_set 8 = .ok (.bipush (-2), 2) := dk_16 254 (dk_at dksX4_set_0 8 rfl rfl)
theorem dX4_set_10 : decode cX4_set 10 = .ok (.invokevirtual 87, 3) := dk_182 0 87 (dk_at dksX4_set_0 10 rfl rfl)
theorem dX4_set_13 : decode cX4_set 13 = .ok (.ireturn, 1) := dk_172 (dk_at dksX4_set_0 13 rfl rfl)
theorem dX4_set_14 : decode cX4_set 14 = .ok (.aload_n 0, 1) := dk_42 (dk_at dksX4_set_0 14 rfl rfl)
theorem dX4_set_15 : decode cX4_set 15 = .ok (.iload_n 1, 1) := dk_27 (dk_at dksX4_set_0 15 rfl rfl)
theorem dX4_set_16 : decode cX4_set 16 = .ok (.invokevirtual 91, 3) := dk_182 0 91 (dk_at dksX4_set_0 16 rfl rfl)
theorem dX4_set_19 : decode cX4_set 19 = .ok (.ifCond .ne 13, 3) := dk_154 0 13 (dk_at dksX4_set_0 19 rfl rfl)
theorem dX4_set_22 : decode cX4_set 22 = .ok (.aload_n 0, 1) := dk_42 (dk_at dksX4_set_0 22 rfl rfl)
theorem dX4_set_23 : decode cX4_set 23 = .ok (.aload_n 0, 1) := dk_42 (dk_at dksX4_set_0 23 rfl rfl)
theorem dX4_set_24 : decode cX4_set 24 = .ok (.iload_n 1, 1) := dk_27 (dk_at dksX4_set_1 0 rfl rfl)
theorem dX4_set_25 : decode cX4_set 25 = .ok (.invokevirtual 94, 3) := dk_182 0 94 (dk_at dksX4_set_1 1 rfl rfl)
theorem dX4_set_28 : decode cX4_set 28 = .ok (.invokevirtual 87, 3) := dk_182 0 87 (dk_at dksX4_set_1 4 rfl rfl)
theorem dX4_set_31 : decode cX4_set 31 = .ok (.ireturn, 1) := dk_172 (dk_at dksX4_set_1 7 rfl rfl)
theorem dX4_set_32 : decode cX4_set 32 = .ok (.iload_n 2, 1) := dk_28 (dk_at dksX4_set_1 8 rfl rfl)
theorem dX4_set_33 : decode cX4_set 33 = .ok (.iconst 0, 1) := dk_3 (dk_at dksX4_set_1 9 rfl rfl)
theorem dX4_set_34 : decode cX4_set 34 = .ok (.aload_n 0, 1) := dk_42 (dk_at dksX4_set_1 10 rfl rfl)
theorem dX4_set_35 : decode cX4_set 35 = .ok (.getfield 35, 3) := dk_180 0 35 (dk_at dksX4_set_1 11 rfl rfl)
theorem dX4_set_38 : decode cX4_set 38 = .ok (.iload_n 1, 1) := dk_27 (dk_at dksX4_set_1 14 rfl rfl)
theorem dX4_set_39 : decode cX4_set 39 = .ok (.iaload, 1) := dk_46 (dk_at dksX4_set_1 15 rfl rfl)
theorem dX4_set_40 : decode cX4_set 40 = .ok (.iconst 1, 1) := dk_4 (dk_at dksX4_set_1 16 rfl rfl)
theorem dX4_set_41 : decode cX4_set 41 = .ok (.isub, 1) := dk_100 (dk_at dksX4_set_1 17 rfl rfl)
theorem dX4_set_42 : decode cX4_set 42 = .ok (.invokestatic 79, 3) := dk_184 0 79 (dk_at dksX4_set_1 18 rfl rfl)
theorem dX4_set_45 : decode cX4_set 45 = .ok (.ifCond .ne 10, 3) := dk_154 0 10 (dk_at dksX4_set_1 21 rfl rfl)
theorem dX4_set_48 : decode cX4_set 48 = .ok (.aload_n 0, 1) := dk_42 (dk_at dksX4_set_2 0 rfl rfl)
theorem dX4_set_49 : decode cX4_set 49 = .ok (.bipush (-2), 2) := dk_16 254 (dk_at dksX4_set_2 1 rfl rfl)
theorem dX4_set_51 : decode cX4_set 51 = .ok (.invokevirtual 87, 3) := dk_182 0 87 (dk_at dksX4_set_2 3 rfl rfl)
theorem dX4_set_54 : decode cX4_set 54 = .ok (.ireturn, 1) := dk_172 (dk_at dksX4_set_2 6 rfl rfl)
theorem dX4_set_55 : decode cX4_set 55 = .ok (.aload_n 0, 1) := dk_42 (dk_at dksX4_set_2 7 rfl rfl)
theorem dX4_set_56 : decode cX4_set 56 = .ok (.getfield 38, 3) := dk_180 0 38 (dk_at dksX4_set_2 8 rfl rfl)
theorem dX4_set_59 : decode cX4_set 59 = .ok (.bipush 40, 2) := dk_16 40 (dk_at dksX4_set_2 11 rfl rfl)
theorem dX4_set_61 : decode cX4_set 61 = .ok (.iload_n 1, 1) := dk_27 (dk_at dksX4_set_2 13 rfl rfl)
theorem dX4_set_62 : decode cX4_set 62 = .ok (.imul, 1) := dk_104 (dk_at dksX4_set_2 14 rfl rfl)
theorem dX4_set_63 : decode cX4_set 63 = .ok (.iload_n 2, 1) := dk_28 (dk_at dksX4_set_2 15 rfl rfl)
theorem dX4_set_64 : decode cX4_set 64 = .ok (.iadd, 1) := dk_96 (dk_at dksX4_set_2 16 rfl rfl)
theorem dX4_set_65 : decode cX4_set 65 = .ok (.aload_n 0, 1) := dk_42 (dk_at dksX4_set_2 17 rfl rfl)
theorem dX4_set_66 : decode cX4_set 66 = .ok (.getfield 32, 3) := dk_180 0 32 (dk_at dksX4_set_2 18 rfl rfl)
theorem dX4_set_69 : decode cX4_set 69 = .ok (.iload_n 1, 1) := dk_27 (dk_at dksX4_set_2 21 rfl rfl)
theorem dX4_set_70 : decode cX4_set 70 = .ok (.iaload, 1) := dk_46 (dk_at dksX4_set_2 22 rfl rfl)
theorem dX4_set_71 : decode cX4_set 71 = .ok (.lload_n 3, 1) := dk_33 (dk_at dksX4_set_2 23 rfl rfl)
theorem dX4_set_72 : decode cX4_set 72 = .ok (.invokestatic 97, 3) := dk_184 0 97 (dk_at dksX4_set_3 0 rfl rfl)
theorem dX4_set_75 : decode cX4_set 75 = .ok (.lastore, 1) := dk_80 (dk_at dksX4_set_3 3 rfl rfl)
theorem dX4_set_76 : decode cX4_set 76 = .ok (.iconst 1, 1) := dk_4 (dk_at dksX4_set_3 4 rfl rfl)
theorem dX4_set_77 : decode cX4_set 77 = .ok (.ireturn, 1) := dk_172 (dk_at dksX4_set_3 5 rfl rfl)
def dkwX4_isRow_0 : List UInt8 := [42, 180, 0, 32, 27, 46, 3, 7, 184, 0, 79, 172]
abbrev dktX4_isRow_0 : List UInt8 := dkwX4_isRow_0 ++ []
theorem dksX4_isRow_0 : cX4_isRow.data.toList.drop 0 = dktX4_isRow_0 := by decide +kernel
theorem dX4_isRow_0 : decode cX4_isRow 0 = .ok (.aload_n 0, 1) := dk_42 (dk_at dksX4_isRow_0 0 rfl rfl)
theorem dX4_isRow_1 : decode cX4_isRow 1 = .ok (.getfield 32, 3) := dk_180 0 32 (dk_at dksX4_isRow_0 1 rfl rfl)
theorem dX4_isRow_4 : decode cX4_isRow 4 = .ok (.iload_n 1, 1) := dk_27 (dk_at dksX4_isRow_0 4 rfl rfl)
theorem dX4_isRow_5 : decode cX4_isRow 5 = .ok (.iaload, 1) := dk_46 (dk_at dksX4_isRow_0 5 rfl rfl)
theorem dX4_isRow_6 : decode cX4_isRow 6 = .ok (.iconst 0, 1) := dk_3 (dk_at dksX4_isRow_0 6 rfl rfl)
theorem dX4_isRow_7 : decode cX4_isRow 7 = .ok (.iconst 4, 1) := dk_7 (dk_at dksX4_isRow_0 7 rfl rfl)
theorem dX4_isRow_8 : decode cX4_isRow 8 = .ok (.invokestatic 79, 3) := dk_184 0 79 (dk_at dksX4_isRow_0 8 rfl rfl)
theorem dX4_isRow_11 : decode cX4_isRow 11 = .ok (.ireturn, 1) := dk_172 (dk_at dksX4_isRow_0 11 rfl rfl)
def dkwX4_noRow_1 : List UInt8 := [156, 0, 8, 16, 252, 167, 0, 4, 3, 172]
abbrev dktX4_noRow_1 : List UInt8 := dkwX4_noRow_1 ++ []
def dkwX4_noRow_0 : List UInt8 := [42, 180, 0, 32, 27, 46, 16, 10, 161, 0, 8, 16, 253, 167, 0, 18, 42, 180, 0, 32, 27, 46]
abbrev dktX4_noRow_0 : List UInt8 := dkwX4_noRow_0 ++ dktX4_noRow_1
theorem dksX4_noRow_0 : cX4_noRow.data.toList.drop 0 = dktX4_noRow_0 := by decide +kernel
theorem dksX4_noRow_1 : cX4_noRow.data.toList.drop 22 = dktX4_noRow_1 := dk_seg dksX4_noRow_0 22 rfl rfl
theorem dX4_noRow_0 : decode cX4_noRow 0 = .ok (.aload_n 0, 1) := dk_42 (dk_at dksX4_noRow_0 0 rfl rfl)
theorem dX4_noRow_1 : decode cX4_noRow 1 = .ok (.getfield 32, 3) := dk_180 0 32 (dk_at dksX4_noRow_0 1 rfl rfl)
theorem dX4_noRow_4 : decode cX4_noRow 4 = .ok (.iload_n 1, 1) := dk_27 (dk_at dksX4_noRow_0 4 rfl rfl)
theorem dX4_noRow_5 : decode cX4_noRow 5 = .ok (.iaload, 1) := dk_46 (dk_at dksX4_noRow_0 5 rfl rfl)
theorem dX4_noRow_6 : decode cX4_noRow 6 = .ok (.bipush 10, 2) := dk_16 10 (dk_at dksX4_noRow_0 6 rfl rfl)
theorem dX4_noRow_8 : decode cX4_noRow 8 = .ok (.if_icmp .lt 8, 3) := dk_161 0 8 (dk_at dksX4_noRow_0 8 rfl rfl)
theorem dX4_noRow_11 : decode cX4_noRow 11 = .ok (.bipush (-3), 2) := dk_16 253 (dk_at dksX4_noRow_0 11 rfl rfl)
theorem dX4_noRow_13 : decode cX4_noRow 13 = .ok (.goto 18, 3) := dk_167 0 18 (dk_at dksX4_noRow_0 13 rfl rfl)
theorem dX4_noRow_16 : decode cX4_noRow 16 = .ok (.aload_n 0, 1) := dk_42 (dk_at dksX4_noRow_0 16 rfl rfl)
theorem dX4_noRow_17 : decode cX4_noRow 17 = .ok (.getfield 32, 3) := dk_180 0 32 (dk_at dksX4_noRow_0 17 rfl rfl)
theorem dX4_noRow_20 : decode cX4_noRow 20 = .ok (.iload_n 1, 1) := dk_27 (dk_at dksX4_noRow_0 20 rfl rfl)
theorem dX4_noRow_21 : decode cX4_noRow 21 = .ok (.iaload, 1) := dk_46 (dk_at dksX4_noRow_0 21 rfl rfl)
theorem dX4_noRow_22 : decode cX4_noRow 22 = .ok (.ifCond .ge 8, 3) := dk_156 0 8 (dk_at dksX4_noRow_1 0 rfl rfl)
theorem dX4_noRow_25 : decode cX4_noRow 25 = .ok (.bipush (-4), 2) := dk_16 252 (dk_at dksX4_noRow_1 3 rfl rfl)
theorem dX4_noRow_27 : decode cX4_noRow 27 = .ok (.goto 4, 3) := dk_167 0 4 (dk_at dksX4_noRow_1 5 rfl rfl)
theorem dX4_noRow_30 : decode cX4_noRow 30 = .ok (.iconst 0, 1) := dk_3 (dk_at dksX4_noRow_1 8 rfl rfl)
theorem dX4_noRow_31 : decode cX4_noRow 31 = .ok (.ireturn, 1) := dk_172 (dk_at dksX4_noRow_1 9 rfl rfl)
def dkwX4_kept_3 : List UInt8 := [167, 0, 4, 9, 173]
abbrev dktX4_kept_3 : List UInt8 := dkwX4_kept_3 ++ []
def dkwX4_kept_2 : List UInt8 := [31, 136, 145, 133, 173, 31, 136, 147, 133, 173, 31, 136, 133, 173, 31, 173, 31, 9, 148, 153, 0, 7, 10]
abbrev dktX4_kept_2 : List UInt8 := dkwX4_kept_2 ++ dktX4_kept_3
def dkwX4_kept_1 : List UInt8 := [170, 0, 0, 0, 0, 0, 47, 0, 0, 0, 0, 0, 0, 0, 3, 0, 0, 0, 31, 0, 0, 0, 36, 0, 0, 0, 41, 0, 0, 0, 45]
abbrev dktX4_kept_1 : List UInt8 := dkwX4_kept_1 ++ dktX4_kept_2
def dkwX4_kept_0 : List UInt8 := [26]
abbrev dktX4_kept_0 : List UInt8 := dkwX4_kept_0 ++ dktX4_kept_1
theorem dksX4_kept_0 : cX4_kept.data.toList.drop 0 = dktX4_kept_0 := by decide +kernel
theorem dksX4_kept_1 : cX4_kept.data.toList.drop 1 = dktX4_kept_1 := dk_seg dksX4_kept_0 1 rfl rfl
theorem dksX4_kept_2 : cX4_kept.data.toList.drop 32 = dktX4_kept_2 := dk_seg dksX4_kept_1 31 rfl rfl
theorem dksX4_kept_3 : cX4_kept.data.toList.drop 55 = dktX4_kept_3 := dk_seg dksX4_kept_2 23 rfl rfl
theorem dX4_kept_0 : decode cX4_kept 0 = .ok (.iload_n 0, 1) := dk_26 (dk_at dksX4_kept_0 0 rfl rfl)
theorem dX4_kept_1 : decode cX4_kept 1 = .ok (.tableswitch 47 0 3 #[31, 36, 41, 45], 31) := by decide +kernel
theorem dX4_kept_32 : decode cX4_kept 32 = .ok (.lload_n 1, 1) := dk_31 (dk_at dksX4_kept_2 0 rfl rfl)
theorem dX4_kept_33 : decode cX4_kept 33 = .ok (.l2i, 1) := dk_136 (dk_at dksX4_kept_2 1 rfl rfl)
theorem dX4_kept_34 : decode cX4_kept 34 = .ok (.i2b, 1) := dk_145 (dk_at dksX4_kept_2 2 rfl rfl)
theorem dX4_kept_35 : decode cX4_kept 35 = .ok (.i2l, 1) := dk_133 (dk_at dksX4_kept_2 3 rfl rfl)
theorem dX4_kept_36 : decode cX4_kept 36 = .ok (.lreturn, 1) := dk_173 (dk_at dksX4_kept_2 4 rfl rfl)
theorem dX4_kept_37 : decode cX4_kept 37 = .ok (.lload_n 1, 1) := dk_31 (dk_at dksX4_kept_2 5 rfl rfl)
theorem dX4_kept_38 : decode cX4_kept 38 = .ok (.l2i, 1) := dk_136 (dk_at dksX4_kept_2 6 rfl rfl)
theorem dX4_kept_39 : decode cX4_kept 39 = .ok (.i2s, 1) := dk_147 (dk_at dksX4_kept_2 7 rfl rfl)
theorem dX4_kept_40 : decode cX4_kept 40 = .ok (.i2l, 1) := dk_133 (dk_at dksX4_kept_2 8 rfl rfl)
theorem dX4_kept_41 : decode cX4_kept 41 = .ok (.lreturn, 1) := dk_173 (dk_at dksX4_kept_2 9 rfl rfl)
theorem dX4_kept_42 : decode cX4_kept 42 = .ok (.lload_n 1, 1) := dk_31 (dk_at dksX4_kept_2 10 rfl rfl)
theorem dX4_kept_43 : decode cX4_kept 43 = .ok (.l2i, 1) := dk_136 (dk_at dksX4_kept_2 11 rfl rfl)
theorem dX4_kept_44 : decode cX4_kept 44 = .ok (.i2l, 1) := dk_133 (dk_at dksX4_kept_2 12 rfl rfl)
theorem dX4_kept_45 : decode cX4_kept 45 = .ok (.lreturn, 1) := dk_173 (dk_at dksX4_kept_2 13 rfl rfl)
theorem dX4_kept_46 : decode cX4_kept 46 = .ok (.lload_n 1, 1) := dk_31 (dk_at dksX4_kept_2 14 rfl rfl)
theorem dX4_kept_47 : decode cX4_kept 47 = .ok (.lreturn, 1) := dk_173 (dk_at dksX4_kept_2 15 rfl rfl)
theorem dX4_kept_48 : decode cX4_kept 48 = .ok (.lload_n 1, 1) := dk_31 (dk_at dksX4_kept_2 16 rfl rfl)
theorem dX4_kept_49 : decode cX4_kept 49 = .ok (.lconst 0, 1) := dk_9 (dk_at dksX4_kept_2 17 rfl rfl)
theorem dX4_kept_50 : decode cX4_kept 50 = .ok (.lcmp, 1) := dk_148 (dk_at dksX4_kept_2 18 rfl rfl)
theorem dX4_kept_51 : decode cX4_kept 51 = .ok (.ifCond .eq 7, 3) := dk_153 0 7 (dk_at dksX4_kept_2 19 rfl rfl)
theorem dX4_kept_54 : decode cX4_kept 54 = .ok (.lconst 1, 1) := dk_10 (dk_at dksX4_kept_2 22 rfl rfl)
theorem dX4_kept_55 : decode cX4_kept 55 = .ok (.goto 4, 3) := dk_167 0 4 (dk_at dksX4_kept_3 0 rfl rfl)
theorem dX4_kept_58 : decode cX4_kept 58 = .ok (.lconst 0, 1) := dk_9 (dk_at dksX4_kept_3 3 rfl rfl)
theorem dX4_kept_59 : decode cX4_kept 59 = .ok (.lreturn, 1) := dk_173 (dk_at dksX4_kept_3 4 rfl rfl)
def dkwX4_copy_11 : List UInt8 := [21, 6, 96, 47, 80, 132, 6, 1, 167, 255, 217, 21, 5, 172]
abbrev dktX4_copy_11 : List UInt8 := dkwX4_copy_11 ++ []
def dkwX4_copy_10 : List UInt8 := [42, 180, 0, 38, 16, 40, 28, 104, 21, 4, 96, 21, 6, 96, 42, 180, 0, 38, 16, 40, 27, 104, 29, 96]
abbrev dktX4_copy_10 : List UInt8 := dkwX4_copy_10 ++ dktX4_copy_11
def dkwX4_copy_9 : List UInt8 := [21, 6, 96, 47, 80, 132, 6, 255, 167, 255, 219, 167, 0, 48, 3, 54, 6, 21, 6, 21, 5, 162, 0, 38]
abbrev dktX4_copy_9 : List UInt8 := dkwX4_copy_9 ++ dktX4_copy_10
def dkwX4_copy_8 : List UInt8 := [180, 0, 38, 16, 40, 28, 104, 21, 4, 96, 21, 6, 96, 42, 180, 0, 38, 16, 40, 27, 104, 29, 96]
abbrev dktX4_copy_8 : List UInt8 := dkwX4_copy_8 ++ dktX4_copy_9
def dkwX4_copy_7 : List UInt8 := [28, 160, 0, 58, 29, 21, 4, 162, 0, 52, 21, 5, 4, 100, 54, 6, 21, 6, 155, 0, 38, 42]
abbrev dktX4_copy_7 : List UInt8 := dkwX4_copy_7 ++ dktX4_copy_8
def dkwX4_copy_6 : List UInt8 := [133, 21, 5, 133, 97, 42, 180, 0, 35, 28, 46, 133, 148, 158, 0, 10, 42, 16, 254, 182, 0, 87, 172, 27]
abbrev dktX4_copy_6 : List UInt8 := dkwX4_copy_6 ++ dktX4_copy_7
def dkwX4_copy_5 : List UInt8 := [21, 4, 155, 0, 38, 29, 133, 21, 5, 133, 97, 42, 180, 0, 35, 27, 46, 133, 148, 157, 0, 21, 21, 4]
abbrev dktX4_copy_5 : List UInt8 := dkwX4_copy_5 ++ dktX4_copy_6
def dkwX4_copy_4 : List UInt8 := [180, 0, 32, 28, 46, 156, 0, 10, 42, 16, 252, 182, 0, 87, 172, 21, 5, 155, 0, 47, 29, 155, 0, 43]
abbrev dktX4_copy_4 : List UInt8 := dkwX4_copy_4 ++ dktX4_copy_5
def dkwX4_copy_3 : List UInt8 := [28, 46, 159, 0, 10, 42, 16, 253, 182, 0, 87, 172, 42, 180, 0, 32, 27, 46, 155, 0, 12, 42]
abbrev dktX4_copy_3 : List UInt8 := dkwX4_copy_3 ++ dktX4_copy_4
def dkwX4_copy_2 : List UInt8 := [182, 0, 91, 153, 0, 33, 42, 28, 182, 0, 91, 153, 0, 25, 42, 180, 0, 32, 27, 46, 42, 180, 0, 32]
abbrev dktX4_copy_2 : List UInt8 := dkwX4_copy_2 ++ dktX4_copy_3
def dkwX4_copy_1 : List UInt8 := [180, 0, 32, 27, 46, 16, 10, 162, 0, 45, 42, 180, 0, 32, 28, 46, 16, 10, 162, 0, 34, 42, 27]
abbrev dktX4_copy_1 : List UInt8 := dkwX4_copy_1 ++ dktX4_copy_2
def dkwX4_copy_0 : List UInt8 := [27, 184, 0, 83, 153, 0, 10, 28, 184, 0, 83, 154, 0, 10, 42, 16, 254, 182, 0, 87, 172, 42]
abbrev dktX4_copy_0 : List UInt8 := dkwX4_copy_0 ++ dktX4_copy_1
theorem dksX4_copy_0 : cX4_copy.data.toList.drop 0 = dktX4_copy_0 := by decide +kernel
theorem dksX4_copy_1 : cX4_copy.data.toList.drop 22 = dktX4_copy_1 := dk_seg dksX4_copy_0 22 rfl rfl
theorem dksX4_copy_2 : cX4_copy.data.toList.drop 45 = dktX4_copy_2 := dk_seg dksX4_copy_1 23 rfl rfl
theorem dksX4_copy_3 : cX4_copy.data.toList.drop 69 = dktX4_copy_3 := dk_seg dksX4_copy_2 24 rfl rfl
theorem dksX4_copy_4 : cX4_copy.data.toList.drop 91 = dktX4_copy_4 := dk_seg dksX4_copy_3 22 rfl rfl
theorem dksX4_copy_5 : cX4_copy.data.toList.drop 115 = dktX4_copy_5 := dk_seg dksX4_copy_4 24 rfl rfl
theorem dksX4_copy_6 : cX4_copy.data.toList.drop 139 = dktX4_copy_6 := dk_seg dksX4_copy_5 24 rfl rfl
theorem dksX4_copy_7 : cX4_copy.data.toList.drop 163 = dktX4_copy_7 := dk_seg dksX4_copy_6 24 rfl rfl
theorem dksX4_copy_8 : cX4_copy.data.toList.drop 185 = dktX4_copy_8 := dk_seg dksX4_copy_7 22 rfl rfl
theorem dksX4_copy_9 : cX4_copy.data.toList.drop 208 = dktX4_copy_9 := dk_seg dksX4_copy_8 23 rfl rfl
theorem dksX4_copy_10 : cX4_copy.data.toList.drop 232 = dktX4_copy_10 := dk_seg dksX4_copy_9 24 rfl rfl
theorem dksX4_copy_11 : cX4_copy.data.toList.drop 256 = dktX4_copy_11 := dk_seg dksX4_copy_10 24 rfl rfl
theorem dX4_copy_0 : decode cX4_copy 0 = .ok (.iload_n 1, 1) := dk_27 (dk_at dksX4_copy_0 0 rfl rfl)
theorem dX4_copy_1 : decode cX4_copy 1 = .ok (.invokestatic 83, 3) := dk_184 0 83 (dk_at dksX4_copy_0 1 rfl rfl)
theorem dX4_copy_4 : decode cX4_copy 4 = .ok (.ifCond .eq 10, 3) := dk_153 0 10 (dk_at dksX4_copy_0 4 rfl rfl)
theorem dX4_copy_7 : decode cX4_copy 7 = .ok (.iload_n 2, 1) := dk_28 (dk_at dksX4_copy_0 7 rfl rfl)
theorem dX4_copy_8 : decode cX4_copy 8 = .ok (.invokestatic 83, 3) := dk_184 0 83 (dk_at dksX4_copy_0 8 rfl rfl)
theorem dX4_copy_11 : decode cX4_copy 11 = .ok (.ifCond .ne 10, 3) := dk_154 0 10 (dk_at dksX4_copy_0 11 rfl rfl)
theorem dX4_copy_14 : decode cX4_copy 14 = .ok (.aload_n 0, 1) := dk_42 (dk_at dksX4_copy_0 14 rfl rfl)
theorem dX4_copy_15 : decode cX4_copy 15 = .ok (.bipush (-2), 2) := dk_16 254 (dk_at dksX4_copy_0 15 rfl rfl)
theorem dX4_copy_17 : decode cX4_copy 17 = .ok (.invokevirtual 87, 3) := dk_182 0 87 (dk_at dksX4_copy_0 17 rfl rfl)
theorem dX4_copy_20 : decode cX4_copy 20 = .ok (.ireturn, 1) := dk_172 (dk_at dksX4_copy_0 20 rfl rfl)
theorem dX4_copy_21 : decode cX4_copy 21 = .ok (.aload_n 0, 1) := dk_42 (dk_at dksX4_copy_0 21 rfl rfl)
theorem dX4_copy_22 : decode cX4_copy 22 = .ok (.getfield 32, 3) := dk_180 0 32 (dk_at dksX4_copy_1 0 rfl rfl)
theorem dX4_copy_25 : decode cX4_copy 25 = .ok (.iload_n 1, 1) := dk_27 (dk_at dksX4_copy_1 3 rfl rfl)
theorem dX4_copy_26 : decode cX4_copy 26 = .ok (.iaload, 1) := dk_46 (dk_at dksX4_copy_1 4 rfl rfl)
theorem dX4_copy_27 : decode cX4_copy 27 = .ok (.bipush 10, 2) := dk_16 10 (dk_at dksX4_copy_1 5 rfl rfl)
theorem dX4_copy_29 : decode cX4_copy 29 = .ok (.if_icmp .ge 45, 3) := dk_162 0 45 (dk_at dksX4_copy_1 7 rfl rfl)
theorem dX4_copy_32 : decode cX4_copy 32 = .ok (.aload_n 0, 1) := dk_42 (dk_at dksX4_copy_1 10 rfl rfl)
theorem dX4_copy_33 : decode cX4_copy 33 = .ok (.getfield 32, 3) := dk_180 0 32 (dk_at dksX4_copy_1 11 rfl rfl)
theorem dX4_copy_36 : decode cX4_copy 36 = .ok (.iload_n 2, 1) := dk_28 (dk_at dksX4_copy_1 14 rfl rfl)
theorem dX4_copy_37 : decode cX4_copy 37 = .ok (.iaload, 1) := dk_46 (dk_at dksX4_copy_1 15 rfl rfl)
theorem dX4_copy_38 : decode cX4_copy 38 = .ok (.bipush 10, 2) := dk_16 10 (dk_at dksX4_copy_1 16 rfl rfl)
theorem dX4_copy_40 : decode cX4_copy 40 = .ok (.if_icmp .ge 34, 3) := dk_162 0 34 (dk_at dksX4_copy_1 18 rfl rfl)
theorem dX4_copy_43 : decode cX4_copy 43 = .ok (.aload_n 0, 1) := dk_42 (dk_at dksX4_copy_1 21 rfl rfl)
theorem dX4_copy_44 : decode cX4_copy 44 = .ok (.iload_n 1, 1) := dk_27 (dk_at dksX4_copy_1 22 rfl rfl)
theorem dX4_copy_45 : decode cX4_copy 45 = .ok (.invokevirtual 91, 3) := dk_182 0 91 (dk_at dksX4_copy_2 0 rfl rfl)
theorem dX4_copy_48 : decode cX4_copy 48 = .ok (.ifCond .eq 33, 3) := dk_153 0 33 (dk_at dksX4_copy_2 3 rfl rfl)
theorem dX4_copy_51 : decode cX4_copy 51 = .ok (.aload_n 0, 1) := dk_42 (dk_at dksX4_copy_2 6 rfl rfl)
theorem dX4_copy_52 : decode cX4_copy 52 = .ok (.iload_n 2, 1) := dk_28 (dk_at dksX4_copy_2 7 rfl rfl)
theorem dX4_copy_53 : decode cX4_copy 53 = .ok (.invokevirtual 91, 3) := dk_182 0 91 (dk_at dksX4_copy_2 8 rfl rfl)
theorem dX4_copy_56 : decode cX4_copy 56 = .ok (.ifCond .eq 25, 3) := dk_153 0 25 (dk_at dksX4_copy_2 11 rfl rfl)
theorem dX4_copy_59 : decode cX4_copy 59 = .ok (.aload_n 0, 1) := dk_42 (dk_at dksX4_copy_2 14 rfl rfl)
theorem dX4_copy_60 : decode cX4_copy 60 = .ok (.getfield 32, 3) := dk_180 0 32 (dk_at dksX4_copy_2 15 rfl rfl)
theorem dX4_copy_63 : decode cX4_copy 63 = .ok (.iload_n 1, 1) := dk_27 (dk_at dksX4_copy_2 18 rfl rfl)
theorem dX4_copy_64 : decode cX4_copy 64 = .ok (.iaload, 1) := dk_46 (dk_at dksX4_copy_2 19 rfl rfl)
theorem dX4_copy_65 : decode cX4_copy 65 = .ok (.aload_n 0, 1) := dk_42 (dk_at dksX4_copy_2 20 rfl rfl)
theorem dX4_copy_66 : decode cX4_copy 66 = .ok (.getfield 32, 3) := dk_180 0 32 (dk_at dksX4_copy_2 21 rfl rfl)
theorem dX4_copy_69 : decode cX4_copy 69 = .ok (.iload_n 2, 1) := dk_28 (dk_at dksX4_copy_3 0 rfl rfl)
theorem dX4_copy_70 : decode cX4_copy 70 = .ok (.iaload, 1) := dk_46 (dk_at dksX4_copy_3 1 rfl rfl)
theorem dX4_copy_71 : decode cX4_copy 71 = .ok (.if_icmp .eq 10, 3) := dk_159 0 10 (dk_at dksX4_copy_3 2 rfl rfl)
theorem dX4_copy_74 : decode cX4_copy 74 = .ok (.aload_n 0, 1) := dk_42 (dk_at dksX4_copy_3 5 rfl rfl)
theorem dX4_copy_75 : decode cX4_copy 75 = .ok (.bipush (-3), 2) := dk_16 253 (dk_at dksX4_copy_3 6 rfl rfl)
theorem dX4_copy_77 : decode cX4_copy 77 = .ok (.invokevirtual 87, 3) := dk_182 0 87 (dk_at dksX4_copy_3 8 rfl rfl)
theorem dX4_copy_80 : decode cX4_copy 80 = .ok (.ireturn, 1) := dk_172 (dk_at dksX4_copy_3 11 rfl rfl)
theorem dX4_copy_81 : decode cX4_copy 81 = .ok (.aload_n 0, 1) := dk_42 (dk_at dksX4_copy_3 12 rfl rfl)
theorem dX4_copy_82 : decode cX4_copy 82 = .ok (.getfield 32, 3) := dk_180 0 32 (dk_at dksX4_copy_3 13 rfl rfl)
theorem dX4_copy_85 : decode cX4_copy 85 = .ok (.iload_n 1, 1) := dk_27 (dk_at dksX4_copy_3 16 rfl rfl)
theorem dX4_copy_86 : decode cX4_copy 86 = .ok (.iaload, 1) := dk_46 (dk_at dksX4_copy_3 17 rfl rfl)
theorem dX4_copy_87 : decode cX4_copy 87 = .ok (.ifCond .lt 12, 3) := dk_155 0 12 (dk_at dksX4_copy_3 18 rfl rfl)
theorem dX4_copy_90 : decode cX4_copy 90 = .ok (.aload_n 0, 1) := dk_42 (dk_at dksX4_copy_3 21 rfl rfl)
theorem dX4_copy_91 : decode cX4_copy 91 = .ok (.getfield 32, 3) := dk_180 0 32 (dk_at dksX4_copy_4 0 rfl rfl)
theorem dX4_copy_94 : decode cX4_copy 94 = .ok (.iload_n 2, 1) := dk_28 (dk_at dksX4_copy_4 3 rfl rfl)
theorem dX4_copy_95 : decode cX4_copy 95 = .ok (.iaload, 1) := dk_46 (dk_at dksX4_copy_4 4 rfl rfl)
theorem dX4_copy_96 : decode cX4_copy 96 = .ok (.ifCond .ge 10, 3) := dk_156 0 10 (dk_at dksX4_copy_4 5 rfl rfl)
theorem dX4_copy_99 : decode cX4_copy 99 = .ok (.aload_n 0, 1) := dk_42 (dk_at dksX4_copy_4 8 rfl rfl)
theorem dX4_copy_100 : decode cX4_copy 100 = .ok (.bipush (-4), 2) := dk_16 252 (dk_at dksX4_copy_4 9 rfl rfl)
theorem dX4_copy_102 : decode cX4_copy 102 = .ok (.invokevirtual 87, 3) := dk_182 0 87 (dk_at dksX4_copy_4 11 rfl rfl)
theorem dX4_copy_105 : decode cX4_copy 105 = .ok (.ireturn, 1) := dk_172 (dk_at dksX4_copy_4 14 rfl rfl)
theorem dX4_copy_106 : decode cX4_copy 106 = .ok (.iload 5, 2) := dk_21 5 (dk_at dksX4_copy_4 15 rfl rfl)
theorem dX4_copy_108 : decode cX4_copy 108 = .ok (.ifCond .lt 47, 3) := dk_155 0 47 (dk_at dksX4_copy_4 17 rfl rfl)
theorem dX4_copy_111 : decode cX4_copy 111 = .ok (.iload_n 3, 1) := dk_29 (dk_at dksX4_copy_4 20 rfl rfl)
theorem dX4_copy_112 : decode cX4_copy 112 = .ok (.ifCond .lt 43, 3) := dk_155 0 43 (dk_at dksX4_copy_4 21 rfl rfl)
theorem dX4_copy_115 : decode cX4_copy 115 = .ok (.iload 4, 2) := dk_21 4 (dk_at dksX4_copy_5 0 rfl rfl)
theorem dX4_copy_117 : decode cX4_copy 117 = .ok (.ifCond .lt 38, 3) := dk_155 0 38 (dk_at dksX4_copy_5 2 rfl rfl)
theorem dX4_copy_120 : decode cX4_copy 120 = .ok (.iload_n 3, 1) := dk_29 (dk_at dksX4_copy_5 5 rfl rfl)
theorem dX4_copy_121 : decode cX4_copy 121 = .ok (.i2l, 1) := dk_133 (dk_at dksX4_copy_5 6 rfl rfl)
theorem dX4_copy_122 : decode cX4_copy 122 = .ok (.iload 5, 2) := dk_21 5 (dk_at dksX4_copy_5 7 rfl rfl)
theorem dX4_copy_124 : decode cX4_copy 124 = .ok (.i2l, 1) := dk_133 (dk_at dksX4_copy_5 9 rfl rfl)
theorem dX4_copy_125 : decode cX4_copy 125 = .ok (.ladd, 1) := dk_97 (dk_at dksX4_copy_5 10 rfl rfl)
theorem dX4_copy_126 : decode cX4_copy 126 = .ok (.aload_n 0, 1) := dk_42 (dk_at dksX4_copy_5 11 rfl rfl)
theorem dX4_copy_127 : decode cX4_copy 127 = .ok (.getfield 35, 3) := dk_180 0 35 (dk_at dksX4_copy_5 12 rfl rfl)
theorem dX4_copy_130 : decode cX4_copy 130 = .ok (.iload_n 1, 1) := dk_27 (dk_at dksX4_copy_5 15 rfl rfl)
theorem dX4_copy_131 : decode cX4_copy 131 = .ok (.iaload, 1) := dk_46 (dk_at dksX4_copy_5 16 rfl rfl)
theorem dX4_copy_132 : decode cX4_copy 132 = .ok (.i2l, 1) := dk_133 (dk_at dksX4_copy_5 17 rfl rfl)
theorem dX4_copy_133 : decode cX4_copy 133 = .ok (.lcmp, 1) := dk_148 (dk_at dksX4_copy_5 18 rfl rfl)
theorem dX4_copy_134 : decode cX4_copy 134 = .ok (.ifCond .gt 21, 3) := dk_157 0 21 (dk_at dksX4_copy_5 19 rfl rfl)
theorem dX4_copy_137 : decode cX4_copy 137 = .ok (.iload 4, 2) := dk_21 4 (dk_at dksX4_copy_5 22 rfl rfl)
theorem dX4_copy_139 : decode cX4_copy 139 = .ok (.i2l, 1) := dk_133 (dk_at dksX4_copy_6 0 rfl rfl)
theorem dX4_copy_140 : decode cX4_copy 140 = .ok (.iload 5, 2) := dk_21 5 (dk_at dksX4_copy_6 1 rfl rfl)
theorem dX4_copy_142 : decode cX4_copy 142 = .ok (.i2l, 1) := dk_133 (dk_at dksX4_copy_6 3 rfl rfl)
theorem dX4_copy_143 : decode cX4_copy 143 = .ok (.ladd, 1) := dk_97 (dk_at dksX4_copy_6 4 rfl rfl)
theorem dX4_copy_144 : decode cX4_copy 144 = .ok (.aload_n 0, 1) := dk_42 (dk_at dksX4_copy_6 5 rfl rfl)
theorem dX4_copy_145 : decode cX4_copy 145 = .ok (.getfield 35, 3) := dk_180 0 35 (dk_at dksX4_copy_6 6 rfl rfl)
theorem dX4_copy_148 : decode cX4_copy 148 = .ok (.iload_n 2, 1) := dk_28 (dk_at dksX4_copy_6 9 rfl rfl)
theorem dX4_copy_149 : decode cX4_copy 149 = .ok (.iaload, 1) := dk_46 (dk_at dksX4_copy_6 10 rfl rfl)
theorem dX4_copy_150 : decode cX4_copy 150 = .ok (.i2l, 1) := dk_133 (dk_at dksX4_copy_6 11 rfl rfl)
theorem dX4_copy_151 : decode cX4_copy 151 = .ok (.lcmp, 1) := dk_148 (dk_at dksX4_copy_6 12 rfl rfl)
theorem dX4_copy_152 : decode cX4_copy 152 = .ok (.ifCond .le 10, 3) := dk_158 0 10 (dk_at dksX4_copy_6 13 rfl rfl)
theorem dX4_copy_155 : decode cX4_copy 155 = .ok (.aload_n 0, 1) := dk_42 (dk_at dksX4_copy_6 16 rfl rfl)
theorem dX4_copy_156 : decode cX4_copy 156 = .ok (.bipush (-2), 2) := dk_16 254 (dk_at dksX4_copy_6 17 rfl rfl)
theorem dX4_copy_158 : decode cX4_copy 158 = .ok (.invokevirtual 87, 3) := dk_182 0 87 (dk_at dksX4_copy_6 19 rfl rfl)
theorem dX4_copy_161 : decode cX4_copy 161 = .ok (.ireturn, 1) := dk_172 (dk_at dksX4_copy_6 22 rfl rfl)
theorem dX4_copy_162 : decode cX4_copy 162 = .ok (.iload_n 1, 1) := dk_27 (dk_at dksX4_copy_6 23 rfl rfl)
theorem dX4_copy_163 : decode cX4_copy 163 = .ok (.iload_n 2, 1) := dk_28 (dk_at dksX4_copy_7 0 rfl rfl)
theorem dX4_copy_164 : decode cX4_copy 164 = .ok (.if_icmp .ne 58, 3) := dk_160 0 58 (dk_at dksX4_copy_7 1 rfl rfl)
theorem dX4_copy_167 : decode cX4_copy 167 = .ok (.iload_n 3, 1) := dk_29 (dk_at dksX4_copy_7 4 rfl rfl)
theorem dX4_copy_168 : decode cX4_copy 168 = .ok (.iload 4, 2) := dk_21 4 (dk_at dksX4_copy_7 5 rfl rfl)
theorem dX4_copy_170 : decode cX4_copy 170 = .ok (.if_icmp .ge 52, 3) := dk_162 0 52 (dk_at dksX4_copy_7 7 rfl rfl)
theorem dX4_copy_173 : decode cX4_copy 173 = .ok (.iload 5, 2) := dk_21 5 (dk_at dksX4_copy_7 10 rfl rfl)
theorem dX4_copy_175 : decode cX4_copy 175 = .ok (.iconst 1, 1) := dk_4 (dk_at dksX4_copy_7 12 rfl rfl)
theorem dX4_copy_176 : decode cX4_copy 176 = .ok (.isub, 1) := dk_100 (dk_at dksX4_copy_7 13 rfl rfl)
theorem dX4_copy_177 : decode cX4_copy 177 = .ok (.istore 6, 2) := dk_54 6 (dk_at dksX4_copy_7 14 rfl rfl)
theorem dX4_copy_179 : decode cX4_copy 179 = .ok (.iload 6, 2) := dk_21 6 (dk_at dksX4_copy_7 16 rfl rfl)
theorem dX4_copy_181 : decode cX4_copy 181 = .ok (.ifCond .lt 38, 3) := dk_155 0 38 (dk_at dksX4_copy_7 18 rfl rfl)
theorem dX4_copy_184 : decode cX4_copy 184 = .ok (.aload_n 0, 1) := dk_42 (dk_at dksX4_copy_7 21 rfl rfl)
theorem dX4_copy_185 : decode cX4_copy 185 = .ok (.getfield 38, 3) := dk_180 0 38 (dk_at dksX4_copy_8 0 rfl rfl)
theorem dX4_copy_188 : decode cX4_copy 188 = .ok (.bipush 40, 2) := dk_16 40 (dk_at dksX4_copy_8 3 rfl rfl)
theorem dX4_copy_190 : decode cX4_copy 190 = .ok (.iload_n 2, 1) := dk_28 (dk_at dksX4_copy_8 5 rfl rfl)
theorem dX4_copy_191 : decode cX4_copy 191 = .ok (.imul, 1) := dk_104 (dk_at dksX4_copy_8 6 rfl rfl)
theorem dX4_copy_192 : decode cX4_copy 192 = .ok (.iload 4, 2) := dk_21 4 (dk_at dksX4_copy_8 7 rfl rfl)
theorem dX4_copy_194 : decode cX4_copy 194 = .ok (.iadd, 1) := dk_96 (dk_at dksX4_copy_8 9 rfl rfl)
theorem dX4_copy_195 : decode cX4_copy 195 = .ok (.iload 6, 2) := dk_21 6 (dk_at dksX4_copy_8 10 rfl rfl)
theorem dX4_copy_197 : decode cX4_copy 197 = .ok (.iadd, 1) := dk_96 (dk_at dksX4_copy_8 12 rfl rfl)
theorem dX4_copy_198 : decode cX4_copy 198 = .ok (.aload_n 0, 1) := dk_42 (dk_at dksX4_copy_8 13 rfl rfl)
theorem dX4_copy_199 : decode cX4_copy 199 = .ok (.getfield 38, 3) := dk_180 0 38 (dk_at dksX4_copy_8 14 rfl rfl)
theorem dX4_copy_202 : decode cX4_copy 202 = .ok (.bipush 40, 2) := dk_16 40 (dk_at dksX4_copy_8 17 rfl rfl)
theorem dX4_copy_204 : decode cX4_copy 204 = .ok (.iload_n 1, 1) := dk_27 (dk_at dksX4_copy_8 19 rfl rfl)
theorem dX4_copy_205 : decode cX4_copy 205 = .ok (.imul, 1) := dk_104 (dk_at dksX4_copy_8 20 rfl rfl)
theorem dX4_copy_206 : decode cX4_copy 206 = .ok (.iload_n 3, 1) := dk_29 (dk_at dksX4_copy_8 21 rfl rfl)
theorem dX4_copy_207 : decode cX4_copy 207 = .ok (.iadd, 1) := dk_96 (dk_at dksX4_copy_8 22 rfl rfl)
theorem dX4_copy_208 : decode cX4_copy 208 = .ok (.iload 6, 2) := dk_21 6 (dk_at dksX4_copy_9 0 rfl rfl)
theorem dX4_copy_210 : decode cX4_copy 210 = .ok (.iadd, 1) := dk_96 (dk_at dksX4_copy_9 2 rfl rfl)
theorem dX4_copy_211 : decode cX4_copy 211 = .ok (.laload, 1) := dk_47 (dk_at dksX4_copy_9 3 rfl rfl)
theorem dX4_copy_212 : decode cX4_copy 212 = .ok (.lastore, 1) := dk_80 (dk_at dksX4_copy_9 4 rfl rfl)
theorem dX4_copy_213 : decode cX4_copy 213 = .ok (.iinc 6 (-1), 3) := dk_132 6 255 (dk_at dksX4_copy_9 5 rfl rfl)
theorem dX4_copy_216 : decode cX4_copy 216 = .ok (.goto (-37), 3) := dk_167 255 219 (dk_at dksX4_copy_9 8 rfl rfl)
theorem dX4_copy_219 : decode cX4_copy 219 = .ok (.goto 48, 3) := dk_167 0 48 (dk_at dksX4_copy_9 11 rfl rfl)
theorem dX4_copy_222 : decode cX4_copy 222 = .ok (.iconst 0, 1) := dk_3 (dk_at dksX4_copy_9 14 rfl rfl)
theorem dX4_copy_223 : decode cX4_copy 223 = .ok (.istore 6, 2) := dk_54 6 (dk_at dksX4_copy_9 15 rfl rfl)
theorem dX4_copy_225 : decode cX4_copy 225 = .ok (.iload 6, 2) := dk_21 6 (dk_at dksX4_copy_9 17 rfl rfl)
theorem dX4_copy_227 : decode cX4_copy 227 = .ok (.iload 5, 2) := dk_21 5 (dk_at dksX4_copy_9 19 rfl rfl)
theorem dX4_copy_229 : decode cX4_copy 229 = .ok (.if_icmp .ge 38, 3) := dk_162 0 38 (dk_at dksX4_copy_9 21 rfl rfl)
theorem dX4_copy_232 : decode cX4_copy 232 = .ok (.aload_n 0, 1) := dk_42 (dk_at dksX4_copy_10 0 rfl rfl)
theorem dX4_copy_233 : decode cX4_copy 233 = .ok (.getfield 38, 3) := dk_180 0 38 (dk_at dksX4_copy_10 1 rfl rfl)
theorem dX4_copy_236 : decode cX4_copy 236 = .ok (.bipush 40, 2) := dk_16 40 (dk_at dksX4_copy_10 4 rfl rfl)
theorem dX4_copy_238 : decode cX4_copy 238 = .ok (.iload_n 2, 1) := dk_28 (dk_at dksX4_copy_10 6 rfl rfl)
theorem dX4_copy_239 : decode cX4_copy 239 = .ok (.imul, 1) := dk_104 (dk_at dksX4_copy_10 7 rfl rfl)
theorem dX4_copy_240 : decode cX4_copy 240 = .ok (.iload 4, 2) := dk_21 4 (dk_at dksX4_copy_10 8 rfl rfl)
theorem dX4_copy_242 : decode cX4_copy 242 = .ok (.iadd, 1) := dk_96 (dk_at dksX4_copy_10 10 rfl rfl)
theorem dX4_copy_243 : decode cX4_copy 243 = .ok (.iload 6, 2) := dk_21 6 (dk_at dksX4_copy_10 11 rfl rfl)
theorem dX4_copy_245 : decode cX4_copy 245 = .ok (.iadd, 1) := dk_96 (dk_at dksX4_copy_10 13 rfl rfl)
theorem dX4_copy_246 : decode cX4_copy 246 = .ok (.aload_n 0, 1) := dk_42 (dk_at dksX4_copy_10 14 rfl rfl)
theorem dX4_copy_247 : decode cX4_copy 247 = .ok (.getfield 38, 3) := dk_180 0 38 (dk_at dksX4_copy_10 15 rfl rfl)
theorem dX4_copy_250 : decode cX4_copy 250 = .ok (.bipush 40, 2) := dk_16 40 (dk_at dksX4_copy_10 18 rfl rfl)
theorem dX4_copy_252 : decode cX4_copy 252 = .ok (.iload_n 1, 1) := dk_27 (dk_at dksX4_copy_10 20 rfl rfl)
theorem dX4_copy_253 : decode cX4_copy 253 = .ok (.imul, 1) := dk_104 (dk_at dksX4_copy_10 21 rfl rfl)
theorem dX4_copy_254 : decode cX4_copy 254 = .ok (.iload_n 3, 1) := dk_29 (dk_at dksX4_copy_10 22 rfl rfl)
theorem dX4_copy_255 : decode cX4_copy 255 = .ok (.iadd, 1) := dk_96 (dk_at dksX4_copy_10 23 rfl rfl)
theorem dX4_copy_256 : decode cX4_copy 256 = .ok (.iload 6, 2) := dk_21 6 (dk_at dksX4_copy_11 0 rfl rfl)
theorem dX4_copy_258 : decode cX4_copy 258 = .ok (.iadd, 1) := dk_96 (dk_at dksX4_copy_11 2 rfl rfl)
theorem dX4_copy_259 : decode cX4_copy 259 = .ok (.laload, 1) := dk_47 (dk_at dksX4_copy_11 3 rfl rfl)
theorem dX4_copy_260 : decode cX4_copy 260 = .ok (.lastore, 1) := dk_80 (dk_at dksX4_copy_11 4 rfl rfl)
theorem dX4_copy_261 : decode cX4_copy 261 = .ok (.iinc 6 1, 3) := dk_132 6 1 (dk_at dksX4_copy_11 5 rfl rfl)
theorem dX4_copy_264 : decode cX4_copy 264 = .ok (.goto (-39), 3) := dk_167 255 217 (dk_at dksX4_copy_11 8 rfl rfl)
theorem dX4_copy_267 : decode cX4_copy 267 = .ok (.iload 5, 2) := dk_21 5 (dk_at dksX4_copy_11 11 rfl rfl)
theorem dX4_copy_269 : decode cX4_copy 269 = .ok (.ireturn, 1) := dk_172 (dk_at dksX4_copy_11 13 rfl rfl)
def dkwX4_element_1 : List UInt8 := [100, 184, 0, 79, 153, 0, 17, 42, 180, 0, 38, 16, 40, 27, 104, 28, 96, 47, 167, 0, 4, 9, 173]
abbrev dktX4_element_1 : List UInt8 := dkwX4_element_1 ++ []
def dkwX4_element_0 : List UInt8 := [27, 184, 0, 83, 153, 0, 41, 42, 27, 182, 0, 91, 153, 0, 33, 28, 3, 42, 180, 0, 35, 27, 46, 4]
abbrev dktX4_element_0 : List UInt8 := dkwX4_element_0 ++ dktX4_element_1
theorem dksX4_element_0 : cX4_element.data.toList.drop 0 = dktX4_element_0 := by decide +kernel
theorem dksX4_element_1 : cX4_element.data.toList.drop 24 = dktX4_element_1 := dk_seg dksX4_element_0 24 rfl rfl
theorem dX4_element_0 : decode cX4_element 0 = .ok (.iload_n 1, 1) := dk_27 (dk_at dksX4_element_0 0 rfl rfl)
theorem dX4_element_1 : decode cX4_element 1 = .ok (.invokestatic 83, 3) := dk_184 0 83 (dk_at dksX4_element_0 1 rfl rfl)
theorem dX4_element_4 : decode cX4_element 4 = .ok (.ifCond .eq 41, 3) := dk_153 0 41 (dk_at dksX4_element_0 4 rfl rfl)
theorem dX4_element_7 : decode cX4_element 7 = .ok (.aload_n 0, 1) := dk_42 (dk_at dksX4_element_0 7 rfl rfl)
theorem dX4_element_8 : decode cX4_element 8 = .ok (.iload_n 1, 1) := dk_27 (dk_at dksX4_element_0 8 rfl rfl)
theorem dX4_element_9 : decode cX4_element 9 = .ok (.invokevirtual 91, 3) := dk_182 0 91 (dk_at dksX4_element_0 9 rfl rfl)
theorem dX4_element_12 : decode cX4_element 12 = .ok (.ifCond .eq 33, 3) := dk_153 0 33 (dk_at dksX4_element_0 12 rfl rfl)
theorem dX4_element_15 : decode cX4_element 15 = .ok (.iload_n 2, 1) := dk_28 (dk_at dksX4_element_0 15 rfl rfl)
theorem dX4_element_16 : decode cX4_element 16 = .ok (.iconst 0, 1) := dk_3 (dk_at dksX4_element_0 16 rfl rfl)
theorem dX4_element_17 : decode cX4_element 17 = .ok (.aload_n 0, 1) := dk_42 (dk_at dksX4_element_0 17 rfl rfl)
theorem dX4_element_18 : decode cX4_element 18 = .ok (.getfield 35, 3) := dk_180 0 35 (dk_at dksX4_element_0 18 rfl rfl)
theorem dX4_element_21 : decode cX4_element 21 = .ok (.iload_n 1, 1) := dk_27 (dk_at dksX4_element_0 21 rfl rfl)
theorem dX4_element_22 : decode cX4_element 22 = .ok (.iaload, 1) := dk_46 (dk_at dksX4_element_0 22 rfl rfl)
theorem dX4_element_23 : decode cX4_element 23 = .ok (.iconst 1, 1) := dk_4 (dk_at dksX4_element_0 23 rfl rfl)
theorem dX4_element_24 : decode cX4_element 24 = .ok (.isub, 1) := dk_100 (dk_at dksX4_element_1 0 rfl rfl)
theorem dX4_element_25 : decode cX4_element 25 = .ok (.invokestatic 79, 3) := dk_184 0 79 (dk_at dksX4_element_1 1 rfl rfl)
theorem dX4_element_28 : decode cX4_element 28 = .ok (.ifCond .eq 17, 3) := dk_153 0 17 (dk_at dksX4_element_1 4 rfl rfl)
theorem dX4_element_31 : decode cX4_element 31 = .ok (.aload_n 0, 1) := dk_42 (dk_at dksX4_element_1 7 rfl rfl)
theorem dX4_element_32 : decode cX4_element 32 = .ok (.getfield 38, 3) := dk_180 0 38 (dk_at dksX4_element_1 8 rfl rfl)
theorem dX4_element_35 : decode cX4_element 35 = .ok (.bipush 40, 2) := dk_16 40 (dk_at dksX4_element_1 11 rfl rfl)
theorem dX4_element_37 : decode cX4_element 37 = .ok (.iload_n 1, 1) := dk_27 (dk_at dksX4_element_1 13 rfl rfl)
theorem dX4_element_38 : decode cX4_element 38 = .ok (.imul, 1) := dk_104 (dk_at dksX4_element_1 14 rfl rfl)
theorem dX4_element_39 : decode cX4_element 39 = .ok (.iload_n 2, 1) := dk_28 (dk_at dksX4_element_1 15 rfl rfl)
theorem dX4_element_40 : decode cX4_element 40 = .ok (.iadd, 1) := dk_96 (dk_at dksX4_element_1 16 rfl rfl)
theorem dX4_element_41 : decode cX4_element 41 = .ok (.laload, 1) := dk_47 (dk_at dksX4_element_1 17 rfl rfl)
theorem dX4_element_42 : decode cX4_element 42 = .ok (.goto 4, 3) := dk_167 0 4 (dk_at dksX4_element_1 18 rfl rfl)
theorem dX4_element_45 : decode cX4_element 45 = .ok (.lconst 0, 1) := dk_9 (dk_at dksX4_element_1 21 rfl rfl)
theorem dX4_element_46 : decode cX4_element 46 = .ok (.lreturn, 1) := dk_173 (dk_at dksX4_element_1 22 rfl rfl)
def dkwX4_holds_0 : List UInt8 := [27, 184, 0, 83, 153, 0, 12, 42, 180, 0, 32, 27, 46, 167, 0, 4, 2, 172]
abbrev dktX4_holds_0 : List UInt8 := dkwX4_holds_0 ++ []
theorem dksX4_holds_0 : cX4_holds.data.toList.drop 0 = dktX4_holds_0 := by decide +kernel
theorem dX4_holds_0 : decode cX4_holds 0 = .ok (.iload_n 1, 1) := dk_27 (dk_at dksX4_holds_0 0 rfl rfl)
theorem dX4_holds_1 : decode cX4_holds 1 = .ok (.invokestatic 83, 3) := dk_184 0 83 (dk_at dksX4_holds_0 1 rfl rfl)
theorem dX4_holds_4 : decode cX4_holds 4 = .ok (.ifCond .eq 12, 3) := dk_153 0 12 (dk_at dksX4_holds_0 4 rfl rfl)
theorem dX4_holds_7 : decode cX4_holds 7 = .ok (.aload_n 0, 1) := dk_42 (dk_at dksX4_holds_0 7 rfl rfl)
theorem dX4_holds_8 : decode cX4_holds 8 = .ok (.getfield 32, 3) := dk_180 0 32 (dk_at dksX4_holds_0 8 rfl rfl)
theorem dX4_holds_11 : decode cX4_holds 11 = .ok (.iload_n 1, 1) := dk_27 (dk_at dksX4_holds_0 11 rfl rfl)
theorem dX4_holds_12 : decode cX4_holds 12 = .ok (.iaload, 1) := dk_46 (dk_at dksX4_holds_0 12 rfl rfl)
theorem dX4_holds_13 : decode cX4_holds 13 = .ok (.goto 4, 3) := dk_167 0 4 (dk_at dksX4_holds_0 13 rfl rfl)
theorem dX4_holds_16 : decode cX4_holds 16 = .ok (.iconst (-1), 1) := dk_2 (dk_at dksX4_holds_0 16 rfl rfl)
theorem dX4_holds_17 : decode cX4_holds 17 = .ok (.ireturn, 1) := dk_172 (dk_at dksX4_holds_0 17 rfl rfl)
def dkwX4_show_2 : List UInt8 := [172]
abbrev dktX4_show_2 : List UInt8 := dkwX4_show_2 ++ []
def dkwX4_show_1 : List UInt8 := [182, 0, 87, 172, 42, 180, 0, 32, 27, 28, 2, 160, 0, 7, 2, 167, 0, 7, 16, 10, 28, 96, 79, 4]
abbrev dktX4_show_1 : List UInt8 := dkwX4_show_1 ++ dktX4_show_2
def dkwX4_show_0 : List UInt8 := [27, 184, 0, 83, 153, 0, 17, 28, 2, 159, 0, 19, 42, 28, 133, 182, 0, 101, 154, 0, 10, 42, 16, 254]
abbrev dktX4_show_0 : List UInt8 := dkwX4_show_0 ++ dktX4_show_1
theorem dksX4_show_0 : cX4_show.data.toList.drop 0 = dktX4_show_0 := by decide +kernel
theorem dksX4_show_1 : cX4_show.data.toList.drop 24 = dktX4_show_1 := dk_seg dksX4_show_0 24 rfl rfl
theorem dksX4_show_2 : cX4_show.data.toList.drop 48 = dktX4_show_2 := dk_seg dksX4_show_1 24 rfl rfl
theorem dX4_show_0 : decode cX4_show 0 = .ok (.iload_n 1, 1) := dk_27 (dk_at dksX4_show_0 0 rfl rfl)
theorem dX4_show_1 : decode cX4_show 1 = .ok (.invokestatic 83, 3) := dk_184 0 83 (dk_at dksX4_show_0 1 rfl rfl)
theorem dX4_show_4 : decode cX4_show 4 = .ok (.ifCond .eq 17, 3) := dk_153 0 17 (dk_at dksX4_show_0 4 rfl rfl)
theorem dX4_show_7 : decode cX4_show 7 = .ok (.iload_n 2, 1) := dk_28 (dk_at dksX4_show_0 7 rfl rfl)
theorem dX4_show_8 : decode cX4_show 8 = .ok (.iconst (-1), 1) := dk_2 (dk_at dksX4_show_0 8 rfl rfl)
theorem dX4_show_9 : decode cX4_show 9 = .ok (.if_icmp .eq 19, 3) := dk_159 0 19 (dk_at dksX4_show_0 9 rfl rfl)
theorem dX4_show_12 : decode cX4_show 12 = .ok (.aload_n 0, 1) := dk_42 (dk_at dksX4_show_0 12 rfl rfl)
theorem dX4_show_13 : decode cX4_show 13 = .ok (.iload_n 2, 1) := dk_28 (dk_at dksX4_show_0 13 rfl rfl)
theorem dX4_show_14 : decode cX4_show 14 = .ok (.i2l, 1) := dk_133 (dk_at dksX4_show_0 14 rfl rfl)
theorem dX4_show_15 : decode cX4_show 15 = .ok (.invokevirtual 101, 3) := dk_182 0 101 (dk_at dksX4_show_0 15 rfl rfl)
theorem dX4_show_18 : decode cX4_show 18 = .ok (.ifCond .ne 10, 3) := dk_154 0 10 (dk_at dksX4_show_0 18 rfl rfl)
theorem dX4_show_21 : decode cX4_show 21 = .ok (.aload_n 0, 1) := dk_42 (dk_at dksX4_show_0 21 rfl rfl)
theorem dX4_show_22 : decode cX4_show 22 = .ok (.bipush (-2), 2) := dk_16 254 (dk_at dksX4_show_0 22 rfl rfl)
theorem dX4_show_24 : decode cX4_show 24 = .ok (.invokevirtual 87, 3) := dk_182 0 87 (dk_at dksX4_show_1 0 rfl rfl)
theorem dX4_show_27 : decode cX4_show 27 = .ok (.ireturn, 1) := dk_172 (dk_at dksX4_show_1 3 rfl rfl)
theorem dX4_show_28 : decode cX4_show 28 = .ok (.aload_n 0, 1) := dk_42 (dk_at dksX4_show_1 4 rfl rfl)
theorem dX4_show_29 : decode cX4_show 29 = .ok (.getfield 32, 3) := dk_180 0 32 (dk_at dksX4_show_1 5 rfl rfl)
theorem dX4_show_32 : decode cX4_show 32 = .ok (.iload_n 1, 1) := dk_27 (dk_at dksX4_show_1 8 rfl rfl)
theorem dX4_show_33 : decode cX4_show 33 = .ok (.iload_n 2, 1) := dk_28 (dk_at dksX4_show_1 9 rfl rfl)
theorem dX4_show_34 : decode cX4_show 34 = .ok (.iconst (-1), 1) := dk_2 (dk_at dksX4_show_1 10 rfl rfl)
theorem dX4_show_35 : decode cX4_show 35 = .ok (.if_icmp .ne 7, 3) := dk_160 0 7 (dk_at dksX4_show_1 11 rfl rfl)
theorem dX4_show_38 : decode cX4_show 38 = .ok (.iconst (-1), 1) := dk_2 (dk_at dksX4_show_1 14 rfl rfl)
theorem dX4_show_39 : decode cX4_show 39 = .ok (.goto 7, 3) := dk_167 0 7 (dk_at dksX4_show_1 15 rfl rfl)
theorem dX4_show_42 : decode cX4_show 42 = .ok (.bipush 10, 2) := dk_16 10 (dk_at dksX4_show_1 18 rfl rfl)
theorem dX4_show_44 : decode cX4_show 44 = .ok (.iload_n 2, 1) := dk_28 (dk_at dksX4_show_1 20 rfl rfl)
theorem dX4_show_45 : decode cX4_show 45 = .ok (.iadd, 1) := dk_96 (dk_at dksX4_show_1 21 rfl rfl)
theorem dX4_show_46 : decode cX4_show 46 = .ok (.iastore, 1) := dk_79 (dk_at dksX4_show_1 22 rfl rfl)
theorem dX4_show_47 : decode cX4_show 47 = .ok (.iconst 1, 1) := dk_4 (dk_at dksX4_show_1 23 rfl rfl)
theorem dX4_show_48 : decode cX4_show 48 = .ok (.ireturn, 1) := dk_172 (dk_at dksX4_show_2 0 rfl rfl)
def dkwX4_isPost_0 : List UInt8 := [31, 9, 148, 155, 0, 17, 31, 42, 180, 0, 73, 133, 148, 156, 0, 7, 4, 167, 0, 4, 3, 172]
abbrev dktX4_isPost_0 : List UInt8 := dkwX4_isPost_0 ++ []
theorem dksX4_isPost_0 : cX4_isPost.data.toList.drop 0 = dktX4_isPost_0 := by decide +kernel
theorem dX4_isPost_0 : decode cX4_isPost 0 = .ok (.lload_n 1, 1) := dk_31 (dk_at dksX4_isPost_0 0 rfl rfl)
theorem dX4_isPost_1 : decode cX4_isPost 1 = .ok (.lconst 0, 1) := dk_9 (dk_at dksX4_isPost_0 1 rfl rfl)
theorem dX4_isPost_2 : decode cX4_isPost 2 = .ok (.lcmp, 1) := dk_148 (dk_at dksX4_isPost_0 2 rfl rfl)
theorem dX4_isPost_3 : decode cX4_isPost 3 = .ok (.ifCond .lt 17, 3) := dk_155 0 17 (dk_at dksX4_isPost_0 3 rfl rfl)
theorem dX4_isPost_6 : decode cX4_isPost 6 = .ok (.lload_n 1, 1) := dk_31 (dk_at dksX4_isPost_0 6 rfl rfl)
theorem dX4_isPost_7 : decode cX4_isPost 7 = .ok (.aload_n 0, 1) := dk_42 (dk_at dksX4_isPost_0 7 rfl rfl)
theorem dX4_isPost_8 : decode cX4_isPost 8 = .ok (.getfield 73, 3) := dk_180 0 73 (dk_at dksX4_isPost_0 8 rfl rfl)
theorem dX4_isPost_11 : decode cX4_isPost 11 = .ok (.i2l, 1) := dk_133 (dk_at dksX4_isPost_0 11 rfl rfl)
theorem dX4_isPost_12 : decode cX4_isPost 12 = .ok (.lcmp, 1) := dk_148 (dk_at dksX4_isPost_0 12 rfl rfl)
theorem dX4_isPost_13 : decode cX4_isPost 13 = .ok (.ifCond .ge 7, 3) := dk_156 0 7 (dk_at dksX4_isPost_0 13 rfl rfl)
theorem dX4_isPost_16 : decode cX4_isPost 16 = .ok (.iconst 1, 1) := dk_4 (dk_at dksX4_isPost_0 16 rfl rfl)
theorem dX4_isPost_17 : decode cX4_isPost 17 = .ok (.goto 4, 3) := dk_167 0 4 (dk_at dksX4_isPost_0 17 rfl rfl)
theorem dX4_isPost_20 : decode cX4_isPost 20 = .ok (.iconst 0, 1) := dk_3 (dk_at dksX4_isPost_0 20 rfl rfl)
theorem dX4_isPost_21 : decode cX4_isPost 21 = .ok (.ireturn, 1) := dk_172 (dk_at dksX4_isPost_0 21 rfl rfl)
def dkwX4_says_4 : List UInt8 := [42, 182, 0, 108, 42, 29, 182, 0, 111, 172]
abbrev dktX4_says_4 : List UInt8 := dkwX4_says_4 ++ []
def dkwX4_says_3 : List UInt8 := [184, 0, 104, 154, 0, 10, 42, 16, 253, 182, 0, 87, 172, 28, 154, 0, 10, 42, 180, 0, 17, 29, 46, 172]
abbrev dktX4_says_3 : List UInt8 := dkwX4_says_3 ++ dktX4_says_4
def dkwX4_says_2 : List UInt8 := [16, 252, 182, 0, 87, 172, 42, 180, 0, 32, 27, 46, 16, 10, 100, 62, 42, 180, 0, 13, 29, 46, 28]
abbrev dktX4_says_2 : List UInt8 := dkwX4_says_2 ++ dktX4_says_3
def dkwX4_says_1 : List UInt8 := [27, 182, 0, 91, 153, 0, 10, 42, 16, 253, 182, 0, 87, 172, 42, 180, 0, 32, 27, 46, 156, 0, 10, 42]
abbrev dktX4_says_1 : List UInt8 := dkwX4_says_1 ++ dktX4_says_2
def dkwX4_says_0 : List UInt8 := [27, 184, 0, 83, 153, 0, 12, 28, 3, 8, 184, 0, 79, 154, 0, 10, 42, 16, 254, 182, 0, 87, 172, 42]
abbrev dktX4_says_0 : List UInt8 := dkwX4_says_0 ++ dktX4_says_1
theorem dksX4_says_0 : cX4_says.data.toList.drop 0 = dktX4_says_0 := by decide +kernel
theorem dksX4_says_1 : cX4_says.data.toList.drop 24 = dktX4_says_1 := dk_seg dksX4_says_0 24 rfl rfl
theorem dksX4_says_2 : cX4_says.data.toList.drop 48 = dktX4_says_2 := dk_seg dksX4_says_1 24 rfl rfl
theorem dksX4_says_3 : cX4_says.data.toList.drop 71 = dktX4_says_3 := dk_seg dksX4_says_2 23 rfl rfl
theorem dksX4_says_4 : cX4_says.data.toList.drop 95 = dktX4_says_4 := dk_seg dksX4_says_3 24 rfl rfl
theorem dX4_says_0 : decode cX4_says 0 = .ok (.iload_n 1, 1) := dk_27 (dk_at dksX4_says_0 0 rfl rfl)
theorem dX4_says_1 : decode cX4_says 1 = .ok (.invokestatic 83, 3) := dk_184 0 83 (dk_at dksX4_says_0 1 rfl rfl)
theorem dX4_says_4 : decode cX4_says 4 = .ok (.ifCond .eq 12, 3) := dk_153 0 12 (dk_at dksX4_says_0 4 rfl rfl)
theorem dX4_says_7 : decode cX4_says 7 = .ok (.iload_n 2, 1) := dk_28 (dk_at dksX4_says_0 7 rfl rfl)
theorem dX4_says_8 : decode cX4_says 8 = .ok (.iconst 0, 1) := dk_3 (dk_at dksX4_says_0 8 rfl rfl)
theorem dX4_says_9 : decode cX4_says 9 = .ok (.iconst 5, 1) := dk_8 (dk_at dksX4_says_0 9 rfl rfl)
theorem dX4_says_10 : decode cX4_says 10 = .ok (.invokestatic 79, 3) := dk_184 0 79 (dk_at dksX4_says_0 10 rfl rfl)
theorem dX4_says_13 : decode cX4_says 13 = .ok (.ifCond .ne 10, 3) := dk_154 0 10 (dk_at dksX4_says_0 13 rfl rfl)
theorem dX4_says_16 : decode cX4_says 16 = .ok (.aload_n 0, 1) := dk_42 (dk_at dksX4_says_0 16 rfl rfl)
theorem dX4_says_17 : decode cX4_says 17 = .ok (.bipush (-2), 2) := dk_16 254 (dk_at dksX4_says_0 17 rfl rfl)
theorem dX4_says_19 : decode cX4_says 19 = .ok (.invokevirtual 87, 3) := dk_182 0 87 (dk_at dksX4_says_0 19 rfl rfl)
theorem dX4_says_22 : decode cX4_says 22 = .ok (.ireturn, 1) := dk_172 (dk_at dksX4_says_0 22 rfl rfl)
theorem dX4_says_23 : decode cX4_says 23 = .ok (.aload_n 0, 1) := dk_42 (dk_at dksX4_says_0 23 rfl rfl)
theorem dX4_says_24 : decode cX4_says 24 = .ok (.iload_n 1, 1) := dk_27 (dk_at dksX4_says_1 0 rfl rfl)
theorem dX4_says_25 : decode cX4_says 25 = .ok (.invokevirtual 91, 3) := dk_182 0 91 (dk_at dksX4_says_1 1 rfl rfl)
theorem dX4_says_28 : decode cX4_says 28 = .ok (.ifCond .eq 10, 3) := dk_153 0 10 (dk_at dksX4_says_1 4 rfl rfl)
theorem dX4_says_31 : decode cX4_says 31 = .ok (.aload_n 0, 1) := dk_42 (dk_at dksX4_says_1 7 rfl rfl)
theorem dX4_says_32 : decode cX4_says 32 = .ok (.bipush (-3), 2) := dk_16 253 (dk_at dksX4_says_1 8 rfl rfl)
theorem dX4_says_34 : decode cX4_says 34 = .ok (.invokevirtual 87, 3) := dk_182 0 87 (dk_at dksX4_says_1 10 rfl rfl)
theorem dX4_says_37 : decode cX4_says 37 = .ok (.ireturn, 1) := dk_172 (dk_at dksX4_says_1 13 rfl rfl)
theorem dX4_says_38 : decode cX4_says 38 = .ok (.aload_n 0, 1) := dk_42 (dk_at dksX4_says_1 14 rfl rfl)
theorem dX4_says_39 : decode cX4_says 39 = .ok (.getfield 32, 3) := dk_180 0 32 (dk_at dksX4_says_1 15 rfl rfl)
theorem dX4_says_42 : decode cX4_says 42 = .ok (.iload_n 1, 1) := dk_27 (dk_at dksX4_says_1 18 rfl rfl)
theorem dX4_says_43 : decode cX4_says 43 = .ok (.iaload, 1) := dk_46 (dk_at dksX4_says_1 19 rfl rfl)
theorem dX4_says_44 : decode cX4_says 44 = .ok (.ifCond .ge 10, 3) := dk_156 0 10 (dk_at dksX4_says_1 20 rfl rfl)
theorem dX4_says_47 : decode cX4_says 47 = .ok (.aload_n 0, 1) := dk_42 (dk_at dksX4_says_1 23 rfl rfl)
theorem dX4_says_48 : decode cX4_says 48 = .ok (.bipush (-4), 2) := dk_16 252 (dk_at dksX4_says_2 0 rfl rfl)
theorem dX4_says_50 : decode cX4_says 50 = .ok (.invokevirtual 87, 3) := dk_182 0 87 (dk_at dksX4_says_2 2 rfl rfl)
theorem dX4_says_53 : decode cX4_says 53 = .ok (.ireturn, 1) := dk_172 (dk_at dksX4_says_2 5 rfl rfl)
theorem dX4_says_54 : decode cX4_says 54 = .ok (.aload_n 0, 1) := dk_42 (dk_at dksX4_says_2 6 rfl rfl)
theorem dX4_says_55 : decode cX4_says 55 = .ok (.getfield 32, 3) := dk_180 0 32 (dk_at dksX4_says_2 7 rfl rfl)
theorem dX4_says_58 : decode cX4_says 58 = .ok (.iload_n 1, 1) := dk_27 (dk_at dksX4_says_2 10 rfl rfl)
theorem dX4_says_59 : decode cX4_says 59 = .ok (.iaload, 1) := dk_46 (dk_at dksX4_says_2 11 rfl rfl)
theorem dX4_says_60 : decode cX4_says 60 = .ok (.bipush 10, 2) := dk_16 10 (dk_at dksX4_says_2 12 rfl rfl)
theorem dX4_says_62 : decode cX4_says 62 = .ok (.isub, 1) := dk_100 (dk_at dksX4_says_2 14 rfl rfl)
theorem dX4_says_63 : decode cX4_says 63 = .ok (.istore_n 3, 1) := dk_62 (dk_at dksX4_says_2 15 rfl rfl)
theorem dX4_says_64 : decode cX4_says 64 = .ok (.aload_n 0, 1) := dk_42 (dk_at dksX4_says_2 16 rfl rfl)
theorem dX4_says_65 : decode cX4_says 65 = .ok (.getfield 13, 3) := dk_180 0 13 (dk_at dksX4_says_2 17 rfl rfl)
theorem dX4_says_68 : decode cX4_says 68 = .ok (.iload_n 3, 1) := dk_29 (dk_at dksX4_says_2 20 rfl rfl)
theorem dX4_says_69 : decode cX4_says 69 = .ok (.iaload, 1) := dk_46 (dk_at dksX4_says_2 21 rfl rfl)
theorem dX4_says_70 : decode cX4_says 70 = .ok (.iload_n 2, 1) := dk_28 (dk_at dksX4_says_2 22 rfl rfl)
theorem dX4_says_71 : decode cX4_says 71 = .ok (.invokestatic 104, 3) := dk_184 0 104 (dk_at dksX4_says_3 0 rfl rfl)
theorem dX4_says_74 : decode cX4_says 74 = .ok (.ifCond .ne 10, 3) := dk_154 0 10 (dk_at dksX4_says_3 3 rfl rfl)
theorem dX4_says_77 : decode cX4_says 77 = .ok (.aload_n 0, 1) := dk_42 (dk_at dksX4_says_3 6 rfl rfl)
theorem dX4_says_78 : decode cX4_says 78 = .ok (.bipush (-3), 2) := dk_16 253 (dk_at dksX4_says_3 7 rfl rfl)
theorem dX4_says_80 : decode cX4_says 80 = .ok (.invokevirtual 87, 3) := dk_182 0 87 (dk_at dksX4_says_3 9 rfl rfl)
theorem dX4_says_83 : decode cX4_says 83 = .ok (.ireturn, 1) := dk_172 (dk_at dksX4_says_3 12 rfl rfl)
theorem dX4_says_84 : decode cX4_says 84 = .ok (.iload_n 2, 1) := dk_28 (dk_at dksX4_says_3 13 rfl rfl)
theorem dX4_says_85 : decode cX4_says 85 = .ok (.ifCond .ne 10, 3) := dk_154 0 10 (dk_at dksX4_says_3 14 rfl rfl)
theorem dX4_says_88 : decode cX4_says 88 = .ok (.aload_n 0, 1) := dk_42 (dk_at dksX4_says_3 17 rfl rfl)
theorem dX4_says_89 : decode cX4_says 89 = .ok (.getfield 17, 3) := dk_180 0 17 (dk_at dksX4_says_3 18 rfl rfl)
theorem dX4_says_92 : decode cX4_says 92 = .ok (.iload_n 3, 1) := dk_29 (dk_at dksX4_says_3 21 rfl rfl)
theorem dX4_says_93 : decode cX4_says 93 = .ok (.iaload, 1) := dk_46 (dk_at dksX4_says_3 22 rfl rfl)
theorem dX4_says_94 : decode cX4_says 94 = .ok (.ireturn, 1) := dk_172 (dk_at dksX4_says_3 23 rfl rfl)
theorem dX4_says_95 : decode cX4_says 95 = .ok (.aload_n 0, 1) := dk_42 (dk_at dksX4_says_4 0 rfl rfl)
theorem dX4_says_96 : decode cX4_says 96 = .ok (.invokevirtual 108, 3) := dk_182 0 108 (dk_at dksX4_says_4 1 rfl rfl)
theorem dX4_says_99 : decode cX4_says 99 = .ok (.aload_n 0, 1) := dk_42 (dk_at dksX4_says_4 4 rfl rfl)
theorem dX4_says_100 : decode cX4_says 100 = .ok (.iload_n 3, 1) := dk_29 (dk_at dksX4_says_4 5 rfl rfl)
theorem dX4_says_101 : decode cX4_says 101 = .ok (.invokevirtual 111, 3) := dk_182 0 111 (dk_at dksX4_says_4 6 rfl rfl)
theorem dX4_says_104 : decode cX4_says 104 = .ok (.ireturn, 1) := dk_172 (dk_at dksX4_says_4 9 rfl rfl)
def dkwX4_isUnder_1 : List UInt8 := [27, 5, 160, 0, 7, 4, 167, 0, 4, 3, 172]
abbrev dktX4_isUnder_1 : List UInt8 := dkwX4_isUnder_1 ++ []
def dkwX4_isUnder_0 : List UInt8 := [27, 153, 0, 28, 26, 27, 159, 0, 23, 26, 6, 160, 0, 8, 27, 4, 159, 0, 13, 26, 7, 160, 0, 12]
abbrev dktX4_isUnder_0 : List UInt8 := dkwX4_isUnder_0 ++ dktX4_isUnder_1
theorem dksX4_isUnder_0 : cX4_isUnder.data.toList.drop 0 = dktX4_isUnder_0 := by decide +kernel
theorem dksX4_isUnder_1 : cX4_isUnder.data.toList.drop 24 = dktX4_isUnder_1 := dk_seg dksX4_isUnder_0 24 rfl rfl
theorem dX4_isUnder_0 : decode cX4_isUnder 0 = .ok (.iload_n 1, 1) := dk_27 (dk_at dksX4_isUnder_0 0 rfl rfl)
theorem dX4_isUnder_1 : decode cX4_isUnder 1 = .ok (.ifCond .eq 28, 3) := dk_153 0 28 (dk_at dksX4_isUnder_0 1 rfl rfl)
theorem dX4_isUnder_4 : decode cX4_isUnder 4 = .ok (.iload_n 0, 1) := dk_26 (dk_at dksX4_isUnder_0 4 rfl rfl)
theorem dX4_isUnder_5 : decode cX4_isUnder 5 = .ok (.iload_n 1, 1) := dk_27 (dk_at dksX4_isUnder_0 5 rfl rfl)
theorem dX4_isUnder_6 : decode cX4_isUnder 6 = .ok (.if_icmp .eq 23, 3) := dk_159 0 23 (dk_at dksX4_isUnder_0 6 rfl rfl)
theorem dX4_isUnder_9 : decode cX4_isUnder 9 = .ok (.iload_n 0, 1) := dk_26 (dk_at dksX4_isUnder_0 9 rfl rfl)
theorem dX4_isUnder_10 : decode cX4_isUnder 10 = .ok (.iconst 3, 1) := dk_6 (dk_at dksX4_isUnder_0 10 rfl rfl)
theorem dX4_isUnder_11 : decode cX4_isUnder 11 = .ok (.if_icmp .ne 8, 3) := dk_160 0 8 (dk_at dksX4_isUnder_0 11 rfl rfl)
theorem dX4_isUnder_14 : decode cX4_isUnder 14 = .ok (.iload_n 1, 1) := dk_27 (dk_at dksX4_isUnder_0 14 rfl rfl)
theorem dX4_isUnder_15 : decode cX4_isUnder 15 = .ok (.iconst 1, 1) := dk_4 (dk_at dksX4_isUnder_0 15 rfl rfl)
theorem dX4_isUnder_16 : decode cX4_isUnder 16 = .ok (.if_icmp .eq 13, 3) := dk_159 0 13 (dk_at dksX4_isUnder_0 16 rfl rfl)
theorem dX4_isUnder_19 : decode cX4_isUnder 19 = .ok (.iload_n 0, 1) := dk_26 (dk_at dksX4_isUnder_0 19 rfl rfl)
theorem dX4_isUnder_20 : decode cX4_isUnder 20 = .ok (.iconst 4, 1) := dk_7 (dk_at dksX4_isUnder_0 20 rfl rfl)
theorem dX4_isUnder_21 : decode cX4_isUnder 21 = .ok (.if_icmp .ne 12, 3) := dk_160 0 12 (dk_at dksX4_isUnder_0 21 rfl rfl)
theorem dX4_isUnder_24 : decode cX4_isUnder 24 = .ok (.iload_n 1, 1) := dk_27 (dk_at dksX4_isUnder_1 0 rfl rfl)
theorem dX4_isUnder_25 : decode cX4_isUnder 25 = .ok (.iconst 2, 1) := dk_5 (dk_at dksX4_isUnder_1 1 rfl rfl)
theorem dX4_isUnder_26 : decode cX4_isUnder 26 = .ok (.if_icmp .ne 7, 3) := dk_160 0 7 (dk_at dksX4_isUnder_1 2 rfl rfl)
theorem dX4_isUnder_29 : decode cX4_isUnder 29 = .ok (.iconst 1, 1) := dk_4 (dk_at dksX4_isUnder_1 5 rfl rfl)
theorem dX4_isUnder_30 : decode cX4_isUnder 30 = .ok (.goto 4, 3) := dk_167 0 4 (dk_at dksX4_isUnder_1 6 rfl rfl)
theorem dX4_isUnder_33 : decode cX4_isUnder 33 = .ok (.iconst 0, 1) := dk_3 (dk_at dksX4_isUnder_1 9 rfl rfl)
theorem dX4_isUnder_34 : decode cX4_isUnder 34 = .ok (.ireturn, 1) := dk_172 (dk_at dksX4_isUnder_1 10 rfl rfl)
def dkwX4_asThingsAre_2 : List UInt8 := [167, 255, 215, 177]
abbrev dktX4_asThingsAre_2 : List UInt8 := dkwX4_asThingsAre_2 ++ []
def dkwX4_asThingsAre_1 : List UInt8 := [180, 0, 51, 42, 89, 180, 0, 204, 90, 4, 96, 181, 0, 204, 42, 180, 0, 23, 27, 46, 79, 132, 1, 1]
abbrev dktX4_asThingsAre_1 : List UInt8 := dkwX4_asThingsAre_1 ++ dktX4_asThingsAre_2
def dkwX4_asThingsAre_0 : List UInt8 := [42, 3, 181, 0, 204, 3, 60, 27, 42, 180, 0, 76, 162, 0, 39, 42, 27, 182, 0, 207, 153, 0, 25, 42]
abbrev dktX4_asThingsAre_0 : List UInt8 := dkwX4_asThingsAre_0 ++ dktX4_asThingsAre_1
theorem dksX4_asThingsAre_0 : cX4_asThingsAre.data.toList.drop 0 = dktX4_asThingsAre_0 := by decide +kernel
theorem dksX4_asThingsAre_1 : cX4_asThingsAre.data.toList.drop 24 = dktX4_asThingsAre_1 := dk_seg dksX4_asThingsAre_0 24 rfl rfl
theorem dksX4_asThingsAre_2 : cX4_asThingsAre.data.toList.drop 48 = dktX4_asThingsAre_2 := dk_seg dksX4_asThingsAre_1 24 rfl rfl
theorem dX4_asThingsAre_0 : decode cX4_asThingsAre 0 = .ok (.aload_n 0, 1) := dk_42 (dk_at dksX4_asThingsAre_0 0 rfl rfl)
theorem dX4_asThingsAre_1 : decode cX4_asThingsAre 1 = .ok (.iconst 0, 1) := dk_3 (dk_at dksX4_asThingsAre_0 1 rfl rfl)
theorem dX4_asThingsAre_2 : decode cX4_asThingsAre 2 = .ok (.putfield 204, 3) := dk_181 0 204 (dk_at dksX4_asThingsAre_0 2 rfl rfl)
theorem dX4_asThingsAre_5 : decode cX4_asThingsAre 5 = .ok (.iconst 0, 1) := dk_3 (dk_at dksX4_asThingsAre_0 5 rfl rfl)
theorem dX4_asThingsAre_6 : decode cX4_asThingsAre 6 = .ok (.istore_n 1, 1) := dk_60 (dk_at dksX4_asThingsAre_0 6 rfl rfl)
theorem dX4_asThingsAre_7 : decode cX4_asThingsAre 7 = .ok (.iload_n 1, 1) := dk_27 (dk_at dksX4_asThingsAre_0 7 rfl rfl)
theorem dX4_asThingsAre_8 : decode cX4_asThingsAre 8 = .ok (.aload_n 0, 1) := dk_42 (dk_at dksX4_asThingsAre_0 8 rfl rfl)
theorem dX4_asThingsAre_9 : decode cX4_asThingsAre 9 = .ok (.getfield 76, 3) := dk_180 0 76 (dk_at dksX4_asThingsAre_0 9 rfl rfl)
theorem dX4_asThingsAre_12 : decode cX4_asThingsAre 12 = .ok (.if_icmp .ge 39, 3) := dk_162 0 39 (dk_at dksX4_asThingsAre_0 12 rfl rfl)
theorem dX4_asThingsAre_15 : decode cX4_asThingsAre 15 = .ok (.aload_n 0, 1) := dk_42 (dk_at dksX4_asThingsAre_0 15 rfl rfl)
theorem dX4_asThingsAre_16 : decode cX4_asThingsAre 16 = .ok (.iload_n 1, 1) := dk_27 (dk_at dksX4_asThingsAre_0 16 rfl rfl)
theorem dX4_asThingsAre_17 : decode cX4_asThingsAre 17 = .ok (.invokevirtual 207, 3) := dk_182 0 207 (dk_at dksX4_asThingsAre_0 17 rfl rfl)
theorem dX4_asThingsAre_20 : decode cX4_asThingsAre 20 = .ok (.ifCond .eq 25, 3) := dk_153 0 25 (dk_at dksX4_asThingsAre_0 20 rfl rfl)
theorem dX4_asThingsAre_23 : decode cX4_asThingsAre 23 = .ok (.aload_n 0, 1) := dk_42 (dk_at dksX4_asThingsAre_0 23 rfl rfl)
theorem dX4_asThingsAre_24 : decode cX4_asThingsAre 24 = .ok (.getfield 51, 3) := dk_180 0 51 (dk_at dksX4_asThingsAre_1 0 rfl rfl)
theorem dX4_asThingsAre_27 : decode cX4_asThingsAre 27 = .ok (.aload_n 0, 1) := dk_42 (dk_at dksX4_asThingsAre_1 3 rfl rfl)
theorem dX4_asThingsAre_28 : decode cX4_asThingsAre 28 = .ok (.dup, 1) := dk_89 (dk_at dksX4_asThingsAre_1 4 rfl rfl)
theorem dX4_asThingsAre_29 : decode cX4_asThingsAre 29 = .ok (.getfield 204, 3) := dk_180 0 204 (dk_at dksX4_asThingsAre_1 5 rfl rfl)
theorem dX4_asThingsAre_32 : decode cX4_asThingsAre 32 = .ok (.dup_x1, 1) := dk_90 (dk_at dksX4_asThingsAre_1 8 rfl rfl)
theorem dX4_asThingsAre_33 : decode cX4_asThingsAre 33 = .ok (.iconst 1, 1) := dk_4 (dk_at dksX4_asThingsAre_1 9 rfl rfl)
theorem dX4_asThingsAre_34 : decode cX4_asThingsAre 34 = .ok (.iadd, 1) := dk_96 (dk_at dksX4_asThingsAre_1 10 rfl rfl)
theorem dX4_asThingsAre_35 : decode cX4_asThingsAre 35 = .ok (.putfield 204, 3) := dk_181 0 204 (dk_at dksX4_asThingsAre_1 11 rfl rfl)
theorem dX4_asThingsAre_38 : decode cX4_asThingsAre 38 = .ok (.aload_n 0, 1) := dk_42 (dk_at dksX4_asThingsAre_1 14 rfl rfl)
theorem dX4_asThingsAre_39 : decode cX4_asThingsAre 39 = .ok (.getfield 23, 3) := dk_180 0 23 (dk_at dksX4_asThingsAre_1 15 rfl rfl)
theorem dX4_asThingsAre_42 : decode cX4_asThingsAre 42 = .ok (.iload_n 1, 1) := dk_27 (dk_at dksX4_asThingsAre_1 18 rfl rfl)
theorem dX4_asThingsAre_43 : decode cX4_asThingsAre 43 = .ok (.iaload, 1) := dk_46 (dk_at dksX4_asThingsAre_1 19 rfl rfl)
theorem dX4_asThingsAre_44 : decode cX4_asThingsAre 44 = .ok (.iastore, 1) := dk_79 (dk_at dksX4_asThingsAre_1 20 rfl rfl)
theorem dX4_asThingsAre_45 : decode cX4_asThingsAre 45 = .ok (.iinc 1 1, 3) := dk_132 1 1 (dk_at dksX4_asThingsAre_1 21 rfl rfl)
theorem dX4_asThingsAre_48 : decode cX4_asThingsAre 48 = .ok (.goto (-41), 3) := dk_167 255 215 (dk_at dksX4_asThingsAre_2 0 rfl rfl)
theorem dX4_asThingsAre_51 : decode cX4_asThingsAre 51 = .ok (.return_, 1) := dk_177 (dk_at dksX4_asThingsAre_2 3 rfl rfl)
def dkwX4_isLost_0 : List UInt8 := [42, 180, 0, 26, 27, 46, 8, 162, 0, 7, 4, 167, 0, 4, 3, 172]
abbrev dktX4_isLost_0 : List UInt8 := dkwX4_isLost_0 ++ []
theorem dksX4_isLost_0 : cX4_isLost.data.toList.drop 0 = dktX4_isLost_0 := by decide +kernel
theorem dX4_isLost_0 : decode cX4_isLost 0 = .ok (.aload_n 0, 1) := dk_42 (dk_at dksX4_isLost_0 0 rfl rfl)
theorem dX4_isLost_1 : decode cX4_isLost 1 = .ok (.getfield 26, 3) := dk_180 0 26 (dk_at dksX4_isLost_0 1 rfl rfl)
theorem dX4_isLost_4 : decode cX4_isLost 4 = .ok (.iload_n 1, 1) := dk_27 (dk_at dksX4_isLost_0 4 rfl rfl)
theorem dX4_isLost_5 : decode cX4_isLost 5 = .ok (.iaload, 1) := dk_46 (dk_at dksX4_isLost_0 5 rfl rfl)
theorem dX4_isLost_6 : decode cX4_isLost 6 = .ok (.iconst 5, 1) := dk_8 (dk_at dksX4_isLost_0 6 rfl rfl)
theorem dX4_isLost_7 : decode cX4_isLost 7 = .ok (.if_icmp .ge 7, 3) := dk_162 0 7 (dk_at dksX4_isLost_0 7 rfl rfl)
theorem dX4_isLost_10 : decode cX4_isLost 10 = .ok (.iconst 1, 1) := dk_4 (dk_at dksX4_isLost_0 10 rfl rfl)
theorem dX4_isLost_11 : decode cX4_isLost 11 = .ok (.goto 4, 3) := dk_167 0 4 (dk_at dksX4_isLost_0 11 rfl rfl)
theorem dX4_isLost_14 : decode cX4_isLost 14 = .ok (.iconst 0, 1) := dk_3 (dk_at dksX4_isLost_0 14 rfl rfl)
theorem dX4_isLost_15 : decode cX4_isLost 15 = .ok (.ireturn, 1) := dk_172 (dk_at dksX4_isLost_0 15 rfl rfl)
def dkwX4_armOf_3 : List UInt8 := [182, 0, 222, 7, 184, 0, 225, 172, 42, 27, 182, 0, 228, 172, 42, 27, 182, 0, 216, 172]
abbrev dktX4_armOf_3 : List UInt8 := dkwX4_armOf_3 ++ []
def dkwX4_armOf_2 : List UInt8 := [42, 27, 182, 0, 219, 172, 42, 27, 182, 0, 222, 172, 42, 27, 182, 0, 219, 4, 184, 0, 225, 172, 42, 27]
abbrev dktX4_armOf_2 : List UInt8 := dkwX4_armOf_2 ++ dktX4_armOf_3
def dkwX4_armOf_1 : List UInt8 := [170, 0, 0, 0, 0, 72, 0, 0, 0, 1, 0, 0, 0, 5, 0, 0, 0, 34, 0, 0, 0, 40, 0, 0, 0, 46, 0, 0, 0, 56, 0, 0, 0, 66]
abbrev dktX4_armOf_1 : List UInt8 := dkwX4_armOf_1 ++ dktX4_armOf_2
def dkwX4_armOf_0 : List UInt8 := [42, 180, 0, 13, 27, 46]
abbrev dktX4_armOf_0 : List UInt8 := dkwX4_armOf_0 ++ dktX4_armOf_1
theorem dksX4_armOf_0 : cX4_armOf.data.toList.drop 0 = dktX4_armOf_0 := by decide +kernel
theorem dksX4_armOf_1 : cX4_armOf.data.toList.drop 6 = dktX4_armOf_1 := dk_seg dksX4_armOf_0 6 rfl rfl
theorem dksX4_armOf_2 : cX4_armOf.data.toList.drop 40 = dktX4_armOf_2 := dk_seg dksX4_armOf_1 34 rfl rfl
theorem dksX4_armOf_3 : cX4_armOf.data.toList.drop 64 = dktX4_armOf_3 := dk_seg dksX4_armOf_2 24 rfl rfl
theorem dX4_armOf_0 : decode cX4_armOf 0 = .ok (.aload_n 0, 1) := dk_42 (dk_at dksX4_armOf_0 0 rfl rfl)
theorem dX4_armOf_1 : decode cX4_armOf 1 = .ok (.getfield 13, 3) := dk_180 0 13 (dk_at dksX4_armOf_0 1 rfl rfl)
theorem dX4_armOf_4 : decode cX4_armOf 4 = .ok (.iload_n 1, 1) := dk_27 (dk_at dksX4_armOf_0 4 rfl rfl)
theorem dX4_armOf_5 : decode cX4_armOf 5 = .ok (.iaload, 1) := dk_46 (dk_at dksX4_armOf_0 5 rfl rfl)
theorem dX4_armOf_6 : decode cX4_armOf 6 = .ok (.tableswitch 72 1 5 #[34, 40, 46, 56, 66], 34) := by decide +kernel
theorem dX4_armOf_40 : decode cX4_armOf 40 = .ok (.aload_n 0, 1) := dk_42 (dk_at dksX4_armOf_2 0 rfl rfl)
theorem dX4_armOf_41 : decode cX4_armOf 41 = .ok (.iload_n 1, 1) := dk_27 (dk_at dksX4_armOf_2 1 rfl rfl)
theorem dX4_armOf_42 : decode cX4_armOf 42 = .ok (.invokevirtual 219, 3) := dk_182 0 219 (dk_at dksX4_armOf_2 2 rfl rfl)
theorem dX4_armOf_45 : decode cX4_armOf 45 = .ok (.ireturn, 1) := dk_172 (dk_at dksX4_armOf_2 5 rfl rfl)
theorem dX4_armOf_46 : decode cX4_armOf 46 = .ok (.aload_n 0, 1) := dk_42 (dk_at dksX4_armOf_2 6 rfl rfl)
theorem dX4_armOf_47 : decode cX4_armOf 47 = .ok (.iload_n 1, 1) := dk_27 (dk_at dksX4_armOf_2 7 rfl rfl)
theorem dX4_armOf_48 : decode cX4_armOf 48 = .ok (.invokevirtual 222, 3) := dk_182 0 222 (dk_at dksX4_armOf_2 8 rfl rfl)
theorem dX4_armOf_51 : decode cX4_armOf 51 = .ok (.ireturn, 1) := dk_172 (dk_at dksX4_armOf_2 11 rfl rfl)
theorem dX4_armOf_52 : decode cX4_armOf 52 = .ok (.aload_n 0, 1) := dk_42 (dk_at dksX4_armOf_2 12 rfl rfl)
theorem dX4_armOf_53 : decode cX4_armOf 53 = .ok (.iload_n 1, 1) := dk_27 (dk_at dksX4_armOf_2 13 rfl rfl)
theorem dX4_armOf_54 : decode cX4_armOf 54 = .ok (.invokevirtual 219, 3) := dk_182 0 219 (dk_at dksX4_armOf_2 14 rfl rfl)
theorem dX4_armOf_57 : decode cX4_armOf 57 = .ok (.iconst 1, 1) := dk_4 (dk_at dksX4_armOf_2 17 rfl rfl)
theorem dX4_armOf_58 : decode cX4_armOf 58 = .ok (.invokestatic 225, 3) := dk_184 0 225 (dk_at dksX4_armOf_2 18 rfl rfl)
theorem dX4_armOf_61 : decode cX4_armOf 61 = .ok (.ireturn, 1) := dk_172 (dk_at dksX4_armOf_2 21 rfl rfl)
theorem dX4_armOf_62 : decode cX4_armOf 62 = .ok (.aload_n 0, 1) := dk_42 (dk_at dksX4_armOf_2 22 rfl rfl)
theorem dX4_armOf_63 : decode cX4_armOf 63 = .ok (.iload_n 1, 1) := dk_27 (dk_at dksX4_armOf_2 23 rfl rfl)
theorem dX4_armOf_64 : decode cX4_armOf 64 = .ok (.invokevirtual 222, 3) := dk_182 0 222 (dk_at dksX4_armOf_3 0 rfl rfl)
theorem dX4_armOf_67 : decode cX4_armOf 67 = .ok (.iconst 4, 1) := dk_7 (dk_at dksX4_armOf_3 3 rfl rfl)
theorem dX4_armOf_68 : decode cX4_armOf 68 = .ok (.invokestatic 225, 3) := dk_184 0 225 (dk_at dksX4_armOf_3 4 rfl rfl)
theorem dX4_armOf_71 : decode cX4_armOf 71 = .ok (.ireturn, 1) := dk_172 (dk_at dksX4_armOf_3 7 rfl rfl)
theorem dX4_armOf_72 : decode cX4_armOf 72 = .ok (.aload_n 0, 1) := dk_42 (dk_at dksX4_armOf_3 8 rfl rfl)
theorem dX4_armOf_73 : decode cX4_armOf 73 = .ok (.iload_n 1, 1) := dk_27 (dk_at dksX4_armOf_3 9 rfl rfl)
theorem dX4_armOf_74 : decode cX4_armOf 74 = .ok (.invokevirtual 228, 3) := dk_182 0 228 (dk_at dksX4_armOf_3 10 rfl rfl)
theorem dX4_armOf_77 : decode cX4_armOf 77 = .ok (.ireturn, 1) := dk_172 (dk_at dksX4_armOf_3 13 rfl rfl)
theorem dX4_armOf_78 : decode cX4_armOf 78 = .ok (.aload_n 0, 1) := dk_42 (dk_at dksX4_armOf_3 14 rfl rfl)
theorem dX4_armOf_79 : decode cX4_armOf 79 = .ok (.iload_n 1, 1) := dk_27 (dk_at dksX4_armOf_3 15 rfl rfl)
theorem dX4_armOf_80 : decode cX4_armOf 80 = .ok (.invokevirtual 216, 3) := dk_182 0 216 (dk_at dksX4_armOf_3 16 rfl rfl)
theorem dX4_armOf_83 : decode cX4_armOf 83 = .ok (.ireturn, 1) := dk_172 (dk_at dksX4_armOf_3 19 rfl rfl)
def dkwX4_keenArm_3 : List UInt8 := [180, 0, 51, 28, 46, 184, 0, 213, 172]
abbrev dktX4_keenArm_3 : List UInt8 := dkwX4_keenArm_3 ++ []
def dkwX4_keenArm_2 : List UInt8 := [28, 46, 184, 0, 210, 162, 0, 5, 29, 61, 132, 3, 1, 167, 255, 210, 42, 180, 0, 20, 27, 46, 42]
abbrev dktX4_keenArm_2 : List UInt8 := dkwX4_keenArm_2 ++ dktX4_keenArm_3
def dkwX4_keenArm_1 : List UInt8 := [180, 0, 20, 27, 46, 42, 180, 0, 51, 29, 46, 184, 0, 210, 42, 180, 0, 20, 27, 46, 42, 180, 0, 51]
abbrev dktX4_keenArm_1 : List UInt8 := dkwX4_keenArm_1 ++ dktX4_keenArm_2
def dkwX4_keenArm_0 : List UInt8 := [42, 180, 0, 204, 154, 0, 5, 2, 172, 3, 61, 4, 62, 29, 42, 180, 0, 204, 162, 0, 44, 42]
abbrev dktX4_keenArm_0 : List UInt8 := dkwX4_keenArm_0 ++ dktX4_keenArm_1
theorem dksX4_keenArm_0 : cX4_keenArm.data.toList.drop 0 = dktX4_keenArm_0 := by decide +kernel
theorem dksX4_keenArm_1 : cX4_keenArm.data.toList.drop 22 = dktX4_keenArm_1 := dk_seg dksX4_keenArm_0 22 rfl rfl
theorem dksX4_keenArm_2 : cX4_keenArm.data.toList.drop 46 = dktX4_keenArm_2 := dk_seg dksX4_keenArm_1 24 rfl rfl
theorem dksX4_keenArm_3 : cX4_keenArm.data.toList.drop 69 = dktX4_keenArm_3 := dk_seg dksX4_keenArm_2 23 rfl rfl
theorem dX4_keenArm_0 : decode cX4_keenArm 0 = .ok (.aload_n 0, 1) := dk_42 (dk_at dksX4_keenArm_0 0 rfl rfl)
theorem dX4_keenArm_1 : decode cX4_keenArm 1 = .ok (.getfield 204, 3) := dk_180 0 204 (dk_at dksX4_keenArm_0 1 rfl rfl)
theorem dX4_keenArm_4 : decode cX4_keenArm 4 = .ok (.ifCond .ne 5, 3) := dk_154 0 5 (dk_at dksX4_keenArm_0 4 rfl rfl)
theorem dX4_keenArm_7 : decode cX4_keenArm 7 = .ok (.iconst (-1), 1) := dk_2 (dk_at dksX4_keenArm_0 7 rfl rfl)
theorem dX4_keenArm_8 : decode cX4_keenArm 8 = .ok (.ireturn, 1) := dk_172 (dk_at dksX4_keenArm_0 8 rfl rfl)
theorem dX4_keenArm_9 : decode cX4_keenArm 9 = .ok (.iconst 0, 1) := dk_3 (dk_at dksX4_keenArm_0 9 rfl rfl)
theorem dX4_keenArm_10 : decode cX4_keenArm 10 = .ok (.istore_n 2, 1) := dk_61 (dk_at dksX4_keenArm_0 10 rfl rfl)
theorem dX4_keenArm_11 : decode cX4_keenArm 11 = .ok (.iconst 1, 1) := dk_4 (dk_at dksX4_keenArm_0 11 rfl rfl)
theorem dX4_keenArm_12 : decode cX4_keenArm 12 = .ok (.istore_n 3, 1) := dk_62 (dk_at dksX4_keenArm_0 12 rfl rfl)
theorem dX4_keenArm_13 : decode cX4_keenArm 13 = .ok (.iload_n 3, 1) := dk_29 (dk_at dksX4_keenArm_0 13 rfl rfl)
theorem dX4_keenArm_14 : decode cX4_keenArm 14 = .ok (.aload_n 0, 1) := dk_42 (dk_at dksX4_keenArm_0 14 rfl rfl)
theorem dX4_keenArm_15 : decode cX4_keenArm 15 = .ok (.getfield 204, 3) := dk_180 0 204 (dk_at dksX4_keenArm_0 15 rfl rfl)
theorem dX4_keenArm_18 : decode cX4_keenArm 18 = .ok (.if_icmp .ge 44, 3) := dk_162 0 44 (dk_at dksX4_keenArm_0 18 rfl rfl)
theorem dX4_keenArm_21 : decode cX4_keenArm 21 = .ok (.aload_n 0, 1) := dk_42 (dk_at dksX4_keenArm_0 21 rfl rfl)
theorem dX4_keenArm_22 : decode cX4_keenArm 22 = .ok (.getfield 20, 3) := dk_180 0 20 (dk_at dksX4_keenArm_1 0 rfl rfl)
theorem dX4_keenArm_25 : decode cX4_keenArm 25 = .ok (.iload_n 1, 1) := dk_27 (dk_at dksX4_keenArm_1 3 rfl rfl)
theorem dX4_keenArm_26 : decode cX4_keenArm 26 = .ok (.iaload, 1) := dk_46 (dk_at dksX4_keenArm_1 4 rfl rfl)
theorem dX4_keenArm_27 : decode cX4_keenArm 27 = .ok (.aload_n 0, 1) := dk_42 (dk_at dksX4_keenArm_1 5 rfl rfl)
theorem dX4_keenArm_28 : decode cX4_keenArm 28 = .ok (.getfield 51, 3) := dk_180 0 51 (dk_at dksX4_keenArm_1 6 rfl rfl)
theorem dX4_keenArm_31 : decode cX4_keenArm 31 = .ok (.iload_n 3, 1) := dk_29 (dk_at dksX4_keenArm_1 9 rfl rfl)
theorem dX4_keenArm_32 : decode cX4_keenArm 32 = .ok (.iaload, 1) := dk_46 (dk_at dksX4_keenArm_1 10 rfl rfl)
theorem dX4_keenArm_33 : decode cX4_keenArm 33 = .ok (.invokestatic 210, 3) := dk_184 0 210 (dk_at dksX4_keenArm_1 11 rfl rfl)
theorem dX4_keenArm_36 : decode cX4_keenArm 36 = .ok (.aload_n 0, 1) := dk_42 (dk_at dksX4_keenArm_1 14 rfl rfl)
theorem dX4_keenArm_37 : decode cX4_keenArm 37 = .ok (.getfield 20, 3) := dk_180 0 20 (dk_at dksX4_keenArm_1 15 rfl rfl)
theorem dX4_keenArm_40 : decode cX4_keenArm 40 = .ok (.iload_n 1, 1) := dk_27 (dk_at dksX4_keenArm_1 18 rfl rfl)
theorem dX4_keenArm_41 : decode cX4_keenArm 41 = .ok (.iaload, 1) := dk_46 (dk_at dksX4_keenArm_1 19 rfl rfl)
theorem dX4_keenArm_42 : decode cX4_keenArm 42 = .ok (.aload_n 0, 1) := dk_42 (dk_at dksX4_keenArm_1 20 rfl rfl)
theorem dX4_keenArm_43 : decode cX4_keenArm 43 = .ok (.getfield 51, 3) := dk_180 0 51 (dk_at dksX4_keenArm_1 21 rfl rfl)
theorem dX4_keenArm_46 : decode cX4_keenArm 46 = .ok (.iload_n 2, 1) := dk_28 (dk_at dksX4_keenArm_2 0 rfl rfl)
theorem dX4_keenArm_47 : decode cX4_keenArm 47 = .ok (.iaload, 1) := dk_46 (dk_at dksX4_keenArm_2 1 rfl rfl)
theorem dX4_keenArm_48 : decode cX4_keenArm 48 = .ok (.invokestatic 210, 3) := dk_184 0 210 (dk_at dksX4_keenArm_2 2 rfl rfl)
theorem dX4_keenArm_51 : decode cX4_keenArm 51 = .ok (.if_icmp .ge 5, 3) := dk_162 0 5 (dk_at dksX4_keenArm_2 5 rfl rfl)
theorem dX4_keenArm_54 : decode cX4_keenArm 54 = .ok (.iload_n 3, 1) := dk_29 (dk_at dksX4_keenArm_2 8 rfl rfl)
theorem dX4_keenArm_55 : decode cX4_keenArm 55 = .ok (.istore_n 2, 1) := dk_61 (dk_at dksX4_keenArm_2 9 rfl rfl)
theorem dX4_keenArm_56 : decode cX4_keenArm 56 = .ok (.iinc 3 1, 3) := dk_132 3 1 (dk_at dksX4_keenArm_2 10 rfl rfl)
theorem dX4_keenArm_59 : decode cX4_keenArm 59 = .ok (.goto (-46), 3) := dk_167 255 210 (dk_at dksX4_keenArm_2 13 rfl rfl)
theorem dX4_keenArm_62 : decode cX4_keenArm 62 = .ok (.aload_n 0, 1) := dk_42 (dk_at dksX4_keenArm_2 16 rfl rfl)
theorem dX4_keenArm_63 : decode cX4_keenArm 63 = .ok (.getfield 20, 3) := dk_180 0 20 (dk_at dksX4_keenArm_2 17 rfl rfl)
theorem dX4_keenArm_66 : decode cX4_keenArm 66 = .ok (.iload_n 1, 1) := dk_27 (dk_at dksX4_keenArm_2 20 rfl rfl)
theorem dX4_keenArm_67 : decode cX4_keenArm 67 = .ok (.iaload, 1) := dk_46 (dk_at dksX4_keenArm_2 21 rfl rfl)
theorem dX4_keenArm_68 : decode cX4_keenArm 68 = .ok (.aload_n 0, 1) := dk_42 (dk_at dksX4_keenArm_2 22 rfl rfl)
theorem dX4_keenArm_69 : decode cX4_keenArm 69 = .ok (.getfield 51, 3) := dk_180 0 51 (dk_at dksX4_keenArm_3 0 rfl rfl)
theorem dX4_keenArm_72 : decode cX4_keenArm 72 = .ok (.iload_n 2, 1) := dk_28 (dk_at dksX4_keenArm_3 3 rfl rfl)
theorem dX4_keenArm_73 : decode cX4_keenArm 73 = .ok (.iaload, 1) := dk_46 (dk_at dksX4_keenArm_3 4 rfl rfl)
theorem dX4_keenArm_74 : decode cX4_keenArm 74 = .ok (.invokestatic 213, 3) := dk_184 0 213 (dk_at dksX4_keenArm_3 5 rfl rfl)
theorem dX4_keenArm_77 : decode cX4_keenArm 77 = .ok (.ireturn, 1) := dk_172 (dk_at dksX4_keenArm_3 8 rfl rfl)
def dkwX4_steps_1 : List UInt8 := [96, 172]
abbrev dktX4_steps_1 : List UInt8 := dkwX4_steps_1 ++ []
def dkwX4_steps_0 : List UInt8 := [26, 16, 10, 108, 27, 16, 10, 108, 100, 184, 0, 196, 26, 16, 10, 112, 27, 16, 10, 112, 100, 184, 0, 196]
abbrev dktX4_steps_0 : List UInt8 := dkwX4_steps_0 ++ dktX4_steps_1
theorem dksX4_steps_0 : cX4_steps.data.toList.drop 0 = dktX4_steps_0 := by decide +kernel
theorem dksX4_steps_1 : cX4_steps.data.toList.drop 24 = dktX4_steps_1 := dk_seg dksX4_steps_0 24 rfl rfl
theorem dX4_steps_0 : decode cX4_steps 0 = .ok (.iload_n 0, 1) := dk_26 (dk_at dksX4_steps_0 0 rfl rfl)
theorem dX4_steps_1 : decode cX4_steps 1 = .ok (.bipush 10, 2) := dk_16 10 (dk_at dksX4_steps_0 1 rfl rfl)
theorem dX4_steps_3 : decode cX4_steps 3 = .ok (.idiv, 1) := dk_108 (dk_at dksX4_steps_0 3 rfl rfl)
theorem dX4_steps_4 : decode cX4_steps 4 = .ok (.iload_n 1, 1) := dk_27 (dk_at dksX4_steps_0 4 rfl rfl)
theorem dX4_steps_5 : decode cX4_steps 5 = .ok (.bipush 10, 2) := dk_16 10 (dk_at dksX4_steps_0 5 rfl rfl)
theorem dX4_steps_7 : decode cX4_steps 7 = .ok (.idiv, 1) := dk_108 (dk_at dksX4_steps_0 7 rfl rfl)
theorem dX4_steps_8 : decode cX4_steps 8 = .ok (.isub, 1) := dk_100 (dk_at dksX4_steps_0 8 rfl rfl)
theorem dX4_steps_9 : decode cX4_steps 9 = .ok (.invokestatic 196, 3) := dk_184 0 196 (dk_at dksX4_steps_0 9 rfl rfl)
theorem dX4_steps_12 : decode cX4_steps 12 = .ok (.iload_n 0, 1) := dk_26 (dk_at dksX4_steps_0 12 rfl rfl)
theorem dX4_steps_13 : decode cX4_steps 13 = .ok (.bipush 10, 2) := dk_16 10 (dk_at dksX4_steps_0 13 rfl rfl)
theorem dX4_steps_15 : decode cX4_steps 15 = .ok (.irem, 1) := dk_112 (dk_at dksX4_steps_0 15 rfl rfl)
theorem dX4_steps_16 : decode cX4_steps 16 = .ok (.iload_n 1, 1) := dk_27 (dk_at dksX4_steps_0 16 rfl rfl)
theorem dX4_steps_17 : decode cX4_steps 17 = .ok (.bipush 10, 2) := dk_16 10 (dk_at dksX4_steps_0 17 rfl rfl)
theorem dX4_steps_19 : decode cX4_steps 19 = .ok (.irem, 1) := dk_112 (dk_at dksX4_steps_0 19 rfl rfl)
theorem dX4_steps_20 : decode cX4_steps 20 = .ok (.isub, 1) := dk_100 (dk_at dksX4_steps_0 20 rfl rfl)
theorem dX4_steps_21 : decode cX4_steps 21 = .ok (.invokestatic 196, 3) := dk_184 0 196 (dk_at dksX4_steps_0 21 rfl rfl)
theorem dX4_steps_24 : decode cX4_steps 24 = .ok (.iadd, 1) := dk_96 (dk_at dksX4_steps_1 0 rfl rfl)
theorem dX4_steps_25 : decode cX4_steps 25 = .ok (.ireturn, 1) := dk_172 (dk_at dksX4_steps_1 1 rfl rfl)
def dkwX4_wayTo_0 : List UInt8 := [27, 16, 10, 108, 26, 16, 10, 108, 100, 27, 16, 10, 112, 26, 16, 10, 112, 100, 184, 0, 201, 172]
abbrev dktX4_wayTo_0 : List UInt8 := dkwX4_wayTo_0 ++ []
theorem dksX4_wayTo_0 : cX4_wayTo.data.toList.drop 0 = dktX4_wayTo_0 := by decide +kernel
theorem dX4_wayTo_0 : decode cX4_wayTo 0 = .ok (.iload_n 1, 1) := dk_27 (dk_at dksX4_wayTo_0 0 rfl rfl)
theorem dX4_wayTo_1 : decode cX4_wayTo 1 = .ok (.bipush 10, 2) := dk_16 10 (dk_at dksX4_wayTo_0 1 rfl rfl)
theorem dX4_wayTo_3 : decode cX4_wayTo 3 = .ok (.idiv, 1) := dk_108 (dk_at dksX4_wayTo_0 3 rfl rfl)
theorem dX4_wayTo_4 : decode cX4_wayTo 4 = .ok (.iload_n 0, 1) := dk_26 (dk_at dksX4_wayTo_0 4 rfl rfl)
theorem dX4_wayTo_5 : decode cX4_wayTo 5 = .ok (.bipush 10, 2) := dk_16 10 (dk_at dksX4_wayTo_0 5 rfl rfl)
theorem dX4_wayTo_7 : decode cX4_wayTo 7 = .ok (.idiv, 1) := dk_108 (dk_at dksX4_wayTo_0 7 rfl rfl)
theorem dX4_wayTo_8 : decode cX4_wayTo 8 = .ok (.isub, 1) := dk_100 (dk_at dksX4_wayTo_0 8 rfl rfl)
theorem dX4_wayTo_9 : decode cX4_wayTo 9 = .ok (.iload_n 1, 1) := dk_27 (dk_at dksX4_wayTo_0 9 rfl rfl)
theorem dX4_wayTo_10 : decode cX4_wayTo 10 = .ok (.bipush 10, 2) := dk_16 10 (dk_at dksX4_wayTo_0 10 rfl rfl)
theorem dX4_wayTo_12 : decode cX4_wayTo 12 = .ok (.irem, 1) := dk_112 (dk_at dksX4_wayTo_0 12 rfl rfl)
theorem dX4_wayTo_13 : decode cX4_wayTo 13 = .ok (.iload_n 0, 1) := dk_26 (dk_at dksX4_wayTo_0 13 rfl rfl)
theorem dX4_wayTo_14 : decode cX4_wayTo 14 = .ok (.bipush 10, 2) := dk_16 10 (dk_at dksX4_wayTo_0 14 rfl rfl)
theorem dX4_wayTo_16 : decode cX4_wayTo 16 = .ok (.irem, 1) := dk_112 (dk_at dksX4_wayTo_0 16 rfl rfl)
theorem dX4_wayTo_17 : decode cX4_wayTo 17 = .ok (.isub, 1) := dk_100 (dk_at dksX4_wayTo_0 17 rfl rfl)
theorem dX4_wayTo_18 : decode cX4_wayTo 18 = .ok (.invokestatic 201, 3) := dk_184 0 201 (dk_at dksX4_wayTo_0 18 rfl rfl)
theorem dX4_wayTo_21 : decode cX4_wayTo 21 = .ok (.ireturn, 1) := dk_172 (dk_at dksX4_wayTo_0 21 rfl rfl)
def dkwX4_wayBy_3 : List UInt8 := [158, 0, 7, 8, 167, 0, 5, 16, 7, 172]
abbrev dktX4_wayBy_3 : List UInt8 := dkwX4_wayBy_3 ++ []
def dkwX4_wayBy_2 : List UInt8 := [5, 167, 0, 5, 16, 6, 172, 27, 158, 0, 13, 26, 156, 0, 7, 4, 167, 0, 4, 6, 172, 26]
abbrev dktX4_wayBy_2 : List UInt8 := dkwX4_wayBy_2 ++ dktX4_wayBy_3
def dkwX4_wayBy_1 : List UInt8 := [162, 0, 13, 26, 156, 0, 7, 3, 167, 0, 4, 7, 172, 5, 28, 104, 29, 162, 0, 14, 27, 158, 0, 7]
abbrev dktX4_wayBy_1 : List UInt8 := dkwX4_wayBy_1 ++ dktX4_wayBy_2
def dkwX4_wayBy_0 : List UInt8 := [26, 184, 0, 196, 61, 27, 184, 0, 196, 62, 28, 29, 96, 154, 0, 6, 16, 8, 172, 5, 29, 104, 28]
abbrev dktX4_wayBy_0 : List UInt8 := dkwX4_wayBy_0 ++ dktX4_wayBy_1
theorem dksX4_wayBy_0 : cX4_wayBy.data.toList.drop 0 = dktX4_wayBy_0 := by decide +kernel
theorem dksX4_wayBy_1 : cX4_wayBy.data.toList.drop 23 = dktX4_wayBy_1 := dk_seg dksX4_wayBy_0 23 rfl rfl
theorem dksX4_wayBy_2 : cX4_wayBy.data.toList.drop 47 = dktX4_wayBy_2 := dk_seg dksX4_wayBy_1 24 rfl rfl
theorem dksX4_wayBy_3 : cX4_wayBy.data.toList.drop 69 = dktX4_wayBy_3 := dk_seg dksX4_wayBy_2 22 rfl rfl
theorem dX4_wayBy_0 : decode cX4_wayBy 0 = .ok (.iload_n 0, 1) := dk_26 (dk_at dksX4_wayBy_0 0 rfl rfl)
theorem dX4_wayBy_1 : decode cX4_wayBy 1 = .ok (.invokestatic 196, 3) := dk_184 0 196 (dk_at dksX4_wayBy_0 1 rfl rfl)
theorem dX4_wayBy_4 : decode cX4_wayBy 4 = .ok (.istore_n 2, 1) := dk_61 (dk_at dksX4_wayBy_0 4 rfl rfl)
theorem dX4_wayBy_5 : decode cX4_wayBy 5 = .ok (.iload_n 1, 1) := dk_27 (dk_at dksX4_wayBy_0 5 rfl rfl)
theorem dX4_wayBy_6 : decode cX4_wayBy 6 = .ok (.invokestatic 196, 3) := dk_184 0 196 (dk_at dksX4_wayBy_0 6 rfl rfl)
theorem dX4_wayBy_9 : decode cX4_wayBy 9 = .ok (.istore_n 3, 1) := dk_62 (dk_at dksX4_wayBy_0 9 rfl rfl)
theorem dX4_wayBy_10 : decode cX4_wayBy 10 = .ok (.iload_n 2, 1) := dk_28 (dk_at dksX4_wayBy_0 10 rfl rfl)
theorem dX4_wayBy_11 : decode cX4_wayBy 11 = .ok (.iload_n 3, 1) := dk_29 (dk_at dksX4_wayBy_0 11 rfl rfl)
theorem dX4_wayBy_12 : decode cX4_wayBy 12 = .ok (.iadd, 1) := dk_96 (dk_at dksX4_wayBy_0 12 rfl rfl)
theorem dX4_wayBy_13 : decode cX4_wayBy 13 = .ok (.ifCond .ne 6, 3) := dk_154 0 6 (dk_at dksX4_wayBy_0 13 rfl rfl)
theorem dX4_wayBy_16 : decode cX4_wayBy 16 = .ok (.bipush 8, 2) := dk_16 8 (dk_at dksX4_wayBy_0 16 rfl rfl)
theorem dX4_wayBy_18 : decode cX4_wayBy 18 = .ok (.ireturn, 1) := dk_172 (dk_at dksX4_wayBy_0 18 rfl rfl)
theorem dX4_wayBy_19 : decode cX4_wayBy 19 = .ok (.iconst 2, 1) := dk_5 (dk_at dksX4_wayBy_0 19 rfl rfl)
theorem dX4_wayBy_20 : decode cX4_wayBy 20 = .ok (.iload_n 3, 1) := dk_29 (dk_at dksX4_wayBy_0 20 rfl rfl)
theorem dX4_wayBy_21 : decode cX4_wayBy 21 = .ok (.imul, 1) := dk_104 (dk_at dksX4_wayBy_0 21 rfl rfl)
theorem dX4_wayBy_22 : decode cX4_wayBy 22 = .ok (.iload_n 2, 1) := dk_28 (dk_at dksX4_wayBy_0 22 rfl rfl)
theorem dX4_wayBy_23 : decode cX4_wayBy 23 = .ok (.if_icmp .ge 13, 3) := dk_162 0 13 (dk_at dksX4_wayBy_1 0 rfl rfl)
theorem dX4_wayBy_26 : decode cX4_wayBy 26 = .ok (.iload_n 0, 1) := dk_26 (dk_at dksX4_wayBy_1 3 rfl rfl)
theorem dX4_wayBy_27 : decode cX4_wayBy 27 = .ok (.ifCond .ge 7, 3) := dk_156 0 7 (dk_at dksX4_wayBy_1 4 rfl rfl)
theorem dX4_wayBy_30 : decode cX4_wayBy 30 = .ok (.iconst 0, 1) := dk_3 (dk_at dksX4_wayBy_1 7 rfl rfl)
theorem dX4_wayBy_31 : decode cX4_wayBy 31 = .ok (.goto 4, 3) := dk_167 0 4 (dk_at dksX4_wayBy_1 8 rfl rfl)
theorem dX4_wayBy_34 : decode cX4_wayBy 34 = .ok (.iconst 4, 1) := dk_7 (dk_at dksX4_wayBy_1 11 rfl rfl)
theorem dX4_wayBy_35 : decode cX4_wayBy 35 = .ok (.ireturn, 1) := dk_172 (dk_at dksX4_wayBy_1 12 rfl rfl)
theorem dX4_wayBy_36 : decode cX4_wayBy 36 = .ok (.iconst 2, 1) := dk_5 (dk_at dksX4_wayBy_1 13 rfl rfl)
theorem dX4_wayBy_37 : decode cX4_wayBy 37 = .ok (.iload_n 2, 1) := dk_28 (dk_at dksX4_wayBy_1 14 rfl rfl)
theorem dX4_wayBy_38 : decode cX4_wayBy 38 = .ok (.imul, 1) := dk_104 (dk_at dksX4_wayBy_1 15 rfl rfl)
theorem dX4_wayBy_39 : decode cX4_wayBy 39 = .ok (.iload_n 3, 1) := dk_29 (dk_at dksX4_wayBy_1 16 rfl rfl)
theorem dX4_wayBy_40 : decode cX4_wayBy 40 = .ok (.if_icmp .ge 14, 3) := dk_162 0 14 (dk_at dksX4_wayBy_1 17 rfl rfl)
theorem dX4_wayBy_43 : decode cX4_wayBy 43 = .ok (.iload_n 1, 1) := dk_27 (dk_at dksX4_wayBy_1 20 rfl rfl)
theorem dX4_wayBy_44 : decode cX4_wayBy 44 = .ok (.ifCond .le 7, 3) := dk_158 0 7 (dk_at dksX4_wayBy_1 21 rfl rfl)
theorem dX4_wayBy_47 : decode cX4_wayBy 47 = .ok (.iconst 2, 1) := dk_5 (dk_at dksX4_wayBy_2 0 rfl rfl)
theorem dX4_wayBy_48 : decode cX4_wayBy 48 = .ok (.goto 5, 3) := dk_167 0 5 (dk_at dksX4_wayBy_2 1 rfl rfl)
theorem dX4_wayBy_51 : decode cX4_wayBy 51 = .ok (.bipush 6, 2) := dk_16 6 (dk_at dksX4_wayBy_2 4 rfl rfl)
theorem dX4_wayBy_53 : decode cX4_wayBy 53 = .ok (.ireturn, 1) := dk_172 (dk_at dksX4_wayBy_2 6 rfl rfl)
theorem dX4_wayBy_54 : decode cX4_wayBy 54 = .ok (.iload_n 1, 1) := dk_27 (dk_at dksX4_wayBy_2 7 rfl rfl)
theorem dX4_wayBy_55 : decode cX4_wayBy 55 = .ok (.ifCond .le 13, 3) := dk_158 0 13 (dk_at dksX4_wayBy_2 8 rfl rfl)
theorem dX4_wayBy_58 : decode cX4_wayBy 58 = .ok (.iload_n 0, 1) := dk_26 (dk_at dksX4_wayBy_2 11 rfl rfl)
theorem dX4_wayBy_59 : decode cX4_wayBy 59 = .ok (.ifCond .ge 7, 3) := dk_156 0 7 (dk_at dksX4_wayBy_2 12 rfl rfl)
theorem dX4_wayBy_62 : decode cX4_wayBy 62 = .ok (.iconst 1, 1) := dk_4 (dk_at dksX4_wayBy_2 15 rfl rfl)
theorem dX4_wayBy_63 : decode cX4_wayBy 63 = .ok (.goto 4, 3) := dk_167 0 4 (dk_at dksX4_wayBy_2 16 rfl rfl)
theorem dX4_wayBy_66 : decode cX4_wayBy 66 = .ok (.iconst 3, 1) := dk_6 (dk_at dksX4_wayBy_2 19 rfl rfl)
theorem dX4_wayBy_67 : decode cX4_wayBy 67 = .ok (.ireturn, 1) := dk_172 (dk_at dksX4_wayBy_2 20 rfl rfl)
theorem dX4_wayBy_68 : decode cX4_wayBy 68 = .ok (.iload_n 0, 1) := dk_26 (dk_at dksX4_wayBy_2 21 rfl rfl)
theorem dX4_wayBy_69 : decode cX4_wayBy 69 = .ok (.ifCond .le 7, 3) := dk_158 0 7 (dk_at dksX4_wayBy_3 0 rfl rfl)
theorem dX4_wayBy_72 : decode cX4_wayBy 72 = .ok (.iconst 5, 1) := dk_8 (dk_at dksX4_wayBy_3 3 rfl rfl)
theorem dX4_wayBy_73 : decode cX4_wayBy 73 = .ok (.goto 5, 3) := dk_167 0 5 (dk_at dksX4_wayBy_3 4 rfl rfl)
theorem dX4_wayBy_76 : decode cX4_wayBy 76 = .ok (.bipush 7, 2) := dk_16 7 (dk_at dksX4_wayBy_3 7 rfl rfl)
theorem dX4_wayBy_78 : decode cX4_wayBy 78 = .ok (.ireturn, 1) := dk_172 (dk_at dksX4_wayBy_3 9 rfl rfl)
def dkwX4_lazyArm_1 : List UInt8 := [180, 0, 17, 27, 46, 163, 0, 11, 42, 27, 182, 0, 216, 167, 0, 4, 2, 172]
abbrev dktX4_lazyArm_1 : List UInt8 := dkwX4_lazyArm_1 ++ []
def dkwX4_lazyArm_0 : List UInt8 := [42, 180, 0, 204, 4, 160, 0, 35, 42, 180, 0, 20, 27, 46, 42, 180, 0, 51, 3, 46, 184, 0, 210, 42]
abbrev dktX4_lazyArm_0 : List UInt8 := dkwX4_lazyArm_0 ++ dktX4_lazyArm_1
theorem dksX4_lazyArm_0 : cX4_lazyArm.data.toList.drop 0 = dktX4_lazyArm_0 := by decide +kernel
theorem dksX4_lazyArm_1 : cX4_lazyArm.data.toList.drop 24 = dktX4_lazyArm_1 := dk_seg dksX4_lazyArm_0 24 rfl rfl
theorem dX4_lazyArm_0 : decode cX4_lazyArm 0 = .ok (.aload_n 0, 1) := dk_42 (dk_at dksX4_lazyArm_0 0 rfl rfl)
theorem dX4_lazyArm_1 : decode cX4_lazyArm 1 = .ok (.getfield 204, 3) := dk_180 0 204 (dk_at dksX4_lazyArm_0 1 rfl rfl)
theorem dX4_lazyArm_4 : decode cX4_lazyArm 4 = .ok (.iconst 1, 1) := dk_4 (dk_at dksX4_lazyArm_0 4 rfl rfl)
theorem dX4_lazyArm_5 : decode cX4_lazyArm 5 = .ok (.if_icmp .ne 35, 3) := dk_160 0 35 (dk_at dksX4_lazyArm_0 5 rfl rfl)
theorem dX4_lazyArm_8 : decode cX4_lazyArm 8 = .ok (.aload_n 0, 1) := dk_42 (dk_at dksX4_lazyArm_0 8 rfl rfl)
theorem dX4_lazyArm_9 : decode cX4_lazyArm 9 = .ok (.getfield 20, 3) := dk_180 0 20 (dk_at dksX4_lazyArm_0 9 rfl rfl)
theorem dX4_lazyArm_12 : decode cX4_lazyArm 12 = .ok (.iload_n 1, 1) := dk_27 (dk_at dksX4_lazyArm_0 12 rfl rfl)
theorem dX4_lazyArm_13 : decode cX4_lazyArm 13 = .ok (.iaload, 1) := dk_46 (dk_at dksX4_lazyArm_0 13 rfl rfl)
theorem dX4_lazyArm_14 : decode cX4_lazyArm 14 = .ok (.aload_n 0, 1) := dk_42 (dk_at dksX4_lazyArm_0 14 rfl rfl)
theorem dX4_lazyArm_15 : decode cX4_lazyArm 15 = .ok (.getfield 51, 3) := dk_180 0 51 (dk_at dksX4_lazyArm_0 15 rfl rfl)
theorem dX4_lazyArm_18 : decode cX4_lazyArm 18 = .ok (.iconst 0, 1) := dk_3 (dk_at dksX4_lazyArm_0 18 rfl rfl)
theorem dX4_lazyArm_19 : decode cX4_lazyArm 19 = .ok (.iaload, 1) := dk_46 (dk_at dksX4_lazyArm_0 19 rfl rfl)
theorem dX4_lazyArm_20 : decode cX4_lazyArm 20 = .ok (.invokestatic 210, 3) := dk_184 0 210 (dk_at dksX4_lazyArm_0 20 rfl rfl)
theorem dX4_lazyArm_23 : decode cX4_lazyArm 23 = .ok (.aload_n 0, 1) := dk_42 (dk_at dksX4_lazyArm_0 23 rfl rfl)
theorem dX4_lazyArm_24 : decode cX4_lazyArm 24 = .ok (.getfield 17, 3) := dk_180 0 17 (dk_at dksX4_lazyArm_1 0 rfl rfl)
theorem dX4_lazyArm_27 : decode cX4_lazyArm 27 = .ok (.iload_n 1, 1) := dk_27 (dk_at dksX4_lazyArm_1 3 rfl rfl)
theorem dX4_lazyArm_28 : decode cX4_lazyArm 28 = .ok (.iaload, 1) := dk_46 (dk_at dksX4_lazyArm_1 4 rfl rfl)
theorem dX4_lazyArm_29 : decode cX4_lazyArm 29 = .ok (.if_icmp .gt 11, 3) := dk_163 0 11 (dk_at dksX4_lazyArm_1 5 rfl rfl)
theorem dX4_lazyArm_32 : decode cX4_lazyArm 32 = .ok (.aload_n 0, 1) := dk_42 (dk_at dksX4_lazyArm_1 8 rfl rfl)
theorem dX4_lazyArm_33 : decode cX4_lazyArm 33 = .ok (.iload_n 1, 1) := dk_27 (dk_at dksX4_lazyArm_1 9 rfl rfl)
theorem dX4_lazyArm_34 : decode cX4_lazyArm 34 = .ok (.invokevirtual 216, 3) := dk_182 0 216 (dk_at dksX4_lazyArm_1 10 rfl rfl)
theorem dX4_lazyArm_37 : decode cX4_lazyArm 37 = .ok (.goto 4, 3) := dk_167 0 4 (dk_at dksX4_lazyArm_1 13 rfl rfl)
theorem dX4_lazyArm_40 : decode cX4_lazyArm 40 = .ok (.iconst (-1), 1) := dk_2 (dk_at dksX4_lazyArm_1 16 rfl rfl)
theorem dX4_lazyArm_41 : decode cX4_lazyArm 41 = .ok (.ireturn, 1) := dk_172 (dk_at dksX4_lazyArm_1 17 rfl rfl)
def dkwX4_plainArm_1 : List UInt8 := [167, 0, 4, 2, 172]
abbrev dktX4_plainArm_1 : List UInt8 := dkwX4_plainArm_1 ++ []
def dkwX4_plainArm_0 : List UInt8 := [42, 180, 0, 204, 4, 160, 0, 21, 42, 180, 0, 20, 27, 46, 42, 180, 0, 51, 3, 46, 184, 0, 213]
abbrev dktX4_plainArm_0 : List UInt8 := dkwX4_plainArm_0 ++ dktX4_plainArm_1
theorem dksX4_plainArm_0 : cX4_plainArm.data.toList.drop 0 = dktX4_plainArm_0 := by decide +kernel
theorem dksX4_plainArm_1 : cX4_plainArm.data.toList.drop 23 = dktX4_plainArm_1 := dk_seg dksX4_plainArm_0 23 rfl rfl
theorem dX4_plainArm_0 : decode cX4_plainArm 0 = .ok (.aload_n 0, 1) := dk_42 (dk_at dksX4_plainArm_0 0 rfl rfl)
theorem dX4_plainArm_1 : decode cX4_plainArm 1 = .ok (.getfield 204, 3) := dk_180 0 204 (dk_at dksX4_plainArm_0 1 rfl rfl)
theorem dX4_plainArm_4 : decode cX4_plainArm 4 = .ok (.iconst 1, 1) := dk_4 (dk_at dksX4_plainArm_0 4 rfl rfl)
theorem dX4_plainArm_5 : decode cX4_plainArm 5 = .ok (.if_icmp .ne 21, 3) := dk_160 0 21 (dk_at dksX4_plainArm_0 5 rfl rfl)
theorem dX4_plainArm_8 : decode cX4_plainArm 8 = .ok (.aload_n 0, 1) := dk_42 (dk_at dksX4_plainArm_0 8 rfl rfl)
theorem dX4_plainArm_9 : decode cX4_plainArm 9 = .ok (.getfield 20, 3) := dk_180 0 20 (dk_at dksX4_plainArm_0 9 rfl rfl)
theorem dX4_plainArm_12 : decode cX4_plainArm 12 = .ok (.iload_n 1, 1) := dk_27 (dk_at dksX4_plainArm_0 12 rfl rfl)
theorem dX4_plainArm_13 : decode cX4_plainArm 13 = .ok (.iaload, 1) := dk_46 (dk_at dksX4_plainArm_0 13 rfl rfl)
theorem dX4_plainArm_14 : decode cX4_plainArm 14 = .ok (.aload_n 0, 1) := dk_42 (dk_at dksX4_plainArm_0 14 rfl rfl)
theorem dX4_plainArm_15 : decode cX4_plainArm 15 = .ok (.getfield 51, 3) := dk_180 0 51 (dk_at dksX4_plainArm_0 15 rfl rfl)
theorem dX4_plainArm_18 : decode cX4_plainArm 18 = .ok (.iconst 0, 1) := dk_3 (dk_at dksX4_plainArm_0 18 rfl rfl)
theorem dX4_plainArm_19 : decode cX4_plainArm 19 = .ok (.iaload, 1) := dk_46 (dk_at dksX4_plainArm_0 19 rfl rfl)
theorem dX4_plainArm_20 : decode cX4_plainArm 20 = .ok (.invokestatic 213, 3) := dk_184 0 213 (dk_at dksX4_plainArm_0 20 rfl rfl)
theorem dX4_plainArm_23 : decode cX4_plainArm 23 = .ok (.goto 4, 3) := dk_167 0 4 (dk_at dksX4_plainArm_1 0 rfl rfl)
theorem dX4_plainArm_26 : decode cX4_plainArm 26 = .ok (.iconst (-1), 1) := dk_2 (dk_at dksX4_plainArm_1 3 rfl rfl)
theorem dX4_plainArm_27 : decode cX4_plainArm 27 = .ok (.ireturn, 1) := dk_172 (dk_at dksX4_plainArm_1 4 rfl rfl)
def dkwX4_turned_0 : List UInt8 := [26, 155, 0, 9, 26, 16, 8, 160, 0, 7, 26, 167, 0, 9, 26, 27, 96, 16, 8, 112, 172]
abbrev dktX4_turned_0 : List UInt8 := dkwX4_turned_0 ++ []
theorem dksX4_turned_0 : cX4_turned.data.toList.drop 0 = dktX4_turned_0 := by decide +kernel
theorem dX4_turned_0 : decode cX4_turned 0 = .ok (.iload_n 0, 1) := dk_26 (dk_at dksX4_turned_0 0 rfl rfl)
theorem dX4_turned_1 : decode cX4_turned 1 = .ok (.ifCond .lt 9, 3) := dk_155 0 9 (dk_at dksX4_turned_0 1 rfl rfl)
theorem dX4_turned_4 : decode cX4_turned 4 = .ok (.iload_n 0, 1) := dk_26 (dk_at dksX4_turned_0 4 rfl rfl)
theorem dX4_turned_5 : decode cX4_turned 5 = .ok (.bipush 8, 2) := dk_16 8 (dk_at dksX4_turned_0 5 rfl rfl)
theorem dX4_turned_7 : decode cX4_turned 7 = .ok (.if_icmp .ne 7, 3) := dk_160 0 7 (dk_at dksX4_turned_0 7 rfl rfl)
theorem dX4_turned_10 : decode cX4_turned 10 = .ok (.iload_n 0, 1) := dk_26 (dk_at dksX4_turned_0 10 rfl rfl)
theorem dX4_turned_11 : decode cX4_turned 11 = .ok (.goto 9, 3) := dk_167 0 9 (dk_at dksX4_turned_0 11 rfl rfl)
theorem dX4_turned_14 : decode cX4_turned 14 = .ok (.iload_n 0, 1) := dk_26 (dk_at dksX4_turned_0 14 rfl rfl)
theorem dX4_turned_15 : decode cX4_turned 15 = .ok (.iload_n 1, 1) := dk_27 (dk_at dksX4_turned_0 15 rfl rfl)
theorem dX4_turned_16 : decode cX4_turned 16 = .ok (.iadd, 1) := dk_96 (dk_at dksX4_turned_0 16 rfl rfl)
theorem dX4_turned_17 : decode cX4_turned 17 = .ok (.bipush 8, 2) := dk_16 8 (dk_at dksX4_turned_0 17 rfl rfl)
theorem dX4_turned_19 : decode cX4_turned 19 = .ok (.irem, 1) := dk_112 (dk_at dksX4_turned_0 19 rfl rfl)
theorem dX4_turned_20 : decode cX4_turned 20 = .ok (.ireturn, 1) := dk_172 (dk_at dksX4_turned_0 20 rfl rfl)
def dkwX4_tornArm_3 : List UInt8 := [180, 0, 204, 154, 0, 7, 2, 167, 0, 8, 28, 29, 184, 0, 201, 172]
abbrev dktX4_tornArm_3 : List UInt8 := dkwX4_tornArm_3 ++ []
def dkwX4_tornArm_2 : List UInt8 := [16, 10, 112, 42, 180, 0, 20, 27, 46, 16, 10, 112, 100, 96, 62, 132, 4, 1, 167, 255, 198, 42]
abbrev dktX4_tornArm_2 : List UInt8 := dkwX4_tornArm_2 ++ dktX4_tornArm_3
def dkwX4_tornArm_1 : List UInt8 := [16, 10, 108, 42, 180, 0, 20, 27, 46, 16, 10, 108, 100, 96, 61, 29, 42, 180, 0, 51, 21, 4, 46]
abbrev dktX4_tornArm_1 : List UInt8 := dkwX4_tornArm_1 ++ dktX4_tornArm_2
def dkwX4_tornArm_0 : List UInt8 := [3, 61, 3, 62, 3, 54, 4, 21, 4, 42, 180, 0, 204, 162, 0, 55, 28, 42, 180, 0, 51, 21, 4, 46]
abbrev dktX4_tornArm_0 : List UInt8 := dkwX4_tornArm_0 ++ dktX4_tornArm_1
theorem dksX4_tornArm_0 : cX4_tornArm.data.toList.drop 0 = dktX4_tornArm_0 := by decide +kernel
theorem dksX4_tornArm_1 : cX4_tornArm.data.toList.drop 24 = dktX4_tornArm_1 := dk_seg dksX4_tornArm_0 24 rfl rfl
theorem dksX4_tornArm_2 : cX4_tornArm.data.toList.drop 47 = dktX4_tornArm_2 := dk_seg dksX4_tornArm_1 23 rfl rfl
theorem dksX4_tornArm_3 : cX4_tornArm.data.toList.drop 69 = dktX4_tornArm_3 := dk_seg dksX4_tornArm_2 22 rfl rfl
theorem dX4_tornArm_0 : decode cX4_tornArm 0 = .ok (.iconst 0, 1) := dk_3 (dk_at dksX4_tornArm_0 0 rfl rfl)
theorem dX4_tornArm_1 : decode cX4_tornArm 1 = .ok (.istore_n 2, 1) := dk_61 (dk_at dksX4_tornArm_0 1 rfl rfl)
theorem dX4_tornArm_2 : decode cX4_tornArm 2 = .ok (.iconst 0, 1) := dk_3 (dk_at dksX4_tornArm_0 2 rfl rfl)
theorem dX4_tornArm_3 : decode cX4_tornArm 3 = .ok (.istore_n 3, 1) := dk_62 (dk_at dksX4_tornArm_0 3 rfl rfl)
theorem dX4_tornArm_4 : decode cX4_tornArm 4 = .ok (.iconst 0, 1) := dk_3 (dk_at dksX4_tornArm_0 4 rfl rfl)
theorem dX4_tornArm_5 : decode cX4_tornArm 5 = .ok (.istore 4, 2) := dk_54 4 (dk_at dksX4_tornArm_0 5 rfl rfl)
theorem dX4_tornArm_7 : decode cX4_tornArm 7 = .ok (.iload 4, 2) := dk_21 4 (dk_at dksX4_tornArm_0 7 rfl rfl)
theorem dX4_tornArm_9 : decode cX4_tornArm 9 = .ok (.aload_n 0, 1) := dk_42 (dk_at dksX4_tornArm_0 9 rfl rfl)
theorem dX4_tornArm_10 : decode cX4_tornArm 10 = .ok (.getfield 204, 3) := dk_180 0 204 (dk_at dksX4_tornArm_0 10 rfl rfl)
theorem dX4_tornArm_13 : decode cX4_tornArm 13 = .ok (.if_icmp .ge 55, 3) := dk_162 0 55 (dk_at dksX4_tornArm_0 13 rfl rfl)
theorem dX4_tornArm_16 : decode cX4_tornArm 16 = .ok (.iload_n 2, 1) := dk_28 (dk_at dksX4_tornArm_0 16 rfl rfl)
theorem dX4_tornArm_17 : decode cX4_tornArm 17 = .ok (.aload_n 0, 1) := dk_42 (dk_at dksX4_tornArm_0 17 rfl rfl)
theorem dX4_tornArm_18 : decode cX4_tornArm 18 = .ok (.getfield 51, 3) := dk_180 0 51 (dk_at dksX4_tornArm_0 18 rfl rfl)
theorem dX4_tornArm_21 : decode cX4_tornArm 21 = .ok (.iload 4, 2) := dk_21 4 (dk_at dksX4_tornArm_0 21 rfl rfl)
theorem dX4_tornArm_23 : decode cX4_tornArm 23 = .ok (.iaload, 1) := dk_46 (dk_at dksX4_tornArm_0 23 rfl rfl)
theorem dX4_tornArm_24 : decode cX4_tornArm 24 = .ok (.bipush 10, 2) := dk_16 10 (dk_at dksX4_tornArm_1 0 rfl rfl)
theorem dX4_tornArm_26 : decode cX4_tornArm 26 = .ok (.idiv, 1) := dk_108 (dk_at dksX4_tornArm_1 2 rfl rfl)
theorem dX4_tornArm_27 : decode cX4_tornArm 27 = .ok (.aload_n 0, 1) := dk_42 (dk_at dksX4_tornArm_1 3 rfl rfl)
theorem dX4_tornArm_28 : decode cX4_tornArm 28 = .ok (.getfield 20, 3) := dk_180 0 20 (dk_at dksX4_tornArm_1 4 rfl rfl)
theorem dX4_tornArm_31 : decode cX4_tornArm 31 = .ok (.iload_n 1, 1) := dk_27 (dk_at dksX4_tornArm_1 7 rfl rfl)
theorem dX4_tornArm_32 : decode cX4_tornArm 32 = .ok (.iaload, 1) := dk_46 (dk_at dksX4_tornArm_1 8 rfl rfl)
theorem dX4_tornArm_33 : decode cX4_tornArm 33 = .ok (.bipush 10, 2) := dk_16 10 (dk_at dksX4_tornArm_1 9 rfl rfl)
theorem dX4_tornArm_35 : decode cX4_tornArm 35 = .ok (.idiv, 1) := dk_108 (dk_at dksX4_tornArm_1 11 rfl rfl)
theorem dX4_tornArm_36 : decode cX4_tornArm 36 = .ok (.isub, 1) := dk_100 (dk_at dksX4_tornArm_1 12 rfl rfl)
theorem dX4_tornArm_37 : decode cX4_tornArm 37 = .ok (.iadd, 1) := dk_96 (dk_at dksX4_tornArm_1 13 rfl rfl)
theorem dX4_tornArm_38 : decode cX4_tornArm 38 = .ok (.istore_n 2, 1) := dk_61 (dk_at dksX4_tornArm_1 14 rfl rfl)
theorem dX4_tornArm_39 : decode cX4_tornArm 39 = .ok (.iload_n 3, 1) := dk_29 (dk_at dksX4_tornArm_1 15 rfl rfl)
theorem dX4_tornArm_40 : decode cX4_tornArm 40 = .ok (.aload_n 0, 1) := dk_42 (dk_at dksX4_tornArm_1 16 rfl rfl)
theorem dX4_tornArm_41 : decode cX4_tornArm 41 = .ok (.getfield 51, 3) := dk_180 0 51 (dk_at dksX4_tornArm_1 17 rfl rfl)
theorem dX4_tornArm_44 : decode cX4_tornArm 44 = .ok (.iload 4, 2) := dk_21 4 (dk_at dksX4_tornArm_1 20 rfl rfl)
theorem dX4_tornArm_46 : decode cX4_tornArm 46 = .ok (.iaload, 1) := dk_46 (dk_at dksX4_tornArm_1 22 rfl rfl)
theorem dX4_tornArm_47 : decode cX4_tornArm 47 = .ok (.bipush 10, 2) := dk_16 10 (dk_at dksX4_tornArm_2 0 rfl rfl)
theorem dX4_tornArm_49 : decode cX4_tornArm 49 = .ok (.irem, 1) := dk_112 (dk_at dksX4_tornArm_2 2 rfl rfl)
theorem dX4_tornArm_50 : decode cX4_tornArm 50 = .ok (.aload_n 0, 1) := dk_42 (dk_at dksX4_tornArm_2 3 rfl rfl)
theorem dX4_tornArm_51 : decode cX4_tornArm 51 = .ok (.getfield 20, 3) := dk_180 0 20 (dk_at dksX4_tornArm_2 4 rfl rfl)
theorem dX4_tornArm_54 : decode cX4_tornArm 54 = .ok (.iload_n 1, 1) := dk_27 (dk_at dksX4_tornArm_2 7 rfl rfl)
theorem dX4_tornArm_55 : decode cX4_tornArm 55 = .ok (.iaload, 1) := dk_46 (dk_at dksX4_tornArm_2 8 rfl rfl)
theorem dX4_tornArm_56 : decode cX4_tornArm 56 = .ok (.bipush 10, 2) := dk_16 10 (dk_at dksX4_tornArm_2 9 rfl rfl)
theorem dX4_tornArm_58 : decode cX4_tornArm 58 = .ok (.irem, 1) := dk_112 (dk_at dksX4_tornArm_2 11 rfl rfl)
theorem dX4_tornArm_59 : decode cX4_tornArm 59 = .ok (.isub, 1) := dk_100 (dk_at dksX4_tornArm_2 12 rfl rfl)
theorem dX4_tornArm_60 : decode cX4_tornArm 60 = .ok (.iadd, 1) := dk_96 (dk_at dksX4_tornArm_2 13 rfl rfl)
theorem dX4_tornArm_61 : decode cX4_tornArm 61 = .ok (.istore_n 3, 1) := dk_62 (dk_at dksX4_tornArm_2 14 rfl rfl)
theorem dX4_tornArm_62 : decode cX4_tornArm 62 = .ok (.iinc 4 1, 3) := dk_132 4 1 (dk_at dksX4_tornArm_2 15 rfl rfl)
theorem dX4_tornArm_65 : decode cX4_tornArm 65 = .ok (.goto (-58), 3) := dk_167 255 198 (dk_at dksX4_tornArm_2 18 rfl rfl)
theorem dX4_tornArm_68 : decode cX4_tornArm 68 = .ok (.aload_n 0, 1) := dk_42 (dk_at dksX4_tornArm_2 21 rfl rfl)
theorem dX4_tornArm_69 : decode cX4_tornArm 69 = .ok (.getfield 204, 3) := dk_180 0 204 (dk_at dksX4_tornArm_3 0 rfl rfl)
theorem dX4_tornArm_72 : decode cX4_tornArm 72 = .ok (.ifCond .ne 7, 3) := dk_154 0 7 (dk_at dksX4_tornArm_3 3 rfl rfl)
theorem dX4_tornArm_75 : decode cX4_tornArm 75 = .ok (.iconst (-1), 1) := dk_2 (dk_at dksX4_tornArm_3 6 rfl rfl)
theorem dX4_tornArm_76 : decode cX4_tornArm 76 = .ok (.goto 8, 3) := dk_167 0 8 (dk_at dksX4_tornArm_3 7 rfl rfl)
theorem dX4_tornArm_79 : decode cX4_tornArm 79 = .ok (.iload_n 2, 1) := dk_28 (dk_at dksX4_tornArm_3 10 rfl rfl)
theorem dX4_tornArm_80 : decode cX4_tornArm 80 = .ok (.iload_n 3, 1) := dk_29 (dk_at dksX4_tornArm_3 11 rfl rfl)
theorem dX4_tornArm_81 : decode cX4_tornArm 81 = .ok (.invokestatic 201, 3) := dk_184 0 201 (dk_at dksX4_tornArm_3 12 rfl rfl)
theorem dX4_tornArm_84 : decode cX4_tornArm 84 = .ok (.ireturn, 1) := dk_172 (dk_at dksX4_tornArm_3 15 rfl rfl)
def dkwX4_side_1 : List UInt8 := [172, 42, 180, 0, 60, 61, 42, 27, 181, 0, 60, 28, 172]
abbrev dktX4_side_1 : List UInt8 := dkwX4_side_1 ++ []
def dkwX4_side_0 : List UInt8 := [27, 6, 16, 7, 184, 0, 79, 153, 0, 11, 27, 42, 180, 0, 60, 162, 0, 10, 42, 16, 254, 182, 0, 87]
abbrev dktX4_side_0 : List UInt8 := dkwX4_side_0 ++ dktX4_side_1
theorem dksX4_side_0 : cX4_side.data.toList.drop 0 = dktX4_side_0 := by decide +kernel
theorem dksX4_side_1 : cX4_side.data.toList.drop 24 = dktX4_side_1 := dk_seg dksX4_side_0 24 rfl rfl
theorem dX4_side_0 : decode cX4_side 0 = .ok (.iload_n 1, 1) := dk_27 (dk_at dksX4_side_0 0 rfl rfl)
theorem dX4_side_1 : decode cX4_side 1 = .ok (.iconst 3, 1) := dk_6 (dk_at dksX4_side_0 1 rfl rfl)
theorem dX4_side_2 : decode cX4_side 2 = .ok (.bipush 7, 2) := dk_16 7 (dk_at dksX4_side_0 2 rfl rfl)
theorem dX4_side_4 : decode cX4_side 4 = .ok (.invokestatic 79, 3) := dk_184 0 79 (dk_at dksX4_side_0 4 rfl rfl)
theorem dX4_side_7 : decode cX4_side 7 = .ok (.ifCond .eq 11, 3) := dk_153 0 11 (dk_at dksX4_side_0 7 rfl rfl)
theorem dX4_side_10 : decode cX4_side 10 = .ok (.iload_n 1, 1) := dk_27 (dk_at dksX4_side_0 10 rfl rfl)
theorem dX4_side_11 : decode cX4_side 11 = .ok (.aload_n 0, 1) := dk_42 (dk_at dksX4_side_0 11 rfl rfl)
theorem dX4_side_12 : decode cX4_side 12 = .ok (.getfield 60, 3) := dk_180 0 60 (dk_at dksX4_side_0 12 rfl rfl)
theorem dX4_side_15 : decode cX4_side 15 = .ok (.if_icmp .ge 10, 3) := dk_162 0 10 (dk_at dksX4_side_0 15 rfl rfl)
theorem dX4_side_18 : decode cX4_side 18 = .ok (.aload_n 0, 1) := dk_42 (dk_at dksX4_side_0 18 rfl rfl)
theorem dX4_side_19 : decode cX4_side 19 = .ok (.bipush (-2), 2) := dk_16 254 (dk_at dksX4_side_0 19 rfl rfl)
theorem dX4_side_21 : decode cX4_side 21 = .ok (.invokevirtual 87, 3) := dk_182 0 87 (dk_at dksX4_side_0 21 rfl rfl)
theorem dX4_side_24 : decode cX4_side 24 = .ok (.ireturn, 1) := dk_172 (dk_at dksX4_side_1 0 rfl rfl)
theorem dX4_side_25 : decode cX4_side 25 = .ok (.aload_n 0, 1) := dk_42 (dk_at dksX4_side_1 1 rfl rfl)
theorem dX4_side_26 : decode cX4_side 26 = .ok (.getfield 60, 3) := dk_180 0 60 (dk_at dksX4_side_1 2 rfl rfl)
theorem dX4_side_29 : decode cX4_side 29 = .ok (.istore_n 2, 1) := dk_61 (dk_at dksX4_side_1 5 rfl rfl)
theorem dX4_side_30 : decode cX4_side 30 = .ok (.aload_n 0, 1) := dk_42 (dk_at dksX4_side_1 6 rfl rfl)
theorem dX4_side_31 : decode cX4_side 31 = .ok (.iload_n 1, 1) := dk_27 (dk_at dksX4_side_1 7 rfl rfl)
theorem dX4_side_32 : decode cX4_side 32 = .ok (.putfield 60, 3) := dk_181 0 60 (dk_at dksX4_side_1 8 rfl rfl)
theorem dX4_side_35 : decode cX4_side 35 = .ok (.iload_n 2, 1) := dk_28 (dk_at dksX4_side_1 11 rfl rfl)
theorem dX4_side_36 : decode cX4_side 36 = .ok (.ireturn, 1) := dk_172 (dk_at dksX4_side_1 12 rfl rfl)
def dkwX4_bog_2 : List UInt8 := [180, 0, 7, 27, 51, 153, 0, 7, 4, 167, 0, 4, 3, 62, 42, 180, 0, 7, 27, 28, 84, 29, 172]
abbrev dktX4_bog_2 : List UInt8 := dkwX4_bog_2 ++ []
def dkwX4_bog_1 : List UInt8 := [180, 0, 114, 159, 0, 11, 42, 27, 182, 0, 117, 153, 0, 10, 42, 16, 251, 182, 0, 87, 172, 42]
abbrev dktX4_bog_1 : List UInt8 := dkwX4_bog_1 ++ dktX4_bog_2
def dkwX4_bog_0 : List UInt8 := [42, 27, 133, 182, 0, 69, 154, 0, 10, 42, 16, 254, 182, 0, 87, 172, 28, 153, 0, 26, 27, 42]
abbrev dktX4_bog_0 : List UInt8 := dkwX4_bog_0 ++ dktX4_bog_1
theorem dksX4_bog_0 : cX4_bog.data.toList.drop 0 = dktX4_bog_0 := by decide +kernel
theorem dksX4_bog_1 : cX4_bog.data.toList.drop 22 = dktX4_bog_1 := dk_seg dksX4_bog_0 22 rfl rfl
theorem dksX4_bog_2 : cX4_bog.data.toList.drop 44 = dktX4_bog_2 := dk_seg dksX4_bog_1 22 rfl rfl
theorem dX4_bog_0 : decode cX4_bog 0 = .ok (.aload_n 0, 1) := dk_42 (dk_at dksX4_bog_0 0 rfl rfl)
theorem dX4_bog_1 : decode cX4_bog 1 = .ok (.iload_n 1, 1) := dk_27 (dk_at dksX4_bog_0 1 rfl rfl)
theorem dX4_bog_2 : decode cX4_bog 2 = .ok (.i2l, 1) := dk_133 (dk_at dksX4_bog_0 2 rfl rfl)
theorem dX4_bog_3 : decode cX4_bog 3 = .ok (.invokevirtual 69, 3) := dk_182 0 69 (dk_at dksX4_bog_0 3 rfl rfl)
theorem dX4_bog_6 : decode cX4_bog 6 = .ok (.ifCond .ne 10, 3) := dk_154 0 10 (dk_at dksX4_bog_0 6 rfl rfl)
theorem dX4_bog_9 : decode cX4_bog 9 = .ok (.aload_n 0, 1) := dk_42 (dk_at dksX4_bog_0 9 rfl rfl)
theorem dX4_bog_10 : decode cX4_bog 10 = .ok (.bipush (-2), 2) := dk_16 254 (dk_at dksX4_bog_0 10 rfl rfl)
theorem dX4_bog_12 : decode cX4_bog 12 = .ok (.invokevirtual 87, 3) := dk_182 0 87 (dk_at dksX4_bog_0 12 rfl rfl)
theorem dX4_bog_15 : decode cX4_bog 15 = .ok (.ireturn, 1) := dk_172 (dk_at dksX4_bog_0 15 rfl rfl)
theorem dX4_bog_16 : decode cX4_bog 16 = .ok (.iload_n 2, 1) := dk_28 (dk_at dksX4_bog_0 16 rfl rfl)
theorem dX4_bog_17 : decode cX4_bog 17 = .ok (.ifCond .eq 26, 3) := dk_153 0 26 (dk_at dksX4_bog_0 17 rfl rfl)
theorem dX4_bog_20 : decode cX4_bog 20 = .ok (.iload_n 1, 1) := dk_27 (dk_at dksX4_bog_0 20 rfl rfl)
theorem dX4_bog_21 : decode cX4_bog 21 = .ok (.aload_n 0, 1) := dk_42 (dk_at dksX4_bog_0 21 rfl rfl)
theorem dX4_bog_22 : decode cX4_bog 22 = .ok (.getfield 114, 3) := dk_180 0 114 (dk_at dksX4_bog_1 0 rfl rfl)
theorem dX4_bog_25 : decode cX4_bog 25 = .ok (.if_icmp .eq 11, 3) := dk_159 0 11 (dk_at dksX4_bog_1 3 rfl rfl)
theorem dX4_bog_28 : decode cX4_bog 28 = .ok (.aload_n 0, 1) := dk_42 (dk_at dksX4_bog_1 6 rfl rfl)
theorem dX4_bog_29 : decode cX4_bog 29 = .ok (.iload_n 1, 1) := dk_27 (dk_at dksX4_bog_1 7 rfl rfl)
theorem dX4_bog_30 : decode cX4_bog 30 = .ok (.invokevirtual 117, 3) := dk_182 0 117 (dk_at dksX4_bog_1 8 rfl rfl)
theorem dX4_bog_33 : decode cX4_bog 33 = .ok (.ifCond .eq 10, 3) := dk_153 0 10 (dk_at dksX4_bog_1 11 rfl rfl)
theorem dX4_bog_36 : decode cX4_bog 36 = .ok (.aload_n 0, 1) := dk_42 (dk_at dksX4_bog_1 14 rfl rfl)
theorem dX4_bog_37 : decode cX4_bog 37 = .ok (.bipush (-5), 2) := dk_16 251 (dk_at dksX4_bog_1 15 rfl rfl)
theorem dX4_bog_39 : decode cX4_bog 39 = .ok (.invokevirtual 87, 3) := dk_182 0 87 (dk_at dksX4_bog_1 17 rfl rfl)
theorem dX4_bog_42 : decode cX4_bog 42 = .ok (.ireturn, 1) := dk_172 (dk_at dksX4_bog_1 20 rfl rfl)
theorem dX4_bog_43 : decode cX4_bog 43 = .ok (.aload_n 0, 1) := dk_42 (dk_at dksX4_bog_1 21 rfl rfl)
theorem dX4_bog_44 : decode cX4_bog 44 = .ok (.getfield 7, 3) := dk_180 0 7 (dk_at dksX4_bog_2 0 rfl rfl)
theorem dX4_bog_47 : decode cX4_bog 47 = .ok (.iload_n 1, 1) := dk_27 (dk_at dksX4_bog_2 3 rfl rfl)
theorem dX4_bog_48 : decode cX4_bog 48 = .ok (.baload, 1) := dk_51 (dk_at dksX4_bog_2 4 rfl rfl)
theorem dX4_bog_49 : decode cX4_bog 49 = .ok (.ifCond .eq 7, 3) := dk_153 0 7 (dk_at dksX4_bog_2 5 rfl rfl)
theorem dX4_bog_52 : decode cX4_bog 52 = .ok (.iconst 1, 1) := dk_4 (dk_at dksX4_bog_2 8 rfl rfl)
theorem dX4_bog_53 : decode cX4_bog 53 = .ok (.goto 4, 3) := dk_167 0 4 (dk_at dksX4_bog_2 9 rfl rfl)
theorem dX4_bog_56 : decode cX4_bog 56 = .ok (.iconst 0, 1) := dk_3 (dk_at dksX4_bog_2 12 rfl rfl)
theorem dX4_bog_57 : decode cX4_bog 57 = .ok (.istore_n 3, 1) := dk_62 (dk_at dksX4_bog_2 13 rfl rfl)
theorem dX4_bog_58 : decode cX4_bog 58 = .ok (.aload_n 0, 1) := dk_42 (dk_at dksX4_bog_2 14 rfl rfl)
theorem dX4_bog_59 : decode cX4_bog 59 = .ok (.getfield 7, 3) := dk_180 0 7 (dk_at dksX4_bog_2 15 rfl rfl)
theorem dX4_bog_62 : decode cX4_bog 62 = .ok (.iload_n 1, 1) := dk_27 (dk_at dksX4_bog_2 18 rfl rfl)
theorem dX4_bog_63 : decode cX4_bog 63 = .ok (.iload_n 2, 1) := dk_28 (dk_at dksX4_bog_2 19 rfl rfl)
theorem dX4_bog_64 : decode cX4_bog 64 = .ok (.bastore, 1) := dk_84 (dk_at dksX4_bog_2 20 rfl rfl)
theorem dX4_bog_65 : decode cX4_bog 65 = .ok (.iload_n 3, 1) := dk_29 (dk_at dksX4_bog_2 21 rfl rfl)
theorem dX4_bog_66 : decode cX4_bog 66 = .ok (.ireturn, 1) := dk_172 (dk_at dksX4_bog_2 22 rfl rfl)
def dkwX4_isCell_1 : List UInt8 := [113, 42, 180, 0, 60, 133, 148, 156, 0, 7, 4, 167, 0, 4, 3, 172]
abbrev dktX4_isCell_1 : List UInt8 := dkwX4_isCell_1 ++ []
def dkwX4_isCell_0 : List UInt8 := [31, 9, 148, 155, 0, 35, 31, 20, 0, 67, 109, 42, 180, 0, 60, 133, 148, 156, 0, 21, 31, 20, 0, 67]
abbrev dktX4_isCell_0 : List UInt8 := dkwX4_isCell_0 ++ dktX4_isCell_1
theorem dksX4_isCell_0 : cX4_isCell.data.toList.drop 0 = dktX4_isCell_0 := by decide +kernel
theorem dksX4_isCell_1 : cX4_isCell.data.toList.drop 24 = dktX4_isCell_1 := dk_seg dksX4_isCell_0 24 rfl rfl
theorem dX4_isCell_0 : decode cX4_isCell 0 = .ok (.lload_n 1, 1) := dk_31 (dk_at dksX4_isCell_0 0 rfl rfl)
theorem dX4_isCell_1 : decode cX4_isCell 1 = .ok (.lconst 0, 1) := dk_9 (dk_at dksX4_isCell_0 1 rfl rfl)
theorem dX4_isCell_2 : decode cX4_isCell 2 = .ok (.lcmp, 1) := dk_148 (dk_at dksX4_isCell_0 2 rfl rfl)
theorem dX4_isCell_3 : decode cX4_isCell 3 = .ok (.ifCond .lt 35, 3) := dk_155 0 35 (dk_at dksX4_isCell_0 3 rfl rfl)
theorem dX4_isCell_6 : decode cX4_isCell 6 = .ok (.lload_n 1, 1) := dk_31 (dk_at dksX4_isCell_0 6 rfl rfl)
theorem dX4_isCell_7 : decode cX4_isCell 7 = .ok (.ldc2_w 67, 3) := dk_20 0 67 (dk_at dksX4_isCell_0 7 rfl rfl)
theorem dX4_isCell_10 : decode cX4_isCell 10 = .ok (.ldiv, 1) := dk_109 (dk_at dksX4_isCell_0 10 rfl rfl)
theorem dX4_isCell_11 : decode cX4_isCell 11 = .ok (.aload_n 0, 1) := dk_42 (dk_at dksX4_isCell_0 11 rfl rfl)
theorem dX4_isCell_12 : decode cX4_isCell 12 = .ok (.getfield 60, 3) := dk_180 0 60 (dk_at dksX4_isCell_0 12 rfl rfl)
theorem dX4_isCell_15 : decode cX4_isCell 15 = .ok (.i2l, 1) := dk_133 (dk_at dksX4_isCell_0 15 rfl rfl)
theorem dX4_isCell_16 : decode cX4_isCell 16 = .ok (.lcmp, 1) := dk_148 (dk_at dksX4_isCell_0 16 rfl rfl)
theorem dX4_isCell_17 : decode cX4_isCell 17 = .ok (.ifCond .ge 21, 3) := dk_156 0 21 (dk_at dksX4_isCell_0 17 rfl rfl)
theorem dX4_isCell_20 : decode cX4_isCell 20 = .ok (.lload_n 1, 1) := dk_31 (dk_at dksX4_isCell_0 20 rfl rfl)
theorem dX4_isCell_21 : decode cX4_isCell 21 = .ok (.ldc2_w 67, 3) := dk_20 0 67 (dk_at dksX4_isCell_0 21 rfl rfl)
theorem dX4_isCell_24 : decode cX4_isCell 24 = .ok (.lrem, 1) := dk_113 (dk_at dksX4_isCell_1 0 rfl rfl)
theorem dX4_isCell_25 : decode cX4_isCell 25 = .ok (.aload_n 0, 1) := dk_42 (dk_at dksX4_isCell_1 1 rfl rfl)
theorem dX4_isCell_26 : decode cX4_isCell 26 = .ok (.getfield 60, 3) := dk_180 0 60 (dk_at dksX4_isCell_1 2 rfl rfl)
theorem dX4_isCell_29 : decode cX4_isCell 29 = .ok (.i2l, 1) := dk_133 (dk_at dksX4_isCell_1 5 rfl rfl)
theorem dX4_isCell_30 : decode cX4_isCell 30 = .ok (.lcmp, 1) := dk_148 (dk_at dksX4_isCell_1 6 rfl rfl)
theorem dX4_isCell_31 : decode cX4_isCell 31 = .ok (.ifCond .ge 7, 3) := dk_156 0 7 (dk_at dksX4_isCell_1 7 rfl rfl)
theorem dX4_isCell_34 : decode cX4_isCell 34 = .ok (.iconst 1, 1) := dk_4 (dk_at dksX4_isCell_1 10 rfl rfl)
theorem dX4_isCell_35 : decode cX4_isCell 35 = .ok (.goto 4, 3) := dk_167 0 4 (dk_at dksX4_isCell_1 11 rfl rfl)
theorem dX4_isCell_38 : decode cX4_isCell 38 = .ok (.iconst 0, 1) := dk_3 (dk_at dksX4_isCell_1 14 rfl rfl)
theorem dX4_isCell_39 : decode cX4_isCell 39 = .ok (.ireturn, 1) := dk_172 (dk_at dksX4_isCell_1 15 rfl rfl)
def dkwX4_isWalkerAt_1 : List UInt8 := [132, 2, 1, 167, 255, 233, 3, 172]
abbrev dktX4_isWalkerAt_1 : List UInt8 := dkwX4_isWalkerAt_1 ++ []
def dkwX4_isWalkerAt_0 : List UInt8 := [3, 61, 28, 42, 180, 0, 76, 162, 0, 21, 42, 180, 0, 23, 28, 46, 27, 160, 0, 5, 4, 172]
abbrev dktX4_isWalkerAt_0 : List UInt8 := dkwX4_isWalkerAt_0 ++ dktX4_isWalkerAt_1
theorem dksX4_isWalkerAt_0 : cX4_isWalkerAt.data.toList.drop 0 = dktX4_isWalkerAt_0 := by decide +kernel
theorem dksX4_isWalkerAt_1 : cX4_isWalkerAt.data.toList.drop 22 = dktX4_isWalkerAt_1 := dk_seg dksX4_isWalkerAt_0 22 rfl rfl
theorem dX4_isWalkerAt_0 : decode cX4_isWalkerAt 0 = .ok (.iconst 0, 1) := dk_3 (dk_at dksX4_isWalkerAt_0 0 rfl rfl)
theorem dX4_isWalkerAt_1 : decode cX4_isWalkerAt 1 = .ok (.istore_n 2, 1) := dk_61 (dk_at dksX4_isWalkerAt_0 1 rfl rfl)
theorem dX4_isWalkerAt_2 : decode cX4_isWalkerAt 2 = .ok (.iload_n 2, 1) := dk_28 (dk_at dksX4_isWalkerAt_0 2 rfl rfl)
theorem dX4_isWalkerAt_3 : decode cX4_isWalkerAt 3 = .ok (.aload_n 0, 1) := dk_42 (dk_at dksX4_isWalkerAt_0 3 rfl rfl)
theorem dX4_isWalkerAt_4 : decode cX4_isWalkerAt 4 = .ok (.getfield 76, 3) := dk_180 0 76 (dk_at dksX4_isWalkerAt_0 4 rfl rfl)
theorem dX4_isWalkerAt_7 : decode cX4_isWalkerAt 7 = .ok (.if_icmp .ge 21, 3) := dk_162 0 21 (dk_at dksX4_isWalkerAt_0 7 rfl rfl)
theorem dX4_isWalkerAt_10 : decode cX4_isWalkerAt 10 = .ok (.aload_n 0, 1) := dk_42 (dk_at dksX4_isWalkerAt_0 10 rfl rfl)
theorem dX4_isWalkerAt_11 : decode cX4_isWalkerAt 11 = .ok (.getfield 23, 3) := dk_180 0 23 (dk_at dksX4_isWalkerAt_0 11 rfl rfl)
theorem dX4_isWalkerAt_14 : decode cX4_isWalkerAt 14 = .ok (.iload_n 2, 1) := dk_28 (dk_at dksX4_isWalkerAt_0 14 rfl rfl)
theorem dX4_isWalkerAt_15 : decode cX4_isWalkerAt 15 = .ok (.iaload, 1) := dk_46 (dk_at dksX4_isWalkerAt_0 15 rfl rfl)
theorem dX4_isWalkerAt_16 : decode cX4_isWalkerAt 16 = .ok (.iload_n 1, 1) := dk_27 (dk_at dksX4_isWalkerAt_0 16 rfl rfl)
theorem dX4_isWalkerAt_17 : decode cX4_isWalkerAt 17 = .ok (.if_icmp .ne 5, 3) := dk_160 0 5 (dk_at dksX4_isWalkerAt_0 17 rfl rfl)
theorem dX4_isWalkerAt_20 : decode cX4_isWalkerAt 20 = .ok (.iconst 1, 1) := dk_4 (dk_at dksX4_isWalkerAt_0 20 rfl rfl)
theorem dX4_isWalkerAt_21 : decode cX4_isWalkerAt 21 = .ok (.ireturn, 1) := dk_172 (dk_at dksX4_isWalkerAt_0 21 rfl rfl)
theorem dX4_isWalkerAt_22 : decode cX4_isWalkerAt 22 = .ok (.iinc 2 1, 3) := dk_132 2 1 (dk_at dksX4_isWalkerAt_1 0 rfl rfl)
theorem dX4_isWalkerAt_25 : decode cX4_isWalkerAt 25 = .ok (.goto (-23), 3) := dk_167 255 233 (dk_at dksX4_isWalkerAt_1 3 rfl rfl)
theorem dX4_isWalkerAt_28 : decode cX4_isWalkerAt 28 = .ok (.iconst 0, 1) := dk_3 (dk_at dksX4_isWalkerAt_1 6 rfl rfl)
theorem dX4_isWalkerAt_29 : decode cX4_isWalkerAt 29 = .ok (.ireturn, 1) := dk_172 (dk_at dksX4_isWalkerAt_1 7 rfl rfl)
def dkwX4_home_1 : List UInt8 := [153, 0, 10, 42, 16, 251, 182, 0, 87, 172, 42, 180, 0, 114, 61, 42, 27, 181, 0, 114, 28, 172]
abbrev dktX4_home_1 : List UInt8 := dkwX4_home_1 ++ []
def dkwX4_home_0 : List UInt8 := [42, 27, 133, 182, 0, 69, 154, 0, 10, 42, 16, 254, 182, 0, 87, 172, 42, 180, 0, 7, 27, 51]
abbrev dktX4_home_0 : List UInt8 := dkwX4_home_0 ++ dktX4_home_1
theorem dksX4_home_0 : cX4_home.data.toList.drop 0 = dktX4_home_0 := by decide +kernel
theorem dksX4_home_1 : cX4_home.data.toList.drop 22 = dktX4_home_1 := dk_seg dksX4_home_0 22 rfl rfl
theorem dX4_home_0 : decode cX4_home 0 = .ok (.aload_n 0, 1) := dk_42 (dk_at dksX4_home_0 0 rfl rfl)
theorem dX4_home_1 : decode cX4_home 1 = .ok (.iload_n 1, 1) := dk_27 (dk_at dksX4_home_0 1 rfl rfl)
theorem dX4_home_2 : decode cX4_home 2 = .ok (.i2l, 1) := dk_133 (dk_at dksX4_home_0 2 rfl rfl)
theorem dX4_home_3 : decode cX4_home 3 = .ok (.invokevirtual 69, 3) := dk_182 0 69 (dk_at dksX4_home_0 3 rfl rfl)
theorem dX4_home_6 : decode cX4_home 6 = .ok (.ifCond .ne 10, 3) := dk_154 0 10 (dk_at dksX4_home_0 6 rfl rfl)
theorem dX4_home_9 : decode cX4_home 9 = .ok (.aload_n 0, 1) := dk_42 (dk_at dksX4_home_0 9 rfl rfl)
theorem dX4_home_10 : decode cX4_home 10 = .ok (.bipush (-2), 2) := dk_16 254 (dk_at dksX4_home_0 10 rfl rfl)
theorem dX4_home_12 : decode cX4_home 12 = .ok (.invokevirtual 87, 3) := dk_182 0 87 (dk_at dksX4_home_0 12 rfl rfl)
theorem dX4_home_15 : decode cX4_home 15 = .ok (.ireturn, 1) := dk_172 (dk_at dksX4_home_0 15 rfl rfl)
theorem dX4_home_16 : decode cX4_home 16 = .ok (.aload_n 0, 1) := dk_42 (dk_at dksX4_home_0 16 rfl rfl)
theorem dX4_home_17 : decode cX4_home 17 = .ok (.getfield 7, 3) := dk_180 0 7 (dk_at dksX4_home_0 17 rfl rfl)
theorem dX4_home_20 : decode cX4_home 20 = .ok (.iload_n 1, 1) := dk_27 (dk_at dksX4_home_0 20 rfl rfl)
theorem dX4_home_21 : decode cX4_home 21 = .ok (.baload, 1) := dk_51 (dk_at dksX4_home_0 21 rfl rfl)
theorem dX4_home_22 : decode cX4_home 22 = .ok (.ifCond .eq 10, 3) := dk_153 0 10 (dk_at dksX4_home_1 0 rfl rfl)
theorem dX4_home_25 : decode cX4_home 25 = .ok (.aload_n 0, 1) := dk_42 (dk_at dksX4_home_1 3 rfl rfl)
theorem dX4_home_26 : decode cX4_home 26 = .ok (.bipush (-5), 2) := dk_16 251 (dk_at dksX4_home_1 4 rfl rfl)
theorem dX4_home_28 : decode cX4_home 28 = .ok (.invokevirtual 87, 3) := dk_182 0 87 (dk_at dksX4_home_1 6 rfl rfl)
theorem dX4_home_31 : decode cX4_home 31 = .ok (.ireturn, 1) := dk_172 (dk_at dksX4_home_1 9 rfl rfl)
theorem dX4_home_32 : decode cX4_home 32 = .ok (.aload_n 0, 1) := dk_42 (dk_at dksX4_home_1 10 rfl rfl)
theorem dX4_home_33 : decode cX4_home 33 = .ok (.getfield 114, 3) := dk_180 0 114 (dk_at dksX4_home_1 11 rfl rfl)
theorem dX4_home_36 : decode cX4_home 36 = .ok (.istore_n 2, 1) := dk_61 (dk_at dksX4_home_1 14 rfl rfl)
theorem dX4_home_37 : decode cX4_home 37 = .ok (.aload_n 0, 1) := dk_42 (dk_at dksX4_home_1 15 rfl rfl)
theorem dX4_home_38 : decode cX4_home 38 = .ok (.iload_n 1, 1) := dk_27 (dk_at dksX4_home_1 16 rfl rfl)
theorem dX4_home_39 : decode cX4_home 39 = .ok (.putfield 114, 3) := dk_181 0 114 (dk_at dksX4_home_1 17 rfl rfl)
theorem dX4_home_42 : decode cX4_home 42 = .ok (.iload_n 2, 1) := dk_28 (dk_at dksX4_home_1 20 rfl rfl)
theorem dX4_home_43 : decode cX4_home 43 = .ok (.ireturn, 1) := dk_172 (dk_at dksX4_home_1 21 rfl rfl)
def dkwX4_post_2 : List UInt8 := [16, 250, 182, 0, 87, 167, 0, 10, 42, 27, 28, 29, 182, 0, 120, 172]
abbrev dktX4_post_2 : List UInt8 := dkwX4_post_2 ++ []
def dkwX4_post_1 : List UInt8 := [182, 0, 69, 154, 0, 10, 42, 16, 254, 182, 0, 87, 172, 42, 180, 0, 73, 16, 8, 160, 0, 12, 42]
abbrev dktX4_post_1 : List UInt8 := dkwX4_post_1 ++ dktX4_post_2
def dkwX4_post_0 : List UInt8 := [27, 3, 8, 184, 0, 79, 153, 0, 22, 28, 3, 16, 9, 184, 0, 79, 153, 0, 12, 42, 29, 133]
abbrev dktX4_post_0 : List UInt8 := dkwX4_post_0 ++ dktX4_post_1
theorem dksX4_post_0 : cX4_post.data.toList.drop 0 = dktX4_post_0 := by decide +kernel
theorem dksX4_post_1 : cX4_post.data.toList.drop 22 = dktX4_post_1 := dk_seg dksX4_post_0 22 rfl rfl
theorem dksX4_post_2 : cX4_post.data.toList.drop 45 = dktX4_post_2 := dk_seg dksX4_post_1 23 rfl rfl
theorem dX4_post_0 : decode cX4_post 0 = .ok (.iload_n 1, 1) := dk_27 (dk_at dksX4_post_0 0 rfl rfl)
theorem dX4_post_1 : decode cX4_post 1 = .ok (.iconst 0, 1) := dk_3 (dk_at dksX4_post_0 1 rfl rfl)
theorem dX4_post_2 : decode cX4_post 2 = .ok (.iconst 5, 1) := dk_8 (dk_at dksX4_post_0 2 rfl rfl)
theorem dX4_post_3 : decode cX4_post 3 = .ok (.invokestatic 79, 3) := dk_184 0 79 (dk_at dksX4_post_0 3 rfl rfl)
theorem dX4_post_6 : decode cX4_post 6 = .ok (.ifCond .eq 22, 3) := dk_153 0 22 (dk_at dksX4_post_0 6 rfl rfl)
theorem dX4_post_9 : decode cX4_post 9 = .ok (.iload_n 2, 1) := dk_28 (dk_at dksX4_post_0 9 rfl rfl)
theorem dX4_post_10 : decode cX4_post 10 = .ok (.iconst 0, 1) := dk_3 (dk_at dksX4_post_0 10 rfl rfl)
theorem dX4_post_11 : decode cX4_post 11 = .ok (.bipush 9, 2) := dk_16 9 (dk_at dksX4_post_0 11 rfl rfl)
theorem dX4_post_13 : decode cX4_post 13 = .ok (.invokestatic 79, 3) := dk_184 0 79 (dk_at dksX4_post_0 13 rfl rfl)
theorem dX4_post_16 : decode cX4_post 16 = .ok (.ifCond .eq 12, 3) := dk_153 0 12 (dk_at dksX4_post_0 16 rfl rfl)
theorem dX4_post_19 : decode cX4_post 19 = .ok (.aload_n 0, 1) := dk_42 (dk_at dksX4_post_0 19 rfl rfl)
theorem dX4_post_20 : decode cX4_post 20 = .ok (.iload_n 3, 1) := dk_29 (dk_at dksX4_post_0 20 rfl rfl)
theorem dX4_post_21 : decode cX4_post 21 = .ok (.i2l, 1) := dk_133 (dk_at dksX4_post_0 21 rfl rfl)
theorem dX4_post_22 : decode cX4_post 22 = .ok (.invokevirtual 69, 3) := dk_182 0 69 (dk_at dksX4_post_1 0 rfl rfl)
theorem dX4_post_25 : decode cX4_post 25 = .ok (.ifCond .ne 10, 3) := dk_154 0 10 (dk_at dksX4_post_1 3 rfl rfl)
theorem dX4_post_28 : decode cX4_post 28 = .ok (.aload_n 0, 1) := dk_42 (dk_at dksX4_post_1 6 rfl rfl)
theorem dX4_post_29 : decode cX4_post 29 = .ok (.bipush (-2), 2) := dk_16 254 (dk_at dksX4_post_1 7 rfl rfl)
theorem dX4_post_31 : decode cX4_post 31 = .ok (.invokevirtual 87, 3) := dk_182 0 87 (dk_at dksX4_post_1 9 rfl rfl)
theorem dX4_post_34 : decode cX4_post 34 = .ok (.ireturn, 1) := dk_172 (dk_at dksX4_post_1 12 rfl rfl)
theorem dX4_post_35 : decode cX4_post 35 = .ok (.aload_n 0, 1) := dk_42 (dk_at dksX4_post_1 13 rfl rfl)
theorem dX4_post_36 : decode cX4_post 36 = .ok (.getfield 73, 3) := dk_180 0 73 (dk_at dksX4_post_1 14 rfl rfl)
theorem dX4_post_39 : decode cX4_post 39 = .ok (.bipush 8, 2) := dk_16 8 (dk_at dksX4_post_1 17 rfl rfl)
theorem dX4_post_41 : decode cX4_post 41 = .ok (.if_icmp .ne 12, 3) := dk_160 0 12 (dk_at dksX4_post_1 19 rfl rfl)
theorem dX4_post_44 : decode cX4_post 44 = .ok (.aload_n 0, 1) := dk_42 (dk_at dksX4_post_1 22 rfl rfl)
theorem dX4_post_45 : decode cX4_post 45 = .ok (.bipush (-6), 2) := dk_16 250 (dk_at dksX4_post_2 0 rfl rfl)
theorem dX4_post_47 : decode cX4_post 47 = .ok (.invokevirtual 87, 3) := dk_182 0 87 (dk_at dksX4_post_2 2 rfl rfl)
theorem dX4_post_50 : decode cX4_post 50 = .ok (.goto 10, 3) := dk_167 0 10 (dk_at dksX4_post_2 5 rfl rfl)
theorem dX4_post_53 : decode cX4_post 53 = .ok (.aload_n 0, 1) := dk_42 (dk_at dksX4_post_2 8 rfl rfl)
theorem dX4_post_54 : decode cX4_post 54 = .ok (.iload_n 1, 1) := dk_27 (dk_at dksX4_post_2 9 rfl rfl)
theorem dX4_post_55 : decode cX4_post 55 = .ok (.iload_n 2, 1) := dk_28 (dk_at dksX4_post_2 10 rfl rfl)
theorem dX4_post_56 : decode cX4_post 56 = .ok (.iload_n 3, 1) := dk_29 (dk_at dksX4_post_2 11 rfl rfl)
theorem dX4_post_57 : decode cX4_post 57 = .ok (.invokevirtual 120, 3) := dk_182 0 120 (dk_at dksX4_post_2 12 rfl rfl)
theorem dX4_post_60 : decode cX4_post 60 = .ok (.ireturn, 1) := dk_172 (dk_at dksX4_post_2 15 rfl rfl)
def dkwX4_newPost_1 : List UInt8 := [42, 180, 0, 73, 29, 79, 42, 89, 180, 0, 73, 90, 4, 96, 181, 0, 73, 172]
abbrev dktX4_newPost_1 : List UInt8 := dkwX4_newPost_1 ++ []
def dkwX4_newPost_0 : List UInt8 := [42, 180, 0, 13, 42, 180, 0, 73, 27, 79, 42, 180, 0, 17, 42, 180, 0, 73, 28, 79, 42, 180, 0, 20]
abbrev dktX4_newPost_0 : List UInt8 := dkwX4_newPost_0 ++ dktX4_newPost_1
theorem dksX4_newPost_0 : cX4_newPost.data.toList.drop 0 = dktX4_newPost_0 := by decide +kernel
theorem dksX4_newPost_1 : cX4_newPost.data.toList.drop 24 = dktX4_newPost_1 := dk_seg dksX4_newPost_0 24 rfl rfl
theorem dX4_newPost_0 : decode cX4_newPost 0 = .ok (.aload_n 0, 1) := dk_42 (dk_at dksX4_newPost_0 0 rfl rfl)
theorem dX4_newPost_1 : decode cX4_newPost 1 = .ok (.getfield 13, 3) := dk_180 0 13 (dk_at dksX4_newPost_0 1 rfl rfl)
theorem dX4_newPost_4 : decode cX4_newPost 4 = .ok (.aload_n 0, 1) := dk_42 (dk_at dksX4_newPost_0 4 rfl rfl)
theorem dX4_newPost_5 : decode cX4_newPost 5 = .ok (.getfield 73, 3) := dk_180 0 73 (dk_at dksX4_newPost_0 5 rfl rfl)
theorem dX4_newPost_8 : decode cX4_newPost 8 = .ok (.iload_n 1, 1) := dk_27 (dk_at dksX4_newPost_0 8 rfl rfl)
theorem dX4_newPost_9 : decode cX4_newPost 9 = .ok (.iastore, 1) := dk_79 (dk_at dksX4_newPost_0 9 rfl rfl)
theorem dX4_newPost_10 : decode cX4_newPost 10 = .ok (.aload_n 0, 1) := dk_42 (dk_at dksX4_newPost_0 10 rfl rfl)
theorem dX4_newPost_11 : decode cX4_newPost 11 = .ok (.getfield 17, 3) := dk_180 0 17 (dk_at dksX4_newPost_0 11 rfl rfl)
theorem dX4_newPost_14 : decode cX4_newPost 14 = .ok (.aload_n 0, 1) := dk_42 (dk_at dksX4_newPost_0 14 rfl rfl)
theorem dX4_newPost_15 : decode cX4_newPost 15 = .ok (.getfield 73, 3) := dk_180 0 73 (dk_at dksX4_newPost_0 15 rfl rfl)
theorem dX4_newPost_18 : decode cX4_newPost 18 = .ok (.iload_n 2, 1) := dk_28 (dk_at dksX4_newPost_0 18 rfl rfl)
theorem dX4_newPost_19 : decode cX4_newPost 19 = .ok (.iastore, 1) := dk_79 (dk_at dksX4_newPost_0 19 rfl rfl)
theorem dX4_newPost_20 : decode cX4_newPost 20 = .ok (.aload_n 0, 1) := dk_42 (dk_at dksX4_newPost_0 20 rfl rfl)
theorem dX4_newPost_21 : decode cX4_newPost 21 = .ok (.getfield 20, 3) := dk_180 0 20 (dk_at dksX4_newPost_0 21 rfl rfl)
theorem dX4_newPost_24 : decode cX4_newPost 24 = .ok (.aload_n 0, 1) := dk_42 (dk_at dksX4_newPost_1 0 rfl rfl)
theorem dX4_newPost_25 : decode cX4_newPost 25 = .ok (.getfield 73, 3) := dk_180 0 73 (dk_at dksX4_newPost_1 1 rfl rfl)
theorem dX4_newPost_28 : decode cX4_newPost 28 = .ok (.iload_n 3, 1) := dk_29 (dk_at dksX4_newPost_1 4 rfl rfl)
theorem dX4_newPost_29 : decode cX4_newPost 29 = .ok (.iastore, 1) := dk_79 (dk_at dksX4_newPost_1 5 rfl rfl)
theorem dX4_newPost_30 : decode cX4_newPost 30 = .ok (.aload_n 0, 1) := dk_42 (dk_at dksX4_newPost_1 6 rfl rfl)
theorem dX4_newPost_31 : decode cX4_newPost 31 = .ok (.dup, 1) := dk_89 (dk_at dksX4_newPost_1 7 rfl rfl)
theorem dX4_newPost_32 : decode cX4_newPost 32 = .ok (.getfield 73, 3) := dk_180 0 73 (dk_at dksX4_newPost_1 8 rfl rfl)
theorem dX4_newPost_35 : decode cX4_newPost 35 = .ok (.dup_x1, 1) := dk_90 (dk_at dksX4_newPost_1 11 rfl rfl)
theorem dX4_newPost_36 : decode cX4_newPost 36 = .ok (.iconst 1, 1) := dk_4 (dk_at dksX4_newPost_1 12 rfl rfl)
theorem dX4_newPost_37 : decode cX4_newPost 37 = .ok (.iadd, 1) := dk_96 (dk_at dksX4_newPost_1 13 rfl rfl)
theorem dX4_newPost_38 : decode cX4_newPost 38 = .ok (.putfield 73, 3) := dk_181 0 73 (dk_at dksX4_newPost_1 14 rfl rfl)
theorem dX4_newPost_41 : decode cX4_newPost 41 = .ok (.ireturn, 1) := dk_172 (dk_at dksX4_newPost_1 17 rfl rfl)
def dkwX4_walker_2 : List UInt8 := [7, 160, 0, 12, 42, 16, 250, 182, 0, 87, 167, 0, 9, 42, 27, 28, 182, 0, 124, 172]
abbrev dktX4_walker_2 : List UInt8 := dkwX4_walker_2 ++ []
def dkwX4_walker_1 : List UInt8 := [182, 0, 87, 172, 42, 180, 0, 7, 27, 51, 153, 0, 10, 42, 16, 251, 182, 0, 87, 172, 42, 180, 0, 76]
abbrev dktX4_walker_1 : List UInt8 := dkwX4_walker_1 ++ dktX4_walker_2
def dkwX4_walker_0 : List UInt8 := [42, 27, 133, 182, 0, 69, 153, 0, 13, 28, 3, 16, 9, 184, 0, 79, 154, 0, 10, 42, 16, 254]
abbrev dktX4_walker_0 : List UInt8 := dkwX4_walker_0 ++ dktX4_walker_1
theorem dksX4_walker_0 : cX4_walker.data.toList.drop 0 = dktX4_walker_0 := by decide +kernel
theorem dksX4_walker_1 : cX4_walker.data.toList.drop 22 = dktX4_walker_1 := dk_seg dksX4_walker_0 22 rfl rfl
theorem dksX4_walker_2 : cX4_walker.data.toList.drop 46 = dktX4_walker_2 := dk_seg dksX4_walker_1 24 rfl rfl
theorem dX4_walker_0 : decode cX4_walker 0 = .ok (.aload_n 0, 1) := dk_42 (dk_at dksX4_walker_0 0 rfl rfl)
theorem dX4_walker_1 : decode cX4_walker 1 = .ok (.iload_n 1, 1) := dk_27 (dk_at dksX4_walker_0 1 rfl rfl)
theorem dX4_walker_2 : decode cX4_walker 2 = .ok (.i2l, 1) := dk_133 (dk_at dksX4_walker_0 2 rfl rfl)
theorem dX4_walker_3 : decode cX4_walker 3 = .ok (.invokevirtual 69, 3) := dk_182 0 69 (dk_at dksX4_walker_0 3 rfl rfl)
theorem dX4_walker_6 : decode cX4_walker 6 = .ok (.ifCond .eq 13, 3) := dk_153 0 13 (dk_at dksX4_walker_0 6 rfl rfl)
theorem dX4_walker_9 : decode cX4_walker 9 = .ok (.iload_n 2, 1) := dk_28 (dk_at dksX4_walker_0 9 rfl rfl)
theorem dX4_walker_10 : decode cX4_walker 10 = .ok (.iconst 0, 1) := dk_3 (dk_at dksX4_walker_0 10 rfl rfl)
theorem dX4_walker_11 : decode cX4_walker 11 = .ok (.bipush 9, 2) := dk_16 9 (dk_at dksX4_walker_0 11 rfl rfl)
theorem dX4_walker_13 : decode cX4_walker 13 = .ok (.invokestatic 79, 3) := dk_184 0 79 (dk_at dksX4_walker_0 13 rfl rfl)
theorem dX4_walker_16 : decode cX4_walker 16 = .ok (.ifCond .ne 10, 3) := dk_154 0 10 (dk_at dksX4_walker_0 16 rfl rfl)
theorem dX4_walker_19 : decode cX4_walker 19 = .ok (.aload_n 0, 1) := dk_42 (dk_at dksX4_walker_0 19 rfl rfl)
theorem dX4_walker_20 : decode cX4_walker 20 = .ok (.bipush (-2), 2) := dk_16 254 (dk_at dksX4_walker_0 20 rfl rfl)
theorem dX4_walker_22 : decode cX4_walker 22 = .ok (.invokevirtual 87, 3) := dk_182 0 87 (dk_at dksX4_walker_1 0 rfl rfl)
theorem dX4_walker_25 : decode cX4_walker 25 = .ok (.ireturn, 1) := dk_172 (dk_at dksX4_walker_1 3 rfl rfl)
theorem dX4_walker_26 : decode cX4_walker 26 = .ok (.aload_n 0, 1) := dk_42 (dk_at dksX4_walker_1 4 rfl rfl)
theorem dX4_walker_27 : decode cX4_walker 27 = .ok (.getfield 7, 3) := dk_180 0 7 (dk_at dksX4_walker_1 5 rfl rfl)
theorem dX4_walker_30 : decode cX4_walker 30 = .ok (.iload_n 1, 1) := dk_27 (dk_at dksX4_walker_1 8 rfl rfl)
theorem dX4_walker_31 : decode cX4_walker 31 = .ok (.baload, 1) := dk_51 (dk_at dksX4_walker_1 9 rfl rfl)
theorem dX4_walker_32 : decode cX4_walker 32 = .ok (.ifCond .eq 10, 3) := dk_153 0 10 (dk_at dksX4_walker_1 10 rfl rfl)
theorem dX4_walker_35 : decode cX4_walker 35 = .ok (.aload_n 0, 1) := dk_42 (dk_at dksX4_walker_1 13 rfl rfl)
theorem dX4_walker_36 : decode cX4_walker 36 = .ok (.bipush (-5), 2) := dk_16 251 (dk_at dksX4_walker_1 14 rfl rfl)
theorem dX4_walker_38 : decode cX4_walker 38 = .ok (.invokevirtual 87, 3) := dk_182 0 87 (dk_at dksX4_walker_1 16 rfl rfl)
theorem dX4_walker_41 : decode cX4_walker 41 = .ok (.ireturn, 1) := dk_172 (dk_at dksX4_walker_1 19 rfl rfl)
theorem dX4_walker_42 : decode cX4_walker 42 = .ok (.aload_n 0, 1) := dk_42 (dk_at dksX4_walker_1 20 rfl rfl)
theorem dX4_walker_43 : decode cX4_walker 43 = .ok (.getfield 76, 3) := dk_180 0 76 (dk_at dksX4_walker_1 21 rfl rfl)
theorem dX4_walker_46 : decode cX4_walker 46 = .ok (.iconst 4, 1) := dk_7 (dk_at dksX4_walker_2 0 rfl rfl)
theorem dX4_walker_47 : decode cX4_walker 47 = .ok (.if_icmp .ne 12, 3) := dk_160 0 12 (dk_at dksX4_walker_2 1 rfl rfl)
theorem dX4_walker_50 : decode cX4_walker 50 = .ok (.aload_n 0, 1) := dk_42 (dk_at dksX4_walker_2 4 rfl rfl)
theorem dX4_walker_51 : decode cX4_walker 51 = .ok (.bipush (-6), 2) := dk_16 250 (dk_at dksX4_walker_2 5 rfl rfl)
theorem dX4_walker_53 : decode cX4_walker 53 = .ok (.invokevirtual 87, 3) := dk_182 0 87 (dk_at dksX4_walker_2 7 rfl rfl)
theorem dX4_walker_56 : decode cX4_walker 56 = .ok (.goto 9, 3) := dk_167 0 9 (dk_at dksX4_walker_2 10 rfl rfl)
theorem dX4_walker_59 : decode cX4_walker 59 = .ok (.aload_n 0, 1) := dk_42 (dk_at dksX4_walker_2 13 rfl rfl)
theorem dX4_walker_60 : decode cX4_walker 60 = .ok (.iload_n 1, 1) := dk_27 (dk_at dksX4_walker_2 14 rfl rfl)
theorem dX4_walker_61 : decode cX4_walker 61 = .ok (.iload_n 2, 1) := dk_28 (dk_at dksX4_walker_2 15 rfl rfl)
theorem dX4_walker_62 : decode cX4_walker 62 = .ok (.invokevirtual 124, 3) := dk_182 0 124 (dk_at dksX4_walker_2 16 rfl rfl)
theorem dX4_walker_65 : decode cX4_walker 65 = .ok (.ireturn, 1) := dk_172 (dk_at dksX4_walker_2 19 rfl rfl)
def dkwX4_newWalker_1 : List UInt8 := [180, 0, 76, 90, 4, 96, 181, 0, 76, 172]
abbrev dktX4_newWalker_1 : List UInt8 := dkwX4_newWalker_1 ++ []
def dkwX4_newWalker_0 : List UInt8 := [42, 180, 0, 23, 42, 180, 0, 76, 27, 79, 42, 180, 0, 26, 42, 180, 0, 76, 28, 79, 42, 89]
abbrev dktX4_newWalker_0 : List UInt8 := dkwX4_newWalker_0 ++ dktX4_newWalker_1
theorem dksX4_newWalker_0 : cX4_newWalker.data.toList.drop 0 = dktX4_newWalker_0 := by decide +kernel
theorem dksX4_newWalker_1 : cX4_newWalker.data.toList.drop 22 = dktX4_newWalker_1 := dk_seg dksX4_newWalker_0 22 rfl rfl
theorem dX4_newWalker_0 : decode cX4_newWalker 0 = .ok (.aload_n 0, 1) := dk_42 (dk_at dksX4_newWalker_0 0 rfl rfl)
theorem dX4_newWalker_1 : decode cX4_newWalker 1 = .ok (.getfield 23, 3) := dk_180 0 23 (dk_at dksX4_newWalker_0 1 rfl rfl)
theorem dX4_newWalker_4 : decode cX4_newWalker 4 = .ok (.aload_n 0, 1) := dk_42 (dk_at dksX4_newWalker_0 4 rfl rfl)
theorem dX4_newWalker_5 : decode cX4_newWalker 5 = .ok (.getfield 76, 3) := dk_180 0 76 (dk_at dksX4_newWalker_0 5 rfl rfl)
theorem dX4_newWalker_8 : decode cX4_newWalker 8 = .ok (.iload_n 1, 1) := dk_27 (dk_at dksX4_newWalker_0 8 rfl rfl)
theorem dX4_newWalker_9 : decode cX4_newWalker 9 = .ok (.iastore, 1) := dk_79 (dk_at dksX4_newWalker_0 9 rfl rfl)
theorem dX4_newWalker_10 : decode cX4_newWalker 10 = .ok (.aload_n 0, 1) := dk_42 (dk_at dksX4_newWalker_0 10 rfl rfl)
theorem dX4_newWalker_11 : decode cX4_newWalker 11 = .ok (.getfield 26, 3) := dk_180 0 26 (dk_at dksX4_newWalker_0 11 rfl rfl)
theorem dX4_newWalker_14 : decode cX4_newWalker 14 = .ok (.aload_n 0, 1) := dk_42 (dk_at dksX4_newWalker_0 14 rfl rfl)
theorem dX4_newWalker_15 : decode cX4_newWalker 15 = .ok (.getfield 76, 3) := dk_180 0 76 (dk_at dksX4_newWalker_0 15 rfl rfl)
theorem dX4_newWalker_18 : decode cX4_newWalker 18 = .ok (.iload_n 2, 1) := dk_28 (dk_at dksX4_newWalker_0 18 rfl rfl)
theorem dX4_newWalker_19 : decode cX4_newWalker 19 = .ok (.iastore, 1) := dk_79 (dk_at dksX4_newWalker_0 19 rfl rfl)
theorem dX4_newWalker_20 : decode cX4_newWalker 20 = .ok (.aload_n 0, 1) := dk_42 (dk_at dksX4_newWalker_0 20 rfl rfl)
theorem dX4_newWalker_21 : decode cX4_newWalker 21 = .ok (.dup, 1) := dk_89 (dk_at dksX4_newWalker_0 21 rfl rfl)
theorem dX4_newWalker_22 : decode cX4_newWalker 22 = .ok (.getfield 76, 3) := dk_180 0 76 (dk_at dksX4_newWalker_1 0 rfl rfl)
theorem dX4_newWalker_25 : decode cX4_newWalker 25 = .ok (.dup_x1, 1) := dk_90 (dk_at dksX4_newWalker_1 3 rfl rfl)
theorem dX4_newWalker_26 : decode cX4_newWalker 26 = .ok (.iconst 1, 1) := dk_4 (dk_at dksX4_newWalker_1 4 rfl rfl)
theorem dX4_newWalker_27 : decode cX4_newWalker 27 = .ok (.iadd, 1) := dk_96 (dk_at dksX4_newWalker_1 5 rfl rfl)
theorem dX4_newWalker_28 : decode cX4_newWalker 28 = .ok (.putfield 76, 3) := dk_181 0 76 (dk_at dksX4_newWalker_1 6 rfl rfl)
theorem dX4_newWalker_31 : decode cX4_newWalker 31 = .ok (.ireturn, 1) := dk_172 (dk_at dksX4_newWalker_1 9 rfl rfl)
def dkwX4_sure_1 : List UInt8 := [172, 42, 180, 0, 26, 27, 46, 62, 42, 180, 0, 26, 27, 28, 79, 29, 172]
abbrev dktX4_sure_1 : List UInt8 := dkwX4_sure_1 ++ []
def dkwX4_sure_0 : List UInt8 := [42, 27, 182, 0, 128, 153, 0, 13, 28, 3, 16, 9, 184, 0, 79, 154, 0, 10, 42, 16, 254, 182, 0, 87]
abbrev dktX4_sure_0 : List UInt8 := dkwX4_sure_0 ++ dktX4_sure_1
theorem dksX4_sure_0 : cX4_sure.data.toList.drop 0 = dktX4_sure_0 := by decide +kernel
theorem dksX4_sure_1 : cX4_sure.data.toList.drop 24 = dktX4_sure_1 := dk_seg dksX4_sure_0 24 rfl rfl
theorem dX4_sure_0 : decode cX4_sure 0 = .ok (.aload_n 0, 1) := dk_42 (dk_at dksX4_sure_0 0 rfl rfl)
theorem dX4_sure_1 : decode cX4_sure 1 = .ok (.iload_n 1, 1) := dk_27 (dk_at dksX4_sure_0 1 rfl rfl)
theorem dX4_sure_2 : decode cX4_sure 2 = .ok (.invokevirtual 128, 3) := dk_182 0 128 (dk_at dksX4_sure_0 2 rfl rfl)
theorem dX4_sure_5 : decode cX4_sure 5 = .ok (.ifCond .eq 13, 3) := dk_153 0 13 (dk_at dksX4_sure_0 5 rfl rfl)
theorem dX4_sure_8 : decode cX4_sure 8 = .ok (.iload_n 2, 1) := dk_28 (dk_at dksX4_sure_0 8 rfl rfl)
theorem dX4_sure_9 : decode cX4_sure 9 = .ok (.iconst 0, 1) := dk_3 (dk_at dksX4_sure_0 9 rfl rfl)
theorem dX4_sure_10 : decode cX4_sure 10 = .ok (.bipush 9, 2) := dk_16 9 (dk_at dksX4_sure_0 10 rfl rfl)
theorem dX4_sure_12 : decode cX4_sure 12 = .ok (.invokestatic 79, 3) := dk_184 0 79 (dk_at dksX4_sure_0 12 rfl rfl)
theorem dX4_sure_15 : decode cX4_sure 15 = .ok (.ifCond .ne 10, 3) := dk_154 0 10 (dk_at dksX4_sure_0 15 rfl rfl)
theorem dX4_sure_18 : decode cX4_sure 18 = .ok (.aload_n 0, 1) := dk_42 (dk_at dksX4_sure_0 18 rfl rfl)
theorem dX4_sure_19 : decode cX4_sure 19 = .ok (.bipush (-2), 2) := dk_16 254 (dk_at dksX4_sure_0 19 rfl rfl)
theorem dX4_sure_21 : decode cX4_sure 21 = .ok (.invokevirtual 87, 3) := dk_182 0 87 (dk_at dksX4_sure_0 21 rfl rfl)
theorem dX4_sure_24 : decode cX4_sure 24 = .ok (.ireturn, 1) := dk_172 (dk_at dksX4_sure_1 0 rfl rfl)
theorem dX4_sure_25 : decode cX4_sure 25 = .ok (.aload_n 0, 1) := dk_42 (dk_at dksX4_sure_1 1 rfl rfl)
theorem dX4_sure_26 : decode cX4_sure 26 = .ok (.getfield 26, 3) := dk_180 0 26 (dk_at dksX4_sure_1 2 rfl rfl)
theorem dX4_sure_29 : decode cX4_sure 29 = .ok (.iload_n 1, 1) := dk_27 (dk_at dksX4_sure_1 5 rfl rfl)
theorem dX4_sure_30 : decode cX4_sure 30 = .ok (.iaload, 1) := dk_46 (dk_at dksX4_sure_1 6 rfl rfl)
theorem dX4_sure_31 : decode cX4_sure 31 = .ok (.istore_n 3, 1) := dk_62 (dk_at dksX4_sure_1 7 rfl rfl)
theorem dX4_sure_32 : decode cX4_sure 32 = .ok (.aload_n 0, 1) := dk_42 (dk_at dksX4_sure_1 8 rfl rfl)
theorem dX4_sure_33 : decode cX4_sure 33 = .ok (.getfield 26, 3) := dk_180 0 26 (dk_at dksX4_sure_1 9 rfl rfl)
theorem dX4_sure_36 : decode cX4_sure 36 = .ok (.iload_n 1, 1) := dk_27 (dk_at dksX4_sure_1 12 rfl rfl)
theorem dX4_sure_37 : decode cX4_sure 37 = .ok (.iload_n 2, 1) := dk_28 (dk_at dksX4_sure_1 13 rfl rfl)
theorem dX4_sure_38 : decode cX4_sure 38 = .ok (.iastore, 1) := dk_79 (dk_at dksX4_sure_1 14 rfl rfl)
theorem dX4_sure_39 : decode cX4_sure 39 = .ok (.iload_n 3, 1) := dk_29 (dk_at dksX4_sure_1 15 rfl rfl)
theorem dX4_sure_40 : decode cX4_sure 40 = .ok (.ireturn, 1) := dk_172 (dk_at dksX4_sure_1 16 rfl rfl)
def dkwX4_isWalker_0 : List UInt8 := [27, 3, 42, 180, 0, 76, 4, 100, 184, 0, 79, 172]
abbrev dktX4_isWalker_0 : List UInt8 := dkwX4_isWalker_0 ++ []
theorem dksX4_isWalker_0 : cX4_isWalker.data.toList.drop 0 = dktX4_isWalker_0 := by decide +kernel
theorem dX4_isWalker_0 : decode cX4_isWalker 0 = .ok (.iload_n 1, 1) := dk_27 (dk_at dksX4_isWalker_0 0 rfl rfl)
theorem dX4_isWalker_1 : decode cX4_isWalker 1 = .ok (.iconst 0, 1) := dk_3 (dk_at dksX4_isWalker_0 1 rfl rfl)
theorem dX4_isWalker_2 : decode cX4_isWalker 2 = .ok (.aload_n 0, 1) := dk_42 (dk_at dksX4_isWalker_0 2 rfl rfl)
theorem dX4_isWalker_3 : decode cX4_isWalker 3 = .ok (.getfield 76, 3) := dk_180 0 76 (dk_at dksX4_isWalker_0 3 rfl rfl)
theorem dX4_isWalker_6 : decode cX4_isWalker 6 = .ok (.iconst 1, 1) := dk_4 (dk_at dksX4_isWalker_0 6 rfl rfl)
theorem dX4_isWalker_7 : decode cX4_isWalker 7 = .ok (.isub, 1) := dk_100 (dk_at dksX4_isWalker_0 7 rfl rfl)
theorem dX4_isWalker_8 : decode cX4_isWalker 8 = .ok (.invokestatic 79, 3) := dk_184 0 79 (dk_at dksX4_isWalker_0 8 rfl rfl)
theorem dX4_isWalker_11 : decode cX4_isWalker 11 = .ok (.ireturn, 1) := dk_172 (dk_at dksX4_isWalker_0 11 rfl rfl)
def dkwX4_feed_2 : List UInt8 := [96, 181, 0, 131, 27, 79, 42, 180, 0, 131, 172]
abbrev dktX4_feed_2 : List UInt8 := dkwX4_feed_2 ++ []
def dkwX4_feed_1 : List UInt8 := [17, 0, 250, 160, 0, 10, 42, 16, 250, 182, 0, 87, 172, 42, 180, 0, 29, 42, 89, 180, 0, 131, 90, 4]
abbrev dktX4_feed_1 : List UInt8 := dkwX4_feed_1 ++ dktX4_feed_2
def dkwX4_feed_0 : List UInt8 := [27, 3, 17, 0, 255, 184, 0, 79, 154, 0, 10, 42, 16, 254, 182, 0, 87, 172, 42, 180, 0, 131]
abbrev dktX4_feed_0 : List UInt8 := dkwX4_feed_0 ++ dktX4_feed_1
theorem dksX4_feed_0 : cX4_feed.data.toList.drop 0 = dktX4_feed_0 := by decide +kernel
theorem dksX4_feed_1 : cX4_feed.data.toList.drop 22 = dktX4_feed_1 := dk_seg dksX4_feed_0 22 rfl rfl
theorem dksX4_feed_2 : cX4_feed.data.toList.drop 46 = dktX4_feed_2 := dk_seg dksX4_feed_1 24 rfl rfl
theorem dX4_feed_0 : decode cX4_feed 0 = .ok (.iload_n 1, 1) := dk_27 (dk_at dksX4_feed_0 0 rfl rfl)
theorem dX4_feed_1 : decode cX4_feed 1 = .ok (.iconst 0, 1) := dk_3 (dk_at dksX4_feed_0 1 rfl rfl)
theorem dX4_feed_2 : decode cX4_feed 2 = .ok (.sipush 255, 3) := dk_17 0 255 (dk_at dksX4_feed_0 2 rfl rfl)
theorem dX4_feed_5 : decode cX4_feed 5 = .ok (.invokestatic 79, 3) := dk_184 0 79 (dk_at dksX4_feed_0 5 rfl rfl)
theorem dX4_feed_8 : decode cX4_feed 8 = .ok (.ifCond .ne 10, 3) := dk_154 0 10 (dk_at dksX4_feed_0 8 rfl rfl)
theorem dX4_feed_11 : decode cX4_feed 11 = .ok (.aload_n 0, 1) := dk_42 (dk_at dksX4_feed_0 11 rfl rfl)
theorem dX4_feed_12 : decode cX4_feed 12 = .ok (.bipush (-2), 2) := dk_16 254 (dk_at dksX4_feed_0 12 rfl rfl)
theorem dX4_feed_14 : decode cX4_feed 14 = .ok (.invokevirtual 87, 3) := dk_182 0 87 (dk_at dksX4_feed_0 14 rfl rfl)
theorem dX4_feed_17 : decode cX4_feed 17 = .ok (.ireturn, 1) := dk_172 (dk_at dksX4_feed_0 17 rfl rfl)
theorem dX4_feed_18 : decode cX4_feed 18 = .ok (.aload_n 0, 1) := dk_42 (dk_at dksX4_feed_0 18 rfl rfl)
theorem dX4_feed_19 : decode cX4_feed 19 = .ok (.getfield 131, 3) := dk_180 0 131 (dk_at dksX4_feed_0 19 rfl rfl)
theorem dX4_feed_22 : decode cX4_feed 22 = .ok (.sipush 250, 3) := dk_17 0 250 (dk_at dksX4_feed_1 0 rfl rfl)
theorem dX4_feed_25 : decode cX4_feed 25 = .ok (.if_icmp .ne 10, 3) := dk_160 0 10 (dk_at dksX4_feed_1 3 rfl rfl)
theorem dX4_feed_28 : decode cX4_feed 28 = .ok (.aload_n 0, 1) := dk_42 (dk_at dksX4_feed_1 6 rfl rfl)
theorem dX4_feed_29 : decode cX4_feed 29 = .ok (.bipush (-6), 2) := dk_16 250 (dk_at dksX4_feed_1 7 rfl rfl)
theorem dX4_feed_31 : decode cX4_feed 31 = .ok (.invokevirtual 87, 3) := dk_182 0 87 (dk_at dksX4_feed_1 9 rfl rfl)
theorem dX4_feed_34 : decode cX4_feed 34 = .ok (.ireturn, 1) := dk_172 (dk_at dksX4_feed_1 12 rfl rfl)
theorem dX4_feed_35 : decode cX4_feed 35 = .ok (.aload_n 0, 1) := dk_42 (dk_at dksX4_feed_1 13 rfl rfl)
theorem dX4_feed_36 : decode cX4_feed 36 = .ok (.getfield 29, 3) := dk_180 0 29 (dk_at dksX4_feed_1 14 rfl rfl)
theorem dX4_feed_39 : decode cX4_feed 39 = .ok (.aload_n 0, 1) := dk_42 (dk_at dksX4_feed_1 17 rfl rfl)
theorem dX4_feed_40 : decode cX4_feed 40 = .ok (.dup, 1) := dk_89 (dk_at dksX4_feed_1 18 rfl rfl)
theorem dX4_feed_41 : decode cX4_feed 41 = .ok (.getfield 131, 3) := dk_180 0 131 (dk_at dksX4_feed_1 19 rfl rfl)
theorem dX4_feed_44 : decode cX4_feed 44 = .ok (.dup_x1, 1) := dk_90 (dk_at dksX4_feed_1 22 rfl rfl)
theorem dX4_feed_45 : decode cX4_feed 45 = .ok (.iconst 1, 1) := dk_4 (dk_at dksX4_feed_1 23 rfl rfl)
theorem dX4_feed_46 : decode cX4_feed 46 = .ok (.iadd, 1) := dk_96 (dk_at dksX4_feed_2 0 rfl rfl)
theorem dX4_feed_47 : decode cX4_feed 47 = .ok (.putfield 131, 3) := dk_181 0 131 (dk_at dksX4_feed_2 1 rfl rfl)
theorem dX4_feed_50 : decode cX4_feed 50 = .ok (.iload_n 1, 1) := dk_27 (dk_at dksX4_feed_2 4 rfl rfl)
theorem dX4_feed_51 : decode cX4_feed 51 = .ok (.iastore, 1) := dk_79 (dk_at dksX4_feed_2 5 rfl rfl)
theorem dX4_feed_52 : decode cX4_feed 52 = .ok (.aload_n 0, 1) := dk_42 (dk_at dksX4_feed_2 6 rfl rfl)
theorem dX4_feed_53 : decode cX4_feed 53 = .ok (.getfield 131, 3) := dk_180 0 131 (dk_at dksX4_feed_2 7 rfl rfl)
theorem dX4_feed_56 : decode cX4_feed 56 = .ok (.ireturn, 1) := dk_172 (dk_at dksX4_feed_2 10 rfl rfl)
def dkwX4_wipe_0 : List UInt8 := [42, 180, 0, 131, 60, 42, 3, 181, 0, 131, 27, 172]
abbrev dktX4_wipe_0 : List UInt8 := dkwX4_wipe_0 ++ []
theorem dksX4_wipe_0 : cX4_wipe.data.toList.drop 0 = dktX4_wipe_0 := by decide +kernel
theorem dX4_wipe_0 : decode cX4_wipe 0 = .ok (.aload_n 0, 1) := dk_42 (dk_at dksX4_wipe_0 0 rfl rfl)
theorem dX4_wipe_1 : decode cX4_wipe 1 = .ok (.getfield 131, 3) := dk_180 0 131 (dk_at dksX4_wipe_0 1 rfl rfl)
theorem dX4_wipe_4 : decode cX4_wipe 4 = .ok (.istore_n 1, 1) := dk_60 (dk_at dksX4_wipe_0 4 rfl rfl)
theorem dX4_wipe_5 : decode cX4_wipe 5 = .ok (.aload_n 0, 1) := dk_42 (dk_at dksX4_wipe_0 5 rfl rfl)
theorem dX4_wipe_6 : decode cX4_wipe 6 = .ok (.iconst 0, 1) := dk_3 (dk_at dksX4_wipe_0 6 rfl rfl)
theorem dX4_wipe_7 : decode cX4_wipe 7 = .ok (.putfield 131, 3) := dk_181 0 131 (dk_at dksX4_wipe_0 7 rfl rfl)
theorem dX4_wipe_10 : decode cX4_wipe 10 = .ok (.iload_n 1, 1) := dk_27 (dk_at dksX4_wipe_0 10 rfl rfl)
theorem dX4_wipe_11 : decode cX4_wipe 11 = .ok (.ireturn, 1) := dk_172 (dk_at dksX4_wipe_0 11 rfl rfl)
def dkwX4_fen_4 : List UInt8 := [16, 254, 182, 0, 87, 87, 16, 236, 42, 180, 0, 137, 100, 172]
abbrev dktX4_fen_4 : List UInt8 := dkwX4_fen_4 ++ []
def dkwX4_fen_3 : List UInt8 := [4, 167, 0, 4, 3, 61, 167, 255, 198, 42, 42, 180, 0, 48, 182, 0, 193, 42, 3, 181, 0, 131, 42]
abbrev dktX4_fen_3 : List UInt8 := dkwX4_fen_3 ++ dktX4_fen_4
def dkwX4_fen_2 : List UInt8 := [180, 0, 140, 16, 101, 160, 0, 10, 42, 3, 181, 0, 131, 27, 172, 42, 180, 0, 140, 16, 59, 160, 0, 7]
abbrev dktX4_fen_2 : List UInt8 := dkwX4_fen_2 ++ dktX4_fen_3
def dkwX4_fen_1 : List UInt8 := [182, 0, 162, 42, 182, 0, 189, 61, 28, 154, 0, 6, 167, 255, 239, 132, 1, 1, 42, 182, 0, 162, 42]
abbrev dktX4_fen_1 : List UInt8 := dkwX4_fen_1 ++ dktX4_fen_2
def dkwX4_fen_0 : List UInt8 := [42, 42, 180, 0, 48, 182, 0, 185, 42, 3, 181, 0, 134, 3, 60, 4, 61, 28, 153, 0, 60, 42]
abbrev dktX4_fen_0 : List UInt8 := dkwX4_fen_0 ++ dktX4_fen_1
theorem dksX4_fen_0 : cX4_fen.data.toList.drop 0 = dktX4_fen_0 := by decide +kernel
theorem dksX4_fen_1 : cX4_fen.data.toList.drop 22 = dktX4_fen_1 := dk_seg dksX4_fen_0 22 rfl rfl
theorem dksX4_fen_2 : cX4_fen.data.toList.drop 45 = dktX4_fen_2 := dk_seg dksX4_fen_1 23 rfl rfl
theorem dksX4_fen_3 : cX4_fen.data.toList.drop 69 = dktX4_fen_3 := dk_seg dksX4_fen_2 24 rfl rfl
theorem dksX4_fen_4 : cX4_fen.data.toList.drop 92 = dktX4_fen_4 := dk_seg dksX4_fen_3 23 rfl rfl
theorem dX4_fen_0 : decode cX4_fen 0 = .ok (.aload_n 0, 1) := dk_42 (dk_at dksX4_fen_0 0 rfl rfl)
theorem dX4_fen_1 : decode cX4_fen 1 = .ok (.aload_n 0, 1) := dk_42 (dk_at dksX4_fen_0 1 rfl rfl)
theorem dX4_fen_2 : decode cX4_fen 2 = .ok (.getfield 48, 3) := dk_180 0 48 (dk_at dksX4_fen_0 2 rfl rfl)
theorem dX4_fen_5 : decode cX4_fen 5 = .ok (.invokevirtual 185, 3) := dk_182 0 185 (dk_at dksX4_fen_0 5 rfl rfl)
theorem dX4_fen_8 : decode cX4_fen 8 = .ok (.aload_n 0, 1) := dk_42 (dk_at dksX4_fen_0 8 rfl rfl)
theorem dX4_fen_9 : decode cX4_fen 9 = .ok (.iconst 0, 1) := dk_3 (dk_at dksX4_fen_0 9 rfl rfl)
theorem dX4_fen_10 : decode cX4_fen 10 = .ok (.putfield 134, 3) := dk_181 0 134 (dk_at dksX4_fen_0 10 rfl rfl)
theorem dX4_fen_13 : decode cX4_fen 13 = .ok (.iconst 0, 1) := dk_3 (dk_at dksX4_fen_0 13 rfl rfl)
theorem dX4_fen_14 : decode cX4_fen 14 = .ok (.istore_n 1, 1) := dk_60 (dk_at dksX4_fen_0 14 rfl rfl)
theorem dX4_fen_15 : decode cX4_fen 15 = .ok (.iconst 1, 1) := dk_4 (dk_at dksX4_fen_0 15 rfl rfl)
theorem dX4_fen_16 : decode cX4_fen 16 = .ok (.istore_n 2, 1) := dk_61 (dk_at dksX4_fen_0 16 rfl rfl)
theorem dX4_fen_17 : decode cX4_fen 17 = .ok (.iload_n 2, 1) := dk_28 (dk_at dksX4_fen_0 17 rfl rfl)
theorem dX4_fen_18 : decode cX4_fen 18 = .ok (.ifCond .eq 60, 3) := dk_153 0 60 (dk_at dksX4_fen_0 18 rfl rfl)
theorem dX4_fen_21 : decode cX4_fen 21 = .ok (.aload_n 0, 1) := dk_42 (dk_at dksX4_fen_0 21 rfl rfl)
theorem dX4_fen_22 : decode cX4_fen 22 = .ok (.invokevirtual 162, 3) := dk_182 0 162 (dk_at dksX4_fen_1 0 rfl rfl)
theorem dX4_fen_25 : decode cX4_fen 25 = .ok (.aload_n 0, 1) := dk_42 (dk_at dksX4_fen_1 3 rfl rfl)
theorem dX4_fen_26 : decode cX4_fen 26 = .ok (.invokevirtual 189, 3) := dk_182 0 189 (dk_at dksX4_fen_1 4 rfl rfl)
theorem dX4_fen_29 : decode cX4_fen 29 = .ok (.istore_n 2, 1) := dk_61 (dk_at dksX4_fen_1 7 rfl rfl)
theorem dX4_fen_30 : decode cX4_fen 30 = .ok (.iload_n 2, 1) := dk_28 (dk_at dksX4_fen_1 8 rfl rfl)
theorem dX4_fen_31 : decode cX4_fen 31 = .ok (.ifCond .ne 6, 3) := dk_154 0 6 (dk_at dksX4_fen_1 9 rfl rfl)
theorem dX4_fen_34 : decode cX4_fen 34 = .ok (.goto (-17), 3) := dk_167 255 239 (dk_at dksX4_fen_1 12 rfl rfl)
theorem dX4_fen_37 : decode cX4_fen 37 = .ok (.iinc 1 1, 3) := dk_132 1 1 (dk_at dksX4_fen_1 15 rfl rfl)
theorem dX4_fen_40 : decode cX4_fen 40 = .ok (.aload_n 0, 1) := dk_42 (dk_at dksX4_fen_1 18 rfl rfl)
theorem dX4_fen_41 : decode cX4_fen 41 = .ok (.invokevirtual 162, 3) := dk_182 0 162 (dk_at dksX4_fen_1 19 rfl rfl)
theorem dX4_fen_44 : decode cX4_fen 44 = .ok (.aload_n 0, 1) := dk_42 (dk_at dksX4_fen_1 22 rfl rfl)
theorem dX4_fen_45 : decode cX4_fen 45 = .ok (.getfield 140, 3) := dk_180 0 140 (dk_at dksX4_fen_2 0 rfl rfl)
theorem dX4_fen_48 : decode cX4_fen 48 = .ok (.bipush 101, 2) := dk_16 101 (dk_at dksX4_fen_2 3 rfl rfl)
theorem dX4_fen_50 : decode cX4_fen 50 = .ok (.if_icmp .ne 10, 3) := dk_160 0 10 (dk_at dksX4_fen_2 5 rfl rfl)
theorem dX4_fen_53 : decode cX4_fen 53 = .ok (.aload_n 0, 1) := dk_42 (dk_at dksX4_fen_2 8 rfl rfl)
theorem dX4_fen_54 : decode cX4_fen 54 = .ok (.iconst 0, 1) := dk_3 (dk_at dksX4_fen_2 9 rfl rfl)
theorem dX4_fen_55 : decode cX4_fen 55 = .ok (.putfield 131, 3) := dk_181 0 131 (dk_at dksX4_fen_2 10 rfl rfl)
theorem dX4_fen_58 : decode cX4_fen 58 = .ok (.iload_n 1, 1) := dk_27 (dk_at dksX4_fen_2 13 rfl rfl)
theorem dX4_fen_59 : decode cX4_fen 59 = .ok (.ireturn, 1) := dk_172 (dk_at dksX4_fen_2 14 rfl rfl)
theorem dX4_fen_60 : decode cX4_fen 60 = .ok (.aload_n 0, 1) := dk_42 (dk_at dksX4_fen_2 15 rfl rfl)
theorem dX4_fen_61 : decode cX4_fen 61 = .ok (.getfield 140, 3) := dk_180 0 140 (dk_at dksX4_fen_2 16 rfl rfl)
theorem dX4_fen_64 : decode cX4_fen 64 = .ok (.bipush 59, 2) := dk_16 59 (dk_at dksX4_fen_2 19 rfl rfl)
theorem dX4_fen_66 : decode cX4_fen 66 = .ok (.if_icmp .ne 7, 3) := dk_160 0 7 (dk_at dksX4_fen_2 21 rfl rfl)
theorem dX4_fen_69 : decode cX4_fen 69 = .ok (.iconst 1, 1) := dk_4 (dk_at dksX4_fen_3 0 rfl rfl)
theorem dX4_fen_70 : decode cX4_fen 70 = .ok (.goto 4, 3) := dk_167 0 4 (dk_at dksX4_fen_3 1 rfl rfl)
theorem dX4_fen_73 : decode cX4_fen 73 = .ok (.iconst 0, 1) := dk_3 (dk_at dksX4_fen_3 4 rfl rfl)
theorem dX4_fen_74 : decode cX4_fen 74 = .ok (.istore_n 2, 1) := dk_61 (dk_at dksX4_fen_3 5 rfl rfl)
theorem dX4_fen_75 : decode cX4_fen 75 = .ok (.goto (-58), 3) := dk_167 255 198 (dk_at dksX4_fen_3 6 rfl rfl)
theorem dX4_fen_78 : decode cX4_fen 78 = .ok (.aload_n 0, 1) := dk_42 (dk_at dksX4_fen_3 9 rfl rfl)
theorem dX4_fen_79 : decode cX4_fen 79 = .ok (.aload_n 0, 1) := dk_42 (dk_at dksX4_fen_3 10 rfl rfl)
theorem dX4_fen_80 : decode cX4_fen 80 = .ok (.getfield 48, 3) := dk_180 0 48 (dk_at dksX4_fen_3 11 rfl rfl)
theorem dX4_fen_83 : decode cX4_fen 83 = .ok (.invokevirtual 193, 3) := dk_182 0 193 (dk_at dksX4_fen_3 14 rfl rfl)
theorem dX4_fen_86 : decode cX4_fen 86 = .ok (.aload_n 0, 1) := dk_42 (dk_at dksX4_fen_3 17 rfl rfl)
theorem dX4_fen_87 : decode cX4_fen 87 = .ok (.iconst 0, 1) := dk_3 (dk_at dksX4_fen_3 18 rfl rfl)
theorem dX4_fen_88 : decode cX4_fen 88 = .ok (.putfield 131, 3) := dk_181 0 131 (dk_at dksX4_fen_3 19 rfl rfl)
theorem dX4_fen_91 : decode cX4_fen 91 = .ok (.aload_n 0, 1) := dk_42 (dk_at dksX4_fen_3 22 rfl rfl)
theorem dX4_fen_92 : decode cX4_fen 92 = .ok (.bipush (-2), 2) := dk_16 254 (dk_at dksX4_fen_4 0 rfl rfl)
theorem dX4_fen_94 : decode cX4_fen 94 = .ok (.invokevirtual 87, 3) := dk_182 0 87 (dk_at dksX4_fen_4 2 rfl rfl)
theorem dX4_fen_97 : decode cX4_fen 97 = .ok (.pop, 1) := dk_87 (dk_at dksX4_fen_4 5 rfl rfl)
theorem dX4_fen_98 : decode cX4_fen 98 = .ok (.bipush (-20), 2) := dk_16 236 (dk_at dksX4_fen_4 6 rfl rfl)
theorem dX4_fen_100 : decode cX4_fen 100 = .ok (.aload_n 0, 1) := dk_42 (dk_at dksX4_fen_4 8 rfl rfl)
theorem dX4_fen_101 : decode cX4_fen 101 = .ok (.getfield 137, 3) := dk_180 0 137 (dk_at dksX4_fen_4 9 rfl rfl)
theorem dX4_fen_104 : decode cX4_fen 104 = .ok (.isub, 1) := dk_100 (dk_at dksX4_fen_4 12 rfl rfl)
theorem dX4_fen_105 : decode cX4_fen 105 = .ok (.ireturn, 1) := dk_172 (dk_at dksX4_fen_4 13 rfl rfl)
def dkwX4_keep_6 : List UInt8 := [43, 16, 102, 42, 180, 0, 76, 79, 43, 16, 103, 42, 180, 0, 64, 79, 177]
abbrev dktX4_keep_6 : List UInt8 := dkwX4_keep_6 ++ []
def dkwX4_keep_5 : List UInt8 := [43, 16, 99, 42, 180, 0, 60, 79, 43, 16, 100, 42, 180, 0, 114, 79, 43, 16, 101, 42, 180, 0, 73, 79]
abbrev dktX4_keep_5 : List UInt8 := dkwX4_keep_5 ++ dktX4_keep_6
def dkwX4_keep_4 : List UInt8 := [180, 0, 23, 28, 46, 79, 43, 16, 95, 28, 96, 42, 180, 0, 26, 28, 46, 79, 132, 2, 1, 167, 255, 224]
abbrev dktX4_keep_4 : List UInt8 := dkwX4_keep_4 ++ dktX4_keep_5
def dkwX4_keep_3 : List UInt8 := [28, 46, 79, 132, 2, 1, 167, 255, 211, 3, 61, 28, 7, 162, 0, 33, 43, 16, 91, 28, 96, 42]
abbrev dktX4_keep_3 : List UInt8 := dkwX4_keep_3 ++ dktX4_keep_4
def dkwX4_keep_2 : List UInt8 := [28, 46, 79, 43, 16, 75, 28, 96, 42, 180, 0, 17, 28, 46, 79, 43, 16, 83, 28, 96, 42, 180, 0, 20]
abbrev dktX4_keep_2 : List UInt8 := dkwX4_keep_2 ++ dktX4_keep_3
def dkwX4_keep_1 : List UInt8 := [79, 132, 2, 1, 167, 255, 230, 3, 61, 28, 16, 8, 162, 0, 45, 43, 16, 67, 28, 96, 42, 180, 0, 13]
abbrev dktX4_keep_1 : List UInt8 := dkwX4_keep_1 ++ dktX4_keep_2
def dkwX4_keep_0 : List UInt8 := [3, 61, 28, 16, 67, 162, 0, 26, 43, 28, 42, 180, 0, 7, 28, 51, 153, 0, 7, 4, 167, 0, 4, 3]
abbrev dktX4_keep_0 : List UInt8 := dkwX4_keep_0 ++ dktX4_keep_1
theorem dksX4_keep_0 : cX4_keep.data.toList.drop 0 = dktX4_keep_0 := by decide +kernel
theorem dksX4_keep_1 : cX4_keep.data.toList.drop 24 = dktX4_keep_1 := dk_seg dksX4_keep_0 24 rfl rfl
theorem dksX4_keep_2 : cX4_keep.data.toList.drop 48 = dktX4_keep_2 := dk_seg dksX4_keep_1 24 rfl rfl
theorem dksX4_keep_3 : cX4_keep.data.toList.drop 72 = dktX4_keep_3 := dk_seg dksX4_keep_2 24 rfl rfl
theorem dksX4_keep_4 : cX4_keep.data.toList.drop 94 = dktX4_keep_4 := dk_seg dksX4_keep_3 22 rfl rfl
theorem dksX4_keep_5 : cX4_keep.data.toList.drop 118 = dktX4_keep_5 := dk_seg dksX4_keep_4 24 rfl rfl
theorem dksX4_keep_6 : cX4_keep.data.toList.drop 142 = dktX4_keep_6 := dk_seg dksX4_keep_5 24 rfl rfl
theorem dX4_keep_0 : decode cX4_keep 0 = .ok (.iconst 0, 1) := dk_3 (dk_at dksX4_keep_0 0 rfl rfl)
theorem dX4_keep_1 : decode cX4_keep 1 = .ok (.istore_n 2, 1) := dk_61 (dk_at dksX4_keep_0 1 rfl rfl)
theorem dX4_keep_2 : decode cX4_keep 2 = .ok (.iload_n 2, 1) := dk_28 (dk_at dksX4_keep_0 2 rfl rfl)
theorem dX4_keep_3 : decode cX4_keep 3 = .ok (.bipush 67, 2) := dk_16 67 (dk_at dksX4_keep_0 3 rfl rfl)
theorem dX4_keep_5 : decode cX4_keep 5 = .ok (.if_icmp .ge 26, 3) := dk_162 0 26 (dk_at dksX4_keep_0 5 rfl rfl)
theorem dX4_keep_8 : decode cX4_keep 8 = .ok (.aload_n 1, 1) := dk_43 (dk_at dksX4_keep_0 8 rfl rfl)
theorem dX4_keep_9 : decode cX4_keep 9 = .ok (.iload_n 2, 1) := dk_28 (dk_at dksX4_keep_0 9 rfl rfl)
theorem dX4_keep_10 : decode cX4_keep 10 = .ok (.aload_n 0, 1) := dk_42 (dk_at dksX4_keep_0 10 rfl rfl)
theorem dX4_keep_11 : decode cX4_keep 11 = .ok (.getfield 7, 3) := dk_180 0 7 (dk_at dksX4_keep_0 11 rfl rfl)
theorem dX4_keep_14 : decode cX4_keep 14 = .ok (.iload_n 2, 1) := dk_28 (dk_at dksX4_keep_0 14 rfl rfl)
theorem dX4_keep_15 : decode cX4_keep 15 = .ok (.baload, 1) := dk_51 (dk_at dksX4_keep_0 15 rfl rfl)
theorem dX4_keep_16 : decode cX4_keep 16 = .ok (.ifCond .eq 7, 3) := dk_153 0 7 (dk_at dksX4_keep_0 16 rfl rfl)
theorem dX4_keep_19 : decode cX4_keep 19 = .ok (.iconst 1, 1) := dk_4 (dk_at dksX4_keep_0 19 rfl rfl)
theorem dX4_keep_20 : decode cX4_keep 20 = .ok (.goto 4, 3) := dk_167 0 4 (dk_at dksX4_keep_0 20 rfl rfl)
theorem dX4_keep_23 : decode cX4_keep 23 = .ok (.iconst 0, 1) := dk_3 (dk_at dksX4_keep_0 23 rfl rfl)
theorem dX4_keep_24 : decode cX4_keep 24 = .ok (.iastore, 1) := dk_79 (dk_at dksX4_keep_1 0 rfl rfl)
theorem dX4_keep_25 : decode cX4_keep 25 = .ok (.iinc 2 1, 3) := dk_132 2 1 (dk_at dksX4_keep_1 1 rfl rfl)
theorem dX4_keep_28 : decode cX4_keep 28 = .ok (.goto (-26), 3) := dk_167 255 230 (dk_at dksX4_keep_1 4 rfl rfl)
theorem dX4_keep_31 : decode cX4_keep 31 = .ok (.iconst 0, 1) := dk_3 (dk_at dksX4_keep_1 7 rfl rfl)
theorem dX4_keep_32 : decode cX4_keep 32 = .ok (.istore_n 2, 1) := dk_61 (dk_at dksX4_keep_1 8 rfl rfl)
theorem dX4_keep_33 : decode cX4_keep 33 = .ok (.iload_n 2, 1) := dk_28 (dk_at dksX4_keep_1 9 rfl rfl)
theorem dX4_keep_34 : decode cX4_keep 34 = .ok (.bipush 8, 2) := dk_16 8 (dk_at dksX4_keep_1 10 rfl rfl)
theorem dX4_keep_36 : decode cX4_keep 36 = .ok (.if_icmp .ge 45, 3) := dk_162 0 45 (dk_at dksX4_keep_1 12 rfl rfl)
theorem dX4_keep_39 : decode cX4_keep 39 = .ok (.aload_n 1, 1) := dk_43 (dk_at dksX4_keep_1 15 rfl rfl)
theorem dX4_keep_40 : decode cX4_keep 40 = .ok (.bipush 67, 2) := dk_16 67 (dk_at dksX4_keep_1 16 rfl rfl)
theorem dX4_keep_42 : decode cX4_keep 42 = .ok (.iload_n 2, 1) := dk_28 (dk_at dksX4_keep_1 18 rfl rfl)
theorem dX4_keep_43 : decode cX4_keep 43 = .ok (.iadd, 1) := dk_96 (dk_at dksX4_keep_1 19 rfl rfl)
theorem dX4_keep_44 : decode cX4_keep 44 = .ok (.aload_n 0, 1) := dk_42 (dk_at dksX4_keep_1 20 rfl rfl)
theorem dX4_keep_45 : decode cX4_keep 45 = .ok (.getfield 13, 3) := dk_180 0 13 (dk_at dksX4_keep_1 21 rfl rfl)
theorem dX4_keep_48 : decode cX4_keep 48 = .ok (.iload_n 2, 1) := dk_28 (dk_at dksX4_keep_2 0 rfl rfl)
theorem dX4_keep_49 : decode cX4_keep 49 = .ok (.iaload, 1) := dk_46 (dk_at dksX4_keep_2 1 rfl rfl)
theorem dX4_keep_50 : decode cX4_keep 50 = .ok (.iastore, 1) := dk_79 (dk_at dksX4_keep_2 2 rfl rfl)
theorem dX4_keep_51 : decode cX4_keep 51 = .ok (.aload_n 1, 1) := dk_43 (dk_at dksX4_keep_2 3 rfl rfl)
theorem dX4_keep_52 : decode cX4_keep 52 = .ok (.bipush 75, 2) := dk_16 75 (dk_at dksX4_keep_2 4 rfl rfl)
theorem dX4_keep_54 : decode cX4_keep 54 = .ok (.iload_n 2, 1) := dk_28 (dk_at dksX4_keep_2 6 rfl rfl)
theorem dX4_keep_55 : decode cX4_keep 55 = .ok (.iadd, 1) := dk_96 (dk_at dksX4_keep_2 7 rfl rfl)
theorem dX4_keep_56 : decode cX4_keep 56 = .ok (.aload_n 0, 1) := dk_42 (dk_at dksX4_keep_2 8 rfl rfl)
theorem dX4_keep_57 : decode cX4_keep 57 = .ok (.getfield 17, 3) := dk_180 0 17 (dk_at dksX4_keep_2 9 rfl rfl)
theorem dX4_keep_60 : decode cX4_keep 60 = .ok (.iload_n 2, 1) := dk_28 (dk_at dksX4_keep_2 12 rfl rfl)
theorem dX4_keep_61 : decode cX4_keep 61 = .ok (.iaload, 1) := dk_46 (dk_at dksX4_keep_2 13 rfl rfl)
theorem dX4_keep_62 : decode cX4_keep 62 = .ok (.iastore, 1) := dk_79 (dk_at dksX4_keep_2 14 rfl rfl)
theorem dX4_keep_63 : decode cX4_keep 63 = .ok (.aload_n 1, 1) := dk_43 (dk_at dksX4_keep_2 15 rfl rfl)
theorem dX4_keep_64 : decode cX4_keep 64 = .ok (.bipush 83, 2) := dk_16 83 (dk_at dksX4_keep_2 16 rfl rfl)
theorem dX4_keep_66 : decode cX4_keep 66 = .ok (.iload_n 2, 1) := dk_28 (dk_at dksX4_keep_2 18 rfl rfl)
theorem dX4_keep_67 : decode cX4_keep 67 = .ok (.iadd, 1) := dk_96 (dk_at dksX4_keep_2 19 rfl rfl)
theorem dX4_keep_68 : decode cX4_keep 68 = .ok (.aload_n 0, 1) := dk_42 (dk_at dksX4_keep_2 20 rfl rfl)
theorem dX4_keep_69 : decode cX4_keep 69 = .ok (.getfield 20, 3) := dk_180 0 20 (dk_at dksX4_keep_2 21 rfl rfl)
theorem dX4_keep_72 : decode cX4_keep 72 = .ok (.iload_n 2, 1) := dk_28 (dk_at dksX4_keep_3 0 rfl rfl)
theorem dX4_keep_73 : decode cX4_keep 73 = .ok (.iaload, 1) := dk_46 (dk_at dksX4_keep_3 1 rfl rfl)
theorem dX4_keep_74 : decode cX4_keep 74 = .ok (.iastore, 1) := dk_79 (dk_at dksX4_keep_3 2 rfl rfl)
theorem dX4_keep_75 : decode cX4_keep 75 = .ok (.iinc 2 1, 3) := dk_132 2 1 (dk_at dksX4_keep_3 3 rfl rfl)
theorem dX4_keep_78 : decode cX4_keep 78 = .ok (.goto (-45), 3) := dk_167 255 211 (dk_at dksX4_keep_3 6 rfl rfl)
theorem dX4_keep_81 : decode cX4_keep 81 = .ok (.iconst 0, 1) := dk_3 (dk_at dksX4_keep_3 9 rfl rfl)
theorem dX4_keep_82 : decode cX4_keep 82 = .ok (.istore_n 2, 1) := dk_61 (dk_at dksX4_keep_3 10 rfl rfl)
theorem dX4_keep_83 : decode cX4_keep 83 = .ok (.iload_n 2, 1) := dk_28 (dk_at dksX4_keep_3 11 rfl rfl)
theorem dX4_keep_84 : decode cX4_keep 84 = .ok (.iconst 4, 1) := dk_7 (dk_at dksX4_keep_3 12 rfl rfl)
theorem dX4_keep_85 : decode cX4_keep 85 = .ok (.if_icmp .ge 33, 3) := dk_162 0 33 (dk_at dksX4_keep_3 13 rfl rfl)
theorem dX4_keep_88 : decode cX4_keep 88 = .ok (.aload_n 1, 1) := dk_43 (dk_at dksX4_keep_3 16 rfl rfl)
theorem dX4_keep_89 : decode cX4_keep 89 = .ok (.bipush 91, 2) := dk_16 91 (dk_at dksX4_keep_3 17 rfl rfl)
theorem dX4_keep_91 : decode cX4_keep 91 = .ok (.iload_n 2, 1) := dk_28 (dk_at dksX4_keep_3 19 rfl rfl)
theorem dX4_keep_92 : decode cX4_keep 92 = .ok (.iadd, 1) := dk_96 (dk_at dksX4_keep_3 20 rfl rfl)
theorem dX4_keep_93 : decode cX4_keep 93 = .ok (.aload_n 0, 1) := dk_42 (dk_at dksX4_keep_3 21 rfl rfl)
theorem dX4_keep_94 : decode cX4_keep 94 = .ok (.getfield 23, 3) := dk_180 0 23 (dk_at dksX4_keep_4 0 rfl rfl)
theorem dX4_keep_97 : decode cX4_keep 97 = .ok (.iload_n 2, 1) := dk_28 (dk_at dksX4_keep_4 3 rfl rfl)
theorem dX4_keep_98 : decode cX4_keep 98 = .ok (.iaload, 1) := dk_46 (dk_at dksX4_keep_4 4 rfl rfl)
theorem dX4_keep_99 : decode cX4_keep 99 = .ok (.iastore, 1) := dk_79 (dk_at dksX4_keep_4 5 rfl rfl)
theorem dX4_keep_100 : decode cX4_keep 100 = .ok (.aload_n 1, 1) := dk_43 (dk_at dksX4_keep_4 6 rfl rfl)
theorem dX4_keep_101 : decode cX4_keep 101 = .ok (.bipush 95, 2) := dk_16 95 (dk_at dksX4_keep_4 7 rfl rfl)
theorem dX4_keep_103 : decode cX4_keep 103 = .ok (.iload_n 2, 1) := dk_28 (dk_at dksX4_keep_4 9 rfl rfl)
theorem dX4_keep_104 : decode cX4_keep 104 = .ok (.iadd, 1) := dk_96 (dk_at dksX4_keep_4 10 rfl rfl)
theorem dX4_keep_105 : decode cX4_keep 105 = .ok (.aload_n 0, 1) := dk_42 (dk_at dksX4_keep_4 11 rfl rfl)
theorem dX4_keep_106 : decode cX4_keep 106 = .ok (.getfield 26, 3) := dk_180 0 26 (dk_at dksX4_keep_4 12 rfl rfl)
theorem dX4_keep_109 : decode cX4_keep 109 = .ok (.iload_n 2, 1) := dk_28 (dk_at dksX4_keep_4 15 rfl rfl)
theorem dX4_keep_110 : decode cX4_keep 110 = .ok (.iaload, 1) := dk_46 (dk_at dksX4_keep_4 16 rfl rfl)
theorem dX4_keep_111 : decode cX4_keep 111 = .ok (.iastore, 1) := dk_79 (dk_at dksX4_keep_4 17 rfl rfl)
theorem dX4_keep_112 : decode cX4_keep 112 = .ok (.iinc 2 1, 3) := dk_132 2 1 (dk_at dksX4_keep_4 18 rfl rfl)
theorem dX4_keep_115 : decode cX4_keep 115 = .ok (.goto (-32), 3) := dk_167 255 224 (dk_at dksX4_keep_4 21 rfl rfl)
theorem dX4_keep_118 : decode cX4_keep 118 = .ok (.aload_n 1, 1) := dk_43 (dk_at dksX4_keep_5 0 rfl rfl)
theorem dX4_keep_119 : decode cX4_keep 119 = .ok (.bipush 99, 2) := dk_16 99 (dk_at dksX4_keep_5 1 rfl rfl)
theorem dX4_keep_121 : decode cX4_keep 121 = .ok (.aload_n 0, 1) := dk_42 (dk_at dksX4_keep_5 3 rfl rfl)
theorem dX4_keep_122 : decode cX4_keep 122 = .ok (.getfield 60, 3) := dk_180 0 60 (dk_at dksX4_keep_5 4 rfl rfl)
theorem dX4_keep_125 : decode cX4_keep 125 = .ok (.iastore, 1) := dk_79 (dk_at dksX4_keep_5 7 rfl rfl)
theorem dX4_keep_126 : decode cX4_keep 126 = .ok (.aload_n 1, 1) := dk_43 (dk_at dksX4_keep_5 8 rfl rfl)
theorem dX4_keep_127 : decode cX4_keep 127 = .ok (.bipush 100, 2) := dk_16 100 (dk_at dksX4_keep_5 9 rfl rfl)
theorem dX4_keep_129 : decode cX4_keep 129 = .ok (.aload_n 0, 1) := dk_42 (dk_at dksX4_keep_5 11 rfl rfl)
theorem dX4_keep_130 : decode cX4_keep 130 = .ok (.getfield 114, 3) := dk_180 0 114 (dk_at dksX4_keep_5 12 rfl rfl)
theorem dX4_keep_133 : decode cX4_keep 133 = .ok (.iastore, 1) := dk_79 (dk_at dksX4_keep_5 15 rfl rfl)
theorem dX4_keep_134 : decode cX4_keep 134 = .ok (.aload_n 1, 1) := dk_43 (dk_at dksX4_keep_5 16 rfl rfl)
theorem dX4_keep_135 : decode cX4_keep 135 = .ok (.bipush 101, 2) := dk_16 101 (dk_at dksX4_keep_5 17 rfl rfl)
theorem dX4_keep_137 : decode cX4_keep 137 = .ok (.aload_n 0, 1) := dk_42 (dk_at dksX4_keep_5 19 rfl rfl)
theorem dX4_keep_138 : decode cX4_keep 138 = .ok (.getfield 73, 3) := dk_180 0 73 (dk_at dksX4_keep_5 20 rfl rfl)
theorem dX4_keep_141 : decode cX4_keep 141 = .ok (.iastore, 1) := dk_79 (dk_at dksX4_keep_5 23 rfl rfl)
theorem dX4_keep_142 : decode cX4_keep 142 = .ok (.aload_n 1, 1) := dk_43 (dk_at dksX4_keep_6 0 rfl rfl)
theorem dX4_keep_143 : decode cX4_keep 143 = .ok (.bipush 102, 2) := dk_16 102 (dk_at dksX4_keep_6 1 rfl rfl)
theorem dX4_keep_145 : decode cX4_keep 145 = .ok (.aload_n 0, 1) := dk_42 (dk_at dksX4_keep_6 3 rfl rfl)
theorem dX4_keep_146 : decode cX4_keep 146 = .ok (.getfield 76, 3) := dk_180 0 76 (dk_at dksX4_keep_6 4 rfl rfl)
theorem dX4_keep_149 : decode cX4_keep 149 = .ok (.iastore, 1) := dk_79 (dk_at dksX4_keep_6 7 rfl rfl)
theorem dX4_keep_150 : decode cX4_keep 150 = .ok (.aload_n 1, 1) := dk_43 (dk_at dksX4_keep_6 8 rfl rfl)
theorem dX4_keep_151 : decode cX4_keep 151 = .ok (.bipush 103, 2) := dk_16 103 (dk_at dksX4_keep_6 9 rfl rfl)
theorem dX4_keep_153 : decode cX4_keep 153 = .ok (.aload_n 0, 1) := dk_42 (dk_at dksX4_keep_6 11 rfl rfl)
theorem dX4_keep_154 : decode cX4_keep 154 = .ok (.getfield 64, 3) := dk_180 0 64 (dk_at dksX4_keep_6 12 rfl rfl)
theorem dX4_keep_157 : decode cX4_keep 157 = .ok (.iastore, 1) := dk_79 (dk_at dksX4_keep_6 15 rfl rfl)
theorem dX4_keep_158 : decode cX4_keep 158 = .ok (.return_, 1) := dk_177 (dk_at dksX4_keep_6 16 rfl rfl)
def dkwX4_next_11 : List UInt8 := [181, 0, 140, 167, 0, 20, 42, 27, 16, 59, 160, 0, 8, 16, 59, 167, 0, 5, 16, 120, 181, 0, 140, 177]
abbrev dktX4_next_11 : List UInt8 := dkwX4_next_11 ++ []
def dkwX4_next_10 : List UInt8 := [167, 255, 183, 42, 42, 180, 0, 134, 42, 180, 0, 137, 100, 5, 164, 0, 8, 16, 120, 167, 0, 5, 16, 48]
abbrev dktX4_next_10 : List UInt8 := dkwX4_next_10 ++ dktX4_next_11
def dkwX4_next_9 : List UInt8 := [42, 180, 0, 134, 46, 96, 16, 48, 100, 181, 0, 149, 42, 89, 180, 0, 134, 4, 96, 181, 0, 134]
abbrev dktX4_next_9 : List UInt8 := dkwX4_next_9 ++ dktX4_next_10
def dkwX4_next_8 : List UInt8 := [180, 0, 134, 42, 180, 0, 137, 100, 5, 162, 0, 27, 42, 16, 10, 42, 180, 0, 149, 104, 42, 180, 0, 29]
abbrev dktX4_next_8 : List UInt8 := dkwX4_next_8 ++ dktX4_next_9
def dkwX4_next_7 : List UInt8 := [180, 0, 131, 162, 0, 68, 42, 180, 0, 29, 42, 180, 0, 134, 46, 184, 0, 146, 153, 0, 53, 42]
abbrev dktX4_next_7 : List UInt8 := dkwX4_next_7 ++ dktX4_next_8
def dkwX4_next_6 : List UInt8 := [167, 0, 138, 27, 184, 0, 146, 153, 0, 114, 42, 27, 16, 48, 100, 181, 0, 149, 42, 180, 0, 134, 42]
abbrev dktX4_next_6 : List UInt8 := dkwX4_next_6 ++ dktX4_next_7
def dkwX4_next_5 : List UInt8 := [153, 0, 16, 42, 89, 180, 0, 134, 4, 96, 181, 0, 134, 167, 255, 220, 42, 16, 119, 181, 0, 140]
abbrev dktX4_next_5 : List UInt8 := dkwX4_next_5 ++ dktX4_next_6
def dkwX4_next_4 : List UInt8 := [42, 180, 0, 134, 42, 180, 0, 131, 162, 0, 31, 42, 180, 0, 29, 42, 180, 0, 134, 46, 184, 0, 143]
abbrev dktX4_next_4 : List UInt8 := dkwX4_next_4 ++ dktX4_next_5
def dkwX4_next_3 : List UInt8 := [42, 180, 0, 29, 42, 89, 180, 0, 134, 90, 4, 96, 181, 0, 134, 46, 60, 27, 184, 0, 143, 153, 0, 51]
abbrev dktX4_next_3 : List UInt8 := dkwX4_next_3 ++ dktX4_next_4
def dkwX4_next_2 : List UInt8 := [180, 0, 137, 181, 0, 134, 42, 180, 0, 137, 42, 180, 0, 131, 160, 0, 10, 42, 16, 101, 181, 0, 140, 177]
abbrev dktX4_next_2 : List UInt8 := dkwX4_next_2 ++ dktX4_next_3
def dkwX4_next_1 : List UInt8 := [180, 0, 137, 46, 16, 32, 160, 0, 16, 42, 89, 180, 0, 137, 4, 96, 181, 0, 137, 167, 255, 221, 42, 42]
abbrev dktX4_next_1 : List UInt8 := dkwX4_next_1 ++ dktX4_next_2
def dkwX4_next_0 : List UInt8 := [42, 42, 180, 0, 134, 181, 0, 137, 42, 180, 0, 137, 42, 180, 0, 131, 162, 0, 30, 42, 180, 0, 29, 42]
abbrev dktX4_next_0 : List UInt8 := dkwX4_next_0 ++ dktX4_next_1
theorem dksX4_next_0 : cX4_next.data.toList.drop 0 = dktX4_next_0 := by decide +kernel
theorem dksX4_next_1 : cX4_next.data.toList.drop 24 = dktX4_next_1 := dk_seg dksX4_next_0 24 rfl rfl
theorem dksX4_next_2 : cX4_next.data.toList.drop 48 = dktX4_next_2 := dk_seg dksX4_next_1 24 rfl rfl
theorem dksX4_next_3 : cX4_next.data.toList.drop 72 = dktX4_next_3 := dk_seg dksX4_next_2 24 rfl rfl
theorem dksX4_next_4 : cX4_next.data.toList.drop 96 = dktX4_next_4 := dk_seg dksX4_next_3 24 rfl rfl
theorem dksX4_next_5 : cX4_next.data.toList.drop 119 = dktX4_next_5 := dk_seg dksX4_next_4 23 rfl rfl
theorem dksX4_next_6 : cX4_next.data.toList.drop 141 = dktX4_next_6 := dk_seg dksX4_next_5 22 rfl rfl
theorem dksX4_next_7 : cX4_next.data.toList.drop 164 = dktX4_next_7 := dk_seg dksX4_next_6 23 rfl rfl
theorem dksX4_next_8 : cX4_next.data.toList.drop 186 = dktX4_next_8 := dk_seg dksX4_next_7 22 rfl rfl
theorem dksX4_next_9 : cX4_next.data.toList.drop 210 = dktX4_next_9 := dk_seg dksX4_next_8 24 rfl rfl
theorem dksX4_next_10 : cX4_next.data.toList.drop 232 = dktX4_next_10 := dk_seg dksX4_next_9 22 rfl rfl
theorem dksX4_next_11 : cX4_next.data.toList.drop 256 = dktX4_next_11 := dk_seg dksX4_next_10 24 rfl rfl
theorem dX4_next_0 : decode cX4_next 0 = .ok (.aload_n 0, 1) := dk_42 (dk_at dksX4_next_0 0 rfl rfl)
theorem dX4_next_1 : decode cX4_next 1 = .ok (.aload_n 0, 1) := dk_42 (dk_at dksX4_next_0 1 rfl rfl)
theorem dX4_next_2 : decode cX4_next 2 = .ok (.getfield 134, 3) := dk_180 0 134 (dk_at dksX4_next_0 2 rfl rfl)
theorem dX4_next_5 : decode cX4_next 5 = .ok (.putfield 137, 3) := dk_181 0 137 (dk_at dksX4_next_0 5 rfl rfl)
theorem dX4_next_8 : decode cX4_next 8 = .ok (.aload_n 0, 1) := dk_42 (dk_at dksX4_next_0 8 rfl rfl)
theorem dX4_next_9 : decode cX4_next 9 = .ok (.getfield 137, 3) := dk_180 0 137 (dk_at dksX4_next_0 9 rfl rfl)
theorem dX4_next_12 : decode cX4_next 12 = .ok (.aload_n 0, 1) := dk_42 (dk_at dksX4_next_0 12 rfl rfl)
theorem dX4_next_13 : decode cX4_next 13 = .ok (.getfield 131, 3) := dk_180 0 131 (dk_at dksX4_next_0 13 rfl rfl)
theorem dX4_next_16 : decode cX4_next 16 = .ok (.if_icmp .ge 30, 3) := dk_162 0 30 (dk_at dksX4_next_0 16 rfl rfl)
theorem dX4_next_19 : decode cX4_next 19 = .ok (.aload_n 0, 1) := dk_42 (dk_at dksX4_next_0 19 rfl rfl)
theorem dX4_next_20 : decode cX4_next 20 = .ok (.getfield 29, 3) := dk_180 0 29 (dk_at dksX4_next_0 20 rfl rfl)
theorem dX4_next_23 : decode cX4_next 23 = .ok (.aload_n 0, 1) := dk_42 (dk_at dksX4_next_0 23 rfl rfl)
theorem dX4_next_24 : decode cX4_next 24 = .ok (.getfield 137, 3) := dk_180 0 137 (dk_at dksX4_next_1 0 rfl rfl)
theorem dX4_next_27 : decode cX4_next 27 = .ok (.iaload, 1) := dk_46 (dk_at dksX4_next_1 3 rfl rfl)
theorem dX4_next_28 : decode cX4_next 28 = .ok (.bipush 32, 2) := dk_16 32 (dk_at dksX4_next_1 4 rfl rfl)
theorem dX4_next_30 : decode cX4_next 30 = .ok (.if_icmp .ne 16, 3) := dk_160 0 16 (dk_at dksX4_next_1 6 rfl rfl)
theorem dX4_next_33 : decode cX4_next 33 = .ok (.aload_n 0, 1) := dk_42 (dk_at dksX4_next_1 9 rfl rfl)
theorem dX4_next_34 : decode cX4_next 34 = .ok (.dup, 1) := dk_89 (dk_at dksX4_next_1 10 rfl rfl)
theorem dX4_next_35 : decode cX4_next 35 = .ok (.getfield 137, 3) := dk_180 0 137 (dk_at dksX4_next_1 11 rfl rfl)
theorem dX4_next_38 : decode cX4_next 38 = .ok (.iconst 1, 1) := dk_4 (dk_at dksX4_next_1 14 rfl rfl)
theorem dX4_next_39 : decode cX4_next 39 = .ok (.iadd, 1) := dk_96 (dk_at dksX4_next_1 15 rfl rfl)
theorem dX4_next_40 : decode cX4_next 40 = .ok (.putfield 137, 3) := dk_181 0 137 (dk_at dksX4_next_1 16 rfl rfl)
theorem dX4_next_43 : decode cX4_next 43 = .ok (.goto (-35), 3) := dk_167 255 221 (dk_at dksX4_next_1 19 rfl rfl)
theorem dX4_next_46 : decode cX4_next 46 = .ok (.aload_n 0, 1) := dk_42 (dk_at dksX4_next_1 22 rfl rfl)
theorem dX4_next_47 : decode cX4_next 47 = .ok (.aload_n 0, 1) := dk_42 (dk_at dksX4_next_1 23 rfl rfl)
theorem dX4_next_48 : decode cX4_next 48 = .ok (.getfield 137, 3) := dk_180 0 137 (dk_at dksX4_next_2 0 rfl rfl)
theorem dX4_next_51 : decode cX4_next 51 = .ok (.putfield 134, 3) := dk_181 0 134 (dk_at dksX4_next_2 3 rfl rfl)
theorem dX4_next_54 : decode cX4_next 54 = .ok (.aload_n 0, 1) := dk_42 (dk_at dksX4_next_2 6 rfl rfl)
theorem dX4_next_55 : decode cX4_next 55 = .ok (.getfield 137, 3) := dk_180 0 137 (dk_at dksX4_next_2 7 rfl rfl)
theorem dX4_next_58 : decode cX4_next 58 = .ok (.aload_n 0, 1) := dk_42 (dk_at dksX4_next_2 10 rfl rfl)
theorem dX4_next_59 : decode cX4_next 59 = .ok (.getfield 131, 3) := dk_180 0 131 (dk_at dksX4_next_2 11 rfl rfl)
theorem dX4_next_62 : decode cX4_next 62 = .ok (.if_icmp .ne 10, 3) := dk_160 0 10 (dk_at dksX4_next_2 14 rfl rfl)
theorem dX4_next_65 : decode cX4_next 65 = .ok (.aload_n 0, 1) := dk_42 (dk_at dksX4_next_2 17 rfl rfl)
theorem dX4_next_66 : decode cX4_next 66 = .ok (.bipush 101, 2) := dk_16 101 (dk_at dksX4_next_2 18 rfl rfl)
theorem dX4_next_68 : decode cX4_next 68 = .ok (.putfield 140, 3) := dk_181 0 140 (dk_at dksX4_next_2 20 rfl rfl)
theorem dX4_next_71 : decode cX4_next 71 = .ok (.return_, 1) := dk_177 (dk_at dksX4_next_2 23 rfl rfl)
theorem dX4_next_72 : decode cX4_next 72 = .ok (.aload_n 0, 1) := dk_42 (dk_at dksX4_next_3 0 rfl rfl)
theorem dX4_next_73 : decode cX4_next 73 = .ok (.getfield 29, 3) := dk_180 0 29 (dk_at dksX4_next_3 1 rfl rfl)
theorem dX4_next_76 : decode cX4_next 76 = .ok (.aload_n 0, 1) := dk_42 (dk_at dksX4_next_3 4 rfl rfl)
theorem dX4_next_77 : decode cX4_next 77 = .ok (.dup, 1) := dk_89 (dk_at dksX4_next_3 5 rfl rfl)
theorem dX4_next_78 : decode cX4_next 78 = .ok (.getfield 134, 3) := dk_180 0 134 (dk_at dksX4_next_3 6 rfl rfl)
theorem dX4_next_81 : decode cX4_next 81 = .ok (.dup_x1, 1) := dk_90 (dk_at dksX4_next_3 9 rfl rfl)
theorem dX4_next_82 : decode cX4_next 82 = .ok (.iconst 1, 1) := dk_4 (dk_at dksX4_next_3 10 rfl rfl)
theorem dX4_next_83 : decode cX4_next 83 = .ok (.iadd, 1) := dk_96 (dk_at dksX4_next_3 11 rfl rfl)
theorem dX4_next_84 : decode cX4_next 84 = .ok (.putfield 134, 3) := dk_181 0 134 (dk_at dksX4_next_3 12 rfl rfl)
theorem dX4_next_87 : decode cX4_next 87 = .ok (.iaload, 1) := dk_46 (dk_at dksX4_next_3 15 rfl rfl)
theorem dX4_next_88 : decode cX4_next 88 = .ok (.istore_n 1, 1) := dk_60 (dk_at dksX4_next_3 16 rfl rfl)
theorem dX4_next_89 : decode cX4_next 89 = .ok (.iload_n 1, 1) := dk_27 (dk_at dksX4_next_3 17 rfl rfl)
theorem dX4_next_90 : decode cX4_next 90 = .ok (.invokestatic 143, 3) := dk_184 0 143 (dk_at dksX4_next_3 18 rfl rfl)
theorem dX4_next_93 : decode cX4_next 93 = .ok (.ifCond .eq 51, 3) := dk_153 0 51 (dk_at dksX4_next_3 21 rfl rfl)
theorem dX4_next_96 : decode cX4_next 96 = .ok (.aload_n 0, 1) := dk_42 (dk_at dksX4_next_4 0 rfl rfl)
theorem dX4_next_97 : decode cX4_next 97 = .ok (.getfield 134, 3) := dk_180 0 134 (dk_at dksX4_next_4 1 rfl rfl)
theorem dX4_next_100 : decode cX4_next 100 = .ok (.aload_n 0, 1) := dk_42 (dk_at dksX4_next_4 4 rfl rfl)
theorem dX4_next_101 : decode cX4_next 101 = .ok (.getfield 131, 3) := dk_180 0 131 (dk_at dksX4_next_4 5 rfl rfl)
theorem dX4_next_104 : decode cX4_next 104 = .ok (.if_icmp .ge 31, 3) := dk_162 0 31 (dk_at dksX4_next_4 8 rfl rfl)
theorem dX4_next_107 : decode cX4_next 107 = .ok (.aload_n 0, 1) := dk_42 (dk_at dksX4_next_4 11 rfl rfl)
theorem dX4_next_108 : decode cX4_next 108 = .ok (.getfield 29, 3) := dk_180 0 29 (dk_at dksX4_next_4 12 rfl rfl)
theorem dX4_next_111 : decode cX4_next 111 = .ok (.aload_n 0, 1) := dk_42 (dk_at dksX4_next_4 15 rfl rfl)
theorem dX4_next_112 : decode cX4_next 112 = .ok (.getfield 134, 3) := dk_180 0 134 (dk_at dksX4_next_4 16 rfl rfl)
theorem dX4_next_115 : decode cX4_next 115 = .ok (.iaload, 1) := dk_46 (dk_at dksX4_next_4 19 rfl rfl)
theorem dX4_next_116 : decode cX4_next 116 = .ok (.invokestatic 143, 3) := dk_184 0 143 (dk_at dksX4_next_4 20 rfl rfl)
theorem dX4_next_119 : decode cX4_next 119 = .ok (.ifCond .eq 16, 3) := dk_153 0 16 (dk_at dksX4_next_5 0 rfl rfl)
theorem dX4_next_122 : decode cX4_next 122 = .ok (.aload_n 0, 1) := dk_42 (dk_at dksX4_next_5 3 rfl rfl)
theorem dX4_next_123 : decode cX4_next 123 = .ok (.dup, 1) := dk_89 (dk_at dksX4_next_5 4 rfl rfl)
theorem dX4_next_124 : decode cX4_next 124 = .ok (.getfield 134, 3) := dk_180 0 134 (dk_at dksX4_next_5 5 rfl rfl)
theorem dX4_next_127 : decode cX4_next 127 = .ok (.iconst 1, 1) := dk_4 (dk_at dksX4_next_5 8 rfl rfl)
theorem dX4_next_128 : decode cX4_next 128 = .ok (.iadd, 1) := dk_96 (dk_at dksX4_next_5 9 rfl rfl)
theorem dX4_next_129 : decode cX4_next 129 = .ok (.putfield 134, 3) := dk_181 0 134 (dk_at dksX4_next_5 10 rfl rfl)
theorem dX4_next_132 : decode cX4_next 132 = .ok (.goto (-36), 3) := dk_167 255 220 (dk_at dksX4_next_5 13 rfl rfl)
theorem dX4_next_135 : decode cX4_next 135 = .ok (.aload_n 0, 1) := dk_42 (dk_at dksX4_next_5 16 rfl rfl)
theorem dX4_next_136 : decode cX4_next 136 = .ok (.bipush 119, 2) := dk_16 119 (dk_at dksX4_next_5 17 rfl rfl)
theorem dX4_next_138 : decode cX4_next 138 = .ok (.putfield 140, 3) := dk_181 0 140 (dk_at dksX4_next_5 19 rfl rfl)
theorem dX4_next_141 : decode cX4_next 141 = .ok (.goto 138, 3) := dk_167 0 138 (dk_at dksX4_next_6 0 rfl rfl)
theorem dX4_next_144 : decode cX4_next 144 = .ok (.iload_n 1, 1) := dk_27 (dk_at dksX4_next_6 3 rfl rfl)
theorem dX4_next_145 : decode cX4_next 145 = .ok (.invokestatic 146, 3) := dk_184 0 146 (dk_at dksX4_next_6 4 rfl rfl)
theorem dX4_next_148 : decode cX4_next 148 = .ok (.ifCond .eq 114, 3) := dk_153 0 114 (dk_at dksX4_next_6 7 rfl rfl)
theorem dX4_next_151 : decode cX4_next 151 = .ok (.aload_n 0, 1) := dk_42 (dk_at dksX4_next_6 10 rfl rfl)
theorem dX4_next_152 : decode cX4_next 152 = .ok (.iload_n 1, 1) := dk_27 (dk_at dksX4_next_6 11 rfl rfl)
theorem dX4_next_153 : decode cX4_next 153 = .ok (.bipush 48, 2) := dk_16 48 (dk_at dksX4_next_6 12 rfl rfl)
theorem dX4_next_155 : decode cX4_next 155 = .ok (.isub, 1) := dk_100 (dk_at dksX4_next_6 14 rfl rfl)
theorem dX4_next_156 : decode cX4_next 156 = .ok (.putfield 149, 3) := dk_181 0 149 (dk_at dksX4_next_6 15 rfl rfl)
theorem dX4_next_159 : decode cX4_next 159 = .ok (.aload_n 0, 1) := dk_42 (dk_at dksX4_next_6 18 rfl rfl)
theorem dX4_next_160 : decode cX4_next 160 = .ok (.getfield 134, 3) := dk_180 0 134 (dk_at dksX4_next_6 19 rfl rfl)
theorem dX4_next_163 : decode cX4_next 163 = .ok (.aload_n 0, 1) := dk_42 (dk_at dksX4_next_6 22 rfl rfl)
theorem dX4_next_164 : decode cX4_next 164 = .ok (.getfield 131, 3) := dk_180 0 131 (dk_at dksX4_next_7 0 rfl rfl)
theorem dX4_next_167 : decode cX4_next 167 = .ok (.if_icmp .ge 68, 3) := dk_162 0 68 (dk_at dksX4_next_7 3 rfl rfl)
theorem dX4_next_170 : decode cX4_next 170 = .ok (.aload_n 0, 1) := dk_42 (dk_at dksX4_next_7 6 rfl rfl)
theorem dX4_next_171 : decode cX4_next 171 = .ok (.getfield 29, 3) := dk_180 0 29 (dk_at dksX4_next_7 7 rfl rfl)
theorem dX4_next_174 : decode cX4_next 174 = .ok (.aload_n 0, 1) := dk_42 (dk_at dksX4_next_7 10 rfl rfl)
theorem dX4_next_175 : decode cX4_next 175 = .ok (.getfield 134, 3) := dk_180 0 134 (dk_at dksX4_next_7 11 rfl rfl)
theorem dX4_next_178 : decode cX4_next 178 = .ok (.iaload, 1) := dk_46 (dk_at dksX4_next_7 14 rfl rfl)
theorem dX4_next_179 : decode cX4_next 179 = .ok (.invokestatic 146, 3) := dk_184 0 146 (dk_at dksX4_next_7 15 rfl rfl)
theorem dX4_next_182 : decode cX4_next 182 = .ok (.ifCond .eq 53, 3) := dk_153 0 53 (dk_at dksX4_next_7 18 rfl rfl)
theorem dX4_next_185 : decode cX4_next 185 = .ok (.aload_n 0, 1) := dk_42 (dk_at dksX4_next_7 21 rfl rfl)
theorem dX4_next_186 : decode cX4_next 186 = .ok (.getfield 134, 3) := dk_180 0 134 (dk_at dksX4_next_8 0 rfl rfl)
theorem dX4_next_189 : decode cX4_next 189 = .ok (.aload_n 0, 1) := dk_42 (dk_at dksX4_next_8 3 rfl rfl)
theorem dX4_next_190 : decode cX4_next 190 = .ok (.getfield 137, 3) := dk_180 0 137 (dk_at dksX4_next_8 4 rfl rfl)
theorem dX4_next_193 : decode cX4_next 193 = .ok (.isub, 1) := dk_100 (dk_at dksX4_next_8 7 rfl rfl)
theorem dX4_next_194 : decode cX4_next 194 = .ok (.iconst 2, 1) := dk_5 (dk_at dksX4_next_8 8 rfl rfl)
theorem dX4_next_195 : decode cX4_next 195 = .ok (.if_icmp .ge 27, 3) := dk_162 0 27 (dk_at dksX4_next_8 9 rfl rfl)
theorem dX4_next_198 : decode cX4_next 198 = .ok (.aload_n 0, 1) := dk_42 (dk_at dksX4_next_8 12 rfl rfl)
theorem dX4_next_199 : decode cX4_next 199 = .ok (.bipush 10, 2) := dk_16 10 (dk_at dksX4_next_8 13 rfl rfl)
theorem dX4_next_201 : decode cX4_next 201 = .ok (.aload_n 0, 1) := dk_42 (dk_at dksX4_next_8 15 rfl rfl)
theorem dX4_next_202 : decode cX4_next 202 = .ok (.getfield 149, 3) := dk_180 0 149 (dk_at dksX4_next_8 16 rfl rfl)
theorem dX4_next_205 : decode cX4_next 205 = .ok (.imul, 1) := dk_104 (dk_at dksX4_next_8 19 rfl rfl)
theorem dX4_next_206 : decode cX4_next 206 = .ok (.aload_n 0, 1) := dk_42 (dk_at dksX4_next_8 20 rfl rfl)
theorem dX4_next_207 : decode cX4_next 207 = .ok (.getfield 29, 3) := dk_180 0 29 (dk_at dksX4_next_8 21 rfl rfl)
theorem dX4_next_210 : decode cX4_next 210 = .ok (.aload_n 0, 1) := dk_42 (dk_at dksX4_next_9 0 rfl rfl)
theorem dX4_next_211 : decode cX4_next 211 = .ok (.getfield 134, 3) := dk_180 0 134 (dk_at dksX4_next_9 1 rfl rfl)
theorem dX4_next_214 : decode cX4_next 214 = .ok (.iaload, 1) := dk_46 (dk_at dksX4_next_9 4 rfl rfl)
theorem dX4_next_215 : decode cX4_next 215 = .ok (.iadd, 1) := dk_96 (dk_at dksX4_next_9 5 rfl rfl)
theorem dX4_next_216 : decode cX4_next 216 = .ok (.bipush 48, 2) := dk_16 48 (dk_at dksX4_next_9 6 rfl rfl)
theorem dX4_next_218 : decode cX4_next 218 = .ok (.isub, 1) := dk_100 (dk_at dksX4_next_9 8 rfl rfl)
theorem dX4_next_219 : decode cX4_next 219 = .ok (.putfield 149, 3) := dk_181 0 149 (dk_at dksX4_next_9 9 rfl rfl)
theorem dX4_next_222 : decode cX4_next 222 = .ok (.aload_n 0, 1) := dk_42 (dk_at dksX4_next_9 12 rfl rfl)
theorem dX4_next_223 : decode cX4_next 223 = .ok (.dup, 1) := dk_89 (dk_at dksX4_next_9 13 rfl rfl)
theorem dX4_next_224 : decode cX4_next 224 = .ok (.getfield 134, 3) := dk_180 0 134 (dk_at dksX4_next_9 14 rfl rfl)
theorem dX4_next_227 : decode cX4_next 227 = .ok (.iconst 1, 1) := dk_4 (dk_at dksX4_next_9 17 rfl rfl)
theorem dX4_next_228 : decode cX4_next 228 = .ok (.iadd, 1) := dk_96 (dk_at dksX4_next_9 18 rfl rfl)
theorem dX4_next_229 : decode cX4_next 229 = .ok (.putfield 134, 3) := dk_181 0 134 (dk_at dksX4_next_9 19 rfl rfl)
theorem dX4_next_232 : decode cX4_next 232 = .ok (.goto (-73), 3) := dk_167 255 183 (dk_at dksX4_next_10 0 rfl rfl)
theorem dX4_next_235 : decode cX4_next 235 = .ok (.aload_n 0, 1) := dk_42 (dk_at dksX4_next_10 3 rfl rfl)
theorem dX4_next_236 : decode cX4_next 236 = .ok (.aload_n 0, 1) := dk_42 (dk_at dksX4_next_10 4 rfl rfl)
theorem dX4_next_237 : decode cX4_next 237 = .ok (.getfield 134, 3) := dk_180 0 134 (dk_at dksX4_next_10 5 rfl rfl)
theorem dX4_next_240 : decode cX4_next 240 = .ok (.aload_n 0, 1) := dk_42 (dk_at dksX4_next_10 8 rfl rfl)
theorem dX4_next_241 : decode cX4_next 241 = .ok (.getfield 137, 3) := dk_180 0 137 (dk_at dksX4_next_10 9 rfl rfl)
theorem dX4_next_244 : decode cX4_next 244 = .ok (.isub, 1) := dk_100 (dk_at dksX4_next_10 12 rfl rfl)
theorem dX4_next_245 : decode cX4_next 245 = .ok (.iconst 2, 1) := dk_5 (dk_at dksX4_next_10 13 rfl rfl)
theorem dX4_next_246 : decode cX4_next 246 = .ok (.if_icmp .le 8, 3) := dk_164 0 8 (dk_at dksX4_next_10 14 rfl rfl)
theorem dX4_next_249 : decode cX4_next 249 = .ok (.bipush 120, 2) := dk_16 120 (dk_at dksX4_next_10 17 rfl rfl)
theorem dX4_next_251 : decode cX4_next 251 = .ok (.goto 5, 3) := dk_167 0 5 (dk_at dksX4_next_10 19 rfl rfl)
theorem dX4_next_254 : decode cX4_next 254 = .ok (.bipush 48, 2) := dk_16 48 (dk_at dksX4_next_10 22 rfl rfl)
theorem dX4_next_256 : decode cX4_next 256 = .ok (.putfield 140, 3) := dk_181 0 140 (dk_at dksX4_next_11 0 rfl rfl)
theorem dX4_next_259 : decode cX4_next 259 = .ok (.goto 20, 3) := dk_167 0 20 (dk_at dksX4_next_11 3 rfl rfl)
theorem dX4_next_262 : decode cX4_next 262 = .ok (.aload_n 0, 1) := dk_42 (dk_at dksX4_next_11 6 rfl rfl)
theorem dX4_next_263 : decode cX4_next 263 = .ok (.iload_n 1, 1) := dk_27 (dk_at dksX4_next_11 7 rfl rfl)
theorem dX4_next_264 : decode cX4_next 264 = .ok (.bipush 59, 2) := dk_16 59 (dk_at dksX4_next_11 8 rfl rfl)
theorem dX4_next_266 : decode cX4_next 266 = .ok (.if_icmp .ne 8, 3) := dk_160 0 8 (dk_at dksX4_next_11 10 rfl rfl)
theorem dX4_next_269 : decode cX4_next 269 = .ok (.bipush 59, 2) := dk_16 59 (dk_at dksX4_next_11 13 rfl rfl)
theorem dX4_next_271 : decode cX4_next 271 = .ok (.goto 5, 3) := dk_167 0 5 (dk_at dksX4_next_11 15 rfl rfl)
theorem dX4_next_274 : decode cX4_next 274 = .ok (.bipush 120, 2) := dk_16 120 (dk_at dksX4_next_11 18 rfl rfl)
theorem dX4_next_276 : decode cX4_next 276 = .ok (.putfield 140, 3) := dk_181 0 140 (dk_at dksX4_next_11 20 rfl rfl)
theorem dX4_next_279 : decode cX4_next 279 = .ok (.return_, 1) := dk_177 (dk_at dksX4_next_11 23 rfl rfl)
def dkwX4_isLetter_0 : List UInt8 := [26, 16, 97, 161, 0, 13, 26, 16, 122, 163, 0, 7, 4, 167, 0, 4, 3, 172]
abbrev dktX4_isLetter_0 : List UInt8 := dkwX4_isLetter_0 ++ []
theorem dksX4_isLetter_0 : cX4_isLetter.data.toList.drop 0 = dktX4_isLetter_0 := by decide +kernel
theorem dX4_isLetter_0 : decode cX4_isLetter 0 = .ok (.iload_n 0, 1) := dk_26 (dk_at dksX4_isLetter_0 0 rfl rfl)
theorem dX4_isLetter_1 : decode cX4_isLetter 1 = .ok (.bipush 97, 2) := dk_16 97 (dk_at dksX4_isLetter_0 1 rfl rfl)
theorem dX4_isLetter_3 : decode cX4_isLetter 3 = .ok (.if_icmp .lt 13, 3) := dk_161 0 13 (dk_at dksX4_isLetter_0 3 rfl rfl)
theorem dX4_isLetter_6 : decode cX4_isLetter 6 = .ok (.iload_n 0, 1) := dk_26 (dk_at dksX4_isLetter_0 6 rfl rfl)
theorem dX4_isLetter_7 : decode cX4_isLetter 7 = .ok (.bipush 122, 2) := dk_16 122 (dk_at dksX4_isLetter_0 7 rfl rfl)
theorem dX4_isLetter_9 : decode cX4_isLetter 9 = .ok (.if_icmp .gt 7, 3) := dk_163 0 7 (dk_at dksX4_isLetter_0 9 rfl rfl)
theorem dX4_isLetter_12 : decode cX4_isLetter 12 = .ok (.iconst 1, 1) := dk_4 (dk_at dksX4_isLetter_0 12 rfl rfl)
theorem dX4_isLetter_13 : decode cX4_isLetter 13 = .ok (.goto 4, 3) := dk_167 0 4 (dk_at dksX4_isLetter_0 13 rfl rfl)
theorem dX4_isLetter_16 : decode cX4_isLetter 16 = .ok (.iconst 0, 1) := dk_3 (dk_at dksX4_isLetter_0 16 rfl rfl)
theorem dX4_isLetter_17 : decode cX4_isLetter 17 = .ok (.ireturn, 1) := dk_172 (dk_at dksX4_isLetter_0 17 rfl rfl)
def dkwX4_isDigit_0 : List UInt8 := [26, 16, 48, 161, 0, 13, 26, 16, 57, 163, 0, 7, 4, 167, 0, 4, 3, 172]
abbrev dktX4_isDigit_0 : List UInt8 := dkwX4_isDigit_0 ++ []
theorem dksX4_isDigit_0 : cX4_isDigit.data.toList.drop 0 = dktX4_isDigit_0 := by decide +kernel
theorem dX4_isDigit_0 : decode cX4_isDigit 0 = .ok (.iload_n 0, 1) := dk_26 (dk_at dksX4_isDigit_0 0 rfl rfl)
theorem dX4_isDigit_1 : decode cX4_isDigit 1 = .ok (.bipush 48, 2) := dk_16 48 (dk_at dksX4_isDigit_0 1 rfl rfl)
theorem dX4_isDigit_3 : decode cX4_isDigit 3 = .ok (.if_icmp .lt 13, 3) := dk_161 0 13 (dk_at dksX4_isDigit_0 3 rfl rfl)
theorem dX4_isDigit_6 : decode cX4_isDigit 6 = .ok (.iload_n 0, 1) := dk_26 (dk_at dksX4_isDigit_0 6 rfl rfl)
theorem dX4_isDigit_7 : decode cX4_isDigit 7 = .ok (.bipush 57, 2) := dk_16 57 (dk_at dksX4_isDigit_0 7 rfl rfl)
theorem dX4_isDigit_9 : decode cX4_isDigit 9 = .ok (.if_icmp .gt 7, 3) := dk_163 0 7 (dk_at dksX4_isDigit_0 9 rfl rfl)
theorem dX4_isDigit_12 : decode cX4_isDigit 12 = .ok (.iconst 1, 1) := dk_4 (dk_at dksX4_isDigit_0 12 rfl rfl)
theorem dX4_isDigit_13 : decode cX4_isDigit 13 = .ok (.goto 4, 3) := dk_167 0 4 (dk_at dksX4_isDigit_0 13 rfl rfl)
theorem dX4_isDigit_16 : decode cX4_isDigit 16 = .ok (.iconst 0, 1) := dk_3 (dk_at dksX4_isDigit_0 16 rfl rfl)
theorem dX4_isDigit_17 : decode cX4_isDigit 17 = .ok (.ireturn, 1) := dk_172 (dk_at dksX4_isDigit_0 17 rfl rfl)
def dkwX4_statement_12 : List UInt8 := [154, 0, 7, 4, 167, 0, 4, 3, 84, 167, 0, 8, 42, 27, 181, 0, 114, 4, 172]
abbrev dktX4_statement_12 : List UInt8 := dkwX4_statement_12 ++ []
def dkwX4_statement_11 : List UInt8 := [42, 180, 0, 7, 27, 51, 153, 0, 5, 3, 172, 28, 5, 162, 0, 21, 42, 180, 0, 7, 27, 28]
abbrev dktX4_statement_11 : List UInt8 := dkwX4_statement_11 ++ dktX4_statement_12
def dkwX4_statement_10 : List UInt8 := [154, 0, 19, 27, 42, 180, 0, 114, 159, 0, 25, 42, 27, 182, 0, 117, 154, 0, 17, 28, 5, 160, 0, 14]
abbrev dktX4_statement_10 : List UInt8 := dkwX4_statement_10 ++ dktX4_statement_11
def dkwX4_statement_9 : List UInt8 := [167, 0, 4, 2, 61, 28, 2, 160, 0, 5, 3, 172, 42, 182, 0, 176, 60, 27, 2, 159, 0, 37, 28]
abbrev dktX4_statement_9 : List UInt8 := dkwX4_statement_9 ++ dktX4_statement_10
def dkwX4_statement_8 : List UInt8 := [18, 182, 182, 0, 170, 153, 0, 7, 4, 167, 0, 17, 42, 18, 184, 182, 0, 170, 153, 0, 7, 5]
abbrev dktX4_statement_8 : List UInt8 := dkwX4_statement_8 ++ dktX4_statement_9
def dkwX4_statement_7 : List UInt8 := [172, 42, 27, 28, 182, 0, 124, 87, 4, 172, 42, 18, 180, 182, 0, 170, 153, 0, 7, 3, 167, 0, 30, 42]
abbrev dktX4_statement_7 : List UInt8 := dkwX4_statement_7 ++ dktX4_statement_8
def dkwX4_statement_6 : List UInt8 := [180, 0, 7, 27, 51, 153, 0, 5, 3, 172, 42, 3, 16, 9, 182, 0, 165, 61, 28, 2, 160, 0, 5, 3]
abbrev dktX4_statement_6 : List UInt8 := dkwX4_statement_6 ++ dktX4_statement_7
def dkwX4_statement_5 : List UInt8 := [153, 0, 58, 42, 180, 0, 76, 7, 160, 0, 5, 3, 172, 42, 182, 0, 176, 60, 27, 2, 159, 0, 12, 42]
abbrev dktX4_statement_5 : List UInt8 := dkwX4_statement_5 ++ dktX4_statement_6
def dkwX4_statement_4 : List UInt8 := [62, 29, 2, 160, 0, 5, 3, 172, 42, 27, 28, 29, 182, 0, 120, 87, 4, 172, 42, 18, 178, 182, 0, 170]
abbrev dktX4_statement_4 : List UInt8 := dkwX4_statement_4 ++ dktX4_statement_5
def dkwX4_statement_3 : List UInt8 := [167, 0, 10, 42, 3, 16, 9, 182, 0, 165, 61, 28, 2, 160, 0, 7, 2, 167, 0, 7, 42, 182, 0, 176]
abbrev dktX4_statement_3 : List UInt8 := dkwX4_statement_3 ++ dktX4_statement_4
def dkwX4_statement_2 : List UInt8 := [180, 0, 73, 16, 8, 160, 0, 5, 3, 172, 42, 3, 8, 182, 0, 165, 60, 27, 2, 160, 0, 7, 2]
abbrev dktX4_statement_2 : List UInt8 := dkwX4_statement_2 ++ dktX4_statement_3
def dkwX4_statement_1 : List UInt8 := [160, 0, 5, 3, 172, 42, 27, 181, 0, 60, 4, 172, 42, 18, 174, 182, 0, 170, 153, 0, 69, 42]
abbrev dktX4_statement_1 : List UInt8 := dkwX4_statement_1 ++ dktX4_statement_2
def dkwX4_statement_0 : List UInt8 := [42, 18, 168, 182, 0, 170, 153, 0, 28, 42, 42, 180, 0, 60, 16, 7, 182, 0, 165, 60, 27, 2]
abbrev dktX4_statement_0 : List UInt8 := dkwX4_statement_0 ++ dktX4_statement_1
theorem dksX4_statement_0 : cX4_statement.data.toList.drop 0 = dktX4_statement_0 := by decide +kernel
theorem dksX4_statement_1 : cX4_statement.data.toList.drop 22 = dktX4_statement_1 := dk_seg dksX4_statement_0 22 rfl rfl
theorem dksX4_statement_2 : cX4_statement.data.toList.drop 44 = dktX4_statement_2 := dk_seg dksX4_statement_1 22 rfl rfl
theorem dksX4_statement_3 : cX4_statement.data.toList.drop 67 = dktX4_statement_3 := dk_seg dksX4_statement_2 23 rfl rfl
theorem dksX4_statement_4 : cX4_statement.data.toList.drop 91 = dktX4_statement_4 := dk_seg dksX4_statement_3 24 rfl rfl
theorem dksX4_statement_5 : cX4_statement.data.toList.drop 115 = dktX4_statement_5 := dk_seg dksX4_statement_4 24 rfl rfl
theorem dksX4_statement_6 : cX4_statement.data.toList.drop 139 = dktX4_statement_6 := dk_seg dksX4_statement_5 24 rfl rfl
theorem dksX4_statement_7 : cX4_statement.data.toList.drop 163 = dktX4_statement_7 := dk_seg dksX4_statement_6 24 rfl rfl
theorem dksX4_statement_8 : cX4_statement.data.toList.drop 187 = dktX4_statement_8 := dk_seg dksX4_statement_7 24 rfl rfl
theorem dksX4_statement_9 : cX4_statement.data.toList.drop 209 = dktX4_statement_9 := dk_seg dksX4_statement_8 22 rfl rfl
theorem dksX4_statement_10 : cX4_statement.data.toList.drop 232 = dktX4_statement_10 := dk_seg dksX4_statement_9 23 rfl rfl
theorem dksX4_statement_11 : cX4_statement.data.toList.drop 256 = dktX4_statement_11 := dk_seg dksX4_statement_10 24 rfl rfl
theorem dksX4_statement_12 : cX4_statement.data.toList.drop 278 = dktX4_statement_12 := dk_seg dksX4_statement_11 22 rfl rfl
theorem dX4_statement_0 : decode cX4_statement 0 = .ok (.aload_n 0, 1) := dk_42 (dk_at dksX4_statement_0 0 rfl rfl)
theorem dX4_statement_1 : decode cX4_statement 1 = .ok (.ldc 168, 2) := dk_18 168 (dk_at dksX4_statement_0 1 rfl rfl)
theorem dX4_statement_3 : decode cX4_statement 3 = .ok (.invokevirtual 170, 3) := dk_182 0 170 (dk_at dksX4_statement_0 3 rfl rfl)
theorem dX4_statement_6 : decode cX4_statement 6 = .ok (.ifCond .eq 28, 3) := dk_153 0 28 (dk_at dksX4_statement_0 6 rfl rfl)
theorem dX4_statement_9 : decode cX4_statement 9 = .ok (.aload_n 0, 1) := dk_42 (dk_at dksX4_statement_0 9 rfl rfl)
theorem dX4_statement_10 : decode cX4_statement 10 = .ok (.aload_n 0, 1) := dk_42 (dk_at dksX4_statement_0 10 rfl rfl)
theorem dX4_statement_11 : decode cX4_statement 11 = .ok (.getfield 60, 3) := dk_180 0 60 (dk_at dksX4_statement_0 11 rfl rfl)
theorem dX4_statement_14 : decode cX4_statement 14 = .ok (.bipush 7, 2) := dk_16 7 (dk_at dksX4_statement_0 14 rfl rfl)
theorem dX4_statement_16 : decode cX4_statement 16 = .ok (.invokevirtual 165, 3) := dk_182 0 165 (dk_at dksX4_statement_0 16 rfl rfl)
theorem dX4_statement_19 : decode cX4_statement 19 = .ok (.istore_n 1, 1) := dk_60 (dk_at dksX4_statement_0 19 rfl rfl)
theorem dX4_statement_20 : decode cX4_statement 20 = .ok (.iload_n 1, 1) := dk_27 (dk_at dksX4_statement_0 20 rfl rfl)
theorem dX4_statement_21 : decode cX4_statement 21 = .ok (.iconst (-1), 1) := dk_2 (dk_at dksX4_statement_0 21 rfl rfl)
theorem dX4_statement_22 : decode cX4_statement 22 = .ok (.if_icmp .ne 5, 3) := dk_160 0 5 (dk_at dksX4_statement_1 0 rfl rfl)
theorem dX4_statement_25 : decode cX4_statement 25 = .ok (.iconst 0, 1) := dk_3 (dk_at dksX4_statement_1 3 rfl rfl)
theorem dX4_statement_26 : decode cX4_statement 26 = .ok (.ireturn, 1) := dk_172 (dk_at dksX4_statement_1 4 rfl rfl)
theorem dX4_statement_27 : decode cX4_statement 27 = .ok (.aload_n 0, 1) := dk_42 (dk_at dksX4_statement_1 5 rfl rfl)
theorem dX4_statement_28 : decode cX4_statement 28 = .ok (.iload_n 1, 1) := dk_27 (dk_at dksX4_statement_1 6 rfl rfl)
theorem dX4_statement_29 : decode cX4_statement 29 = .ok (.putfield 60, 3) := dk_181 0 60 (dk_at dksX4_statement_1 7 rfl rfl)
theorem dX4_statement_32 : decode cX4_statement 32 = .ok (.iconst 1, 1) := dk_4 (dk_at dksX4_statement_1 10 rfl rfl)
theorem dX4_statement_33 : decode cX4_statement 33 = .ok (.ireturn, 1) := dk_172 (dk_at dksX4_statement_1 11 rfl rfl)
theorem dX4_statement_34 : decode cX4_statement 34 = .ok (.aload_n 0, 1) := dk_42 (dk_at dksX4_statement_1 12 rfl rfl)
theorem dX4_statement_35 : decode cX4_statement 35 = .ok (.ldc 174, 2) := dk_18 174 (dk_at dksX4_statement_1 13 rfl rfl)
theorem dX4_statement_37 : decode cX4_statement 37 = .ok (.invokevirtual 170, 3) := dk_182 0 170 (dk_at dksX4_statement_1 15 rfl rfl)
theorem dX4_statement_40 : decode cX4_statement 40 = .ok (.ifCond .eq 69, 3) := dk_153 0 69 (dk_at dksX4_statement_1 18 rfl rfl)
theorem dX4_statement_43 : decode cX4_statement 43 = .ok (.aload_n 0, 1) := dk_42 (dk_at dksX4_statement_1 21 rfl rfl)
theorem dX4_statement_44 : decode cX4_statement 44 = .ok (.getfield 73, 3) := dk_180 0 73 (dk_at dksX4_statement_2 0 rfl rfl)
theorem dX4_statement_47 : decode cX4_statement 47 = .ok (.bipush 8, 2) := dk_16 8 (dk_at dksX4_statement_2 3 rfl rfl)
theorem dX4_statement_49 : decode cX4_statement 49 = .ok (.if_icmp .ne 5, 3) := dk_160 0 5 (dk_at dksX4_statement_2 5 rfl rfl)
theorem dX4_statement_52 : decode cX4_statement 52 = .ok (.iconst 0, 1) := dk_3 (dk_at dksX4_statement_2 8 rfl rfl)
theorem dX4_statement_53 : decode cX4_statement 53 = .ok (.ireturn, 1) := dk_172 (dk_at dksX4_statement_2 9 rfl rfl)
theorem dX4_statement_54 : decode cX4_statement 54 = .ok (.aload_n 0, 1) := dk_42 (dk_at dksX4_statement_2 10 rfl rfl)
theorem dX4_statement_55 : decode cX4_statement 55 = .ok (.iconst 0, 1) := dk_3 (dk_at dksX4_statement_2 11 rfl rfl)
theorem dX4_statement_56 : decode cX4_statement 56 = .ok (.iconst 5, 1) := dk_8 (dk_at dksX4_statement_2 12 rfl rfl)
theorem dX4_statement_57 : decode cX4_statement 57 = .ok (.invokevirtual 165, 3) := dk_182 0 165 (dk_at dksX4_statement_2 13 rfl rfl)
theorem dX4_statement_60 : decode cX4_statement 60 = .ok (.istore_n 1, 1) := dk_60 (dk_at dksX4_statement_2 16 rfl rfl)
theorem dX4_statement_61 : decode cX4_statement 61 = .ok (.iload_n 1, 1) := dk_27 (dk_at dksX4_statement_2 17 rfl rfl)
theorem dX4_statement_62 : decode cX4_statement 62 = .ok (.iconst (-1), 1) := dk_2 (dk_at dksX4_statement_2 18 rfl rfl)
theorem dX4_statement_63 : decode cX4_statement 63 = .ok (.if_icmp .ne 7, 3) := dk_160 0 7 (dk_at dksX4_statement_2 19 rfl rfl)
theorem dX4_statement_66 : decode cX4_statement 66 = .ok (.iconst (-1), 1) := dk_2 (dk_at dksX4_statement_2 22 rfl rfl)
theorem dX4_statement_67 : decode cX4_statement 67 = .ok (.goto 10, 3) := dk_167 0 10 (dk_at dksX4_statement_3 0 rfl rfl)
theorem dX4_statement_70 : decode cX4_statement 70 = .ok (.aload_n 0, 1) := dk_42 (dk_at dksX4_statement_3 3 rfl rfl)
theorem dX4_statement_71 : decode cX4_statement 71 = .ok (.iconst 0, 1) := dk_3 (dk_at dksX4_statement_3 4 rfl rfl)
theorem dX4_statement_72 : decode cX4_statement 72 = .ok (.bipush 9, 2) := dk_16 9 (dk_at dksX4_statement_3 5 rfl rfl)
theorem dX4_statement_74 : decode cX4_statement 74 = .ok (.invokevirtual 165, 3) := dk_182 0 165 (dk_at dksX4_statement_3 7 rfl rfl)
theorem dX4_statement_77 : decode cX4_statement 77 = .ok (.istore_n 2, 1) := dk_61 (dk_at dksX4_statement_3 10 rfl rfl)
theorem dX4_statement_78 : decode cX4_statement 78 = .ok (.iload_n 2, 1) := dk_28 (dk_at dksX4_statement_3 11 rfl rfl)
theorem dX4_statement_79 : decode cX4_statement 79 = .ok (.iconst (-1), 1) := dk_2 (dk_at dksX4_statement_3 12 rfl rfl)
theorem dX4_statement_80 : decode cX4_statement 80 = .ok (.if_icmp .ne 7, 3) := dk_160 0 7 (dk_at dksX4_statement_3 13 rfl rfl)
theorem dX4_statement_83 : decode cX4_statement 83 = .ok (.iconst (-1), 1) := dk_2 (dk_at dksX4_statement_3 16 rfl rfl)
theorem dX4_statement_84 : decode cX4_statement 84 = .ok (.goto 7, 3) := dk_167 0 7 (dk_at dksX4_statement_3 17 rfl rfl)
theorem dX4_statement_87 : decode cX4_statement 87 = .ok (.aload_n 0, 1) := dk_42 (dk_at dksX4_statement_3 20 rfl rfl)
theorem dX4_statement_88 : decode cX4_statement 88 = .ok (.invokevirtual 176, 3) := dk_182 0 176 (dk_at dksX4_statement_3 21 rfl rfl)
theorem dX4_statement_91 : decode cX4_statement 91 = .ok (.istore_n 3, 1) := dk_62 (dk_at dksX4_statement_4 0 rfl rfl)
theorem dX4_statement_92 : decode cX4_statement 92 = .ok (.iload_n 3, 1) := dk_29 (dk_at dksX4_statement_4 1 rfl rfl)
theorem dX4_statement_93 : decode cX4_statement 93 = .ok (.iconst (-1), 1) := dk_2 (dk_at dksX4_statement_4 2 rfl rfl)
theorem dX4_statement_94 : decode cX4_statement 94 = .ok (.if_icmp .ne 5, 3) := dk_160 0 5 (dk_at dksX4_statement_4 3 rfl rfl)
theorem dX4_statement_97 : decode cX4_statement 97 = .ok (.iconst 0, 1) := dk_3 (dk_at dksX4_statement_4 6 rfl rfl)
theorem dX4_statement_98 : decode cX4_statement 98 = .ok (.ireturn, 1) := dk_172 (dk_at dksX4_statement_4 7 rfl rfl)
theorem dX4_statement_99 : decode cX4_statement 99 = .ok (.aload_n 0, 1) := dk_42 (dk_at dksX4_statement_4 8 rfl rfl)
theorem dX4_statement_100 : decode cX4_statement 100 = .ok (.iload_n 1, 1) := dk_27 (dk_at dksX4_statement_4 9 rfl rfl)
theorem dX4_statement_101 : decode cX4_statement 101 = .ok (.iload_n 2, 1) := dk_28 (dk_at dksX4_statement_4 10 rfl rfl)
theorem dX4_statement_102 : decode cX4_statement 102 = .ok (.iload_n 3, 1) := dk_29 (dk_at dksX4_statement_4 11 rfl rfl)
theorem dX4_statement_103 : decode cX4_statement 103 = .ok (.invokevirtual 120, 3) := dk_182 0 120 (dk_at dksX4_statement_4 12 rfl rfl)
theorem dX4_statement_106 : decode cX4_statement 106 = .ok (.pop, 1) := dk_87 (dk_at dksX4_statement_4 15 rfl rfl)
theorem dX4_statement_107 : decode cX4_statement 107 = .ok (.iconst 1, 1) := dk_4 (dk_at dksX4_statement_4 16 rfl rfl)
theorem dX4_statement_108 : decode cX4_statement 108 = .ok (.ireturn, 1) := dk_172 (dk_at dksX4_statement_4 17 rfl rfl)
theorem dX4_statement_109 : decode cX4_statement 109 = .ok (.aload_n 0, 1) := dk_42 (dk_at dksX4_statement_4 18 rfl rfl)
theorem dX4_statement_110 : decode cX4_statement 110 = .ok (.ldc 178, 2) := dk_18 178 (dk_at dksX4_statement_4 19 rfl rfl)
theorem dX4_statement_112 : decode cX4_statement 112 = .ok (.invokevirtual 170, 3) := dk_182 0 170 (dk_at dksX4_statement_4 21 rfl rfl)
theorem dX4_statement_115 : decode cX4_statement 115 = .ok (.ifCond .eq 58, 3) := dk_153 0 58 (dk_at dksX4_statement_5 0 rfl rfl)
theorem dX4_statement_118 : decode cX4_statement 118 = .ok (.aload_n 0, 1) := dk_42 (dk_at dksX4_statement_5 3 rfl rfl)
theorem dX4_statement_119 : decode cX4_statement 119 = .ok (.getfield 76, 3) := dk_180 0 76 (dk_at dksX4_statement_5 4 rfl rfl)
theorem dX4_statement_122 : decode cX4_statement 122 = .ok (.iconst 4, 1) := dk_7 (dk_at dksX4_statement_5 7 rfl rfl)
theorem dX4_statement_123 : decode cX4_statement 123 = .ok (.if_icmp .ne 5, 3) := dk_160 0 5 (dk_at dksX4_statement_5 8 rfl rfl)
theorem dX4_statement_126 : decode cX4_statement 126 = .ok (.iconst 0, 1) := dk_3 (dk_at dksX4_statement_5 11 rfl rfl)
theorem dX4_statement_127 : decode cX4_statement 127 = .ok (.ireturn, 1) := dk_172 (dk_at dksX4_statement_5 12 rfl rfl)
theorem dX4_statement_128 : decode cX4_statement 128 = .ok (.aload_n 0, 1) := dk_42 (dk_at dksX4_statement_5 13 rfl rfl)
theorem dX4_statement_129 : decode cX4_statement 129 = .ok (.invokevirtual 176, 3) := dk_182 0 176 (dk_at dksX4_statement_5 14 rfl rfl)
theorem dX4_statement_132 : decode cX4_statement 132 = .ok (.istore_n 1, 1) := dk_60 (dk_at dksX4_statement_5 17 rfl rfl)
theorem dX4_statement_133 : decode cX4_statement 133 = .ok (.iload_n 1, 1) := dk_27 (dk_at dksX4_statement_5 18 rfl rfl)
theorem dX4_statement_134 : decode cX4_statement 134 = .ok (.iconst (-1), 1) := dk_2 (dk_at dksX4_statement_5 19 rfl rfl)
theorem dX4_statement_135 : decode cX4_statement 135 = .ok (.if_icmp .eq 12, 3) := dk_159 0 12 (dk_at dksX4_statement_5 20 rfl rfl)
theorem dX4_statement_138 : decode cX4_statement 138 = .ok (.aload_n 0, 1) := dk_42 (dk_at dksX4_statement_5 23 rfl rfl)
theorem dX4_statement_139 : decode cX4_statement 139 = .ok (.getfield 7, 3) := dk_180 0 7 (dk_at dksX4_statement_6 0 rfl rfl)
theorem dX4_statement_142 : decode cX4_statement 142 = .ok (.iload_n 1, 1) := dk_27 (dk_at dksX4_statement_6 3 rfl rfl)
theorem dX4_statement_143 : decode cX4_statement 143 = .ok (.baload, 1) := dk_51 (dk_at dksX4_statement_6 4 rfl rfl)
theorem dX4_statement_144 : decode cX4_statement 144 = .ok (.ifCond .eq 5, 3) := dk_153 0 5 (dk_at dksX4_statement_6 5 rfl rfl)
theorem dX4_statement_147 : decode cX4_statement 147 = .ok (.iconst 0, 1) := dk_3 (dk_at dksX4_statement_6 8 rfl rfl)
theorem dX4_statement_148 : decode cX4_statement 148 = .ok (.ireturn, 1) := dk_172 (dk_at dksX4_statement_6 9 rfl rfl)
theorem dX4_statement_149 : decode cX4_statement 149 = .ok (.aload_n 0, 1) := dk_42 (dk_at dksX4_statement_6 10 rfl rfl)
theorem dX4_statement_150 : decode cX4_statement 150 = .ok (.iconst 0, 1) := dk_3 (dk_at dksX4_statement_6 11 rfl rfl)
theorem dX4_statement_151 : decode cX4_statement 151 = .ok (.bipush 9, 2) := dk_16 9 (dk_at dksX4_statement_6 12 rfl rfl)
theorem dX4_statement_153 : decode cX4_statement 153 = .ok (.invokevirtual 165, 3) := dk_182 0 165 (dk_at dksX4_statement_6 14 rfl rfl)
theorem dX4_statement_156 : decode cX4_statement 156 = .ok (.istore_n 2, 1) := dk_61 (dk_at dksX4_statement_6 17 rfl rfl)
theorem dX4_statement_157 : decode cX4_statement 157 = .ok (.iload_n 2, 1) := dk_28 (dk_at dksX4_statement_6 18 rfl rfl)
theorem dX4_statement_158 : decode cX4_statement 158 = .ok (.iconst (-1), 1) := dk_2 (dk_at dksX4_statement_6 19 rfl rfl)
theorem dX4_statement_159 : decode cX4_statement 159 = .ok (.if_icmp .ne 5, 3) := dk_160 0 5 (dk_at dksX4_statement_6 20 rfl rfl)
theorem dX4_statement_162 : decode cX4_statement 162 = .ok (.iconst 0, 1) := dk_3 (dk_at dksX4_statement_6 23 rfl rfl)
theorem dX4_statement_163 : decode cX4_statement 163 = .ok (.ireturn, 1) := dk_172 (dk_at dksX4_statement_7 0 rfl rfl)
theorem dX4_statement_164 : decode cX4_statement 164 = .ok (.aload_n 0, 1) := dk_42 (dk_at dksX4_statement_7 1 rfl rfl)
theorem dX4_statement_165 : decode cX4_statement 165 = .ok (.iload_n 1, 1) := dk_27 (dk_at dksX4_statement_7 2 rfl rfl)
theorem dX4_statement_166 : decode cX4_statement 166 = .ok (.iload_n 2, 1) := dk_28 (dk_at dksX4_statement_7 3 rfl rfl)
theorem dX4_statement_167 : decode cX4_statement 167 = .ok (.invokevirtual 124, 3) := dk_182 0 124 (dk_at dksX4_statement_7 4 rfl rfl)
theorem dX4_statement_170 : decode cX4_statement 170 = .ok (.pop, 1) := dk_87 (dk_at dksX4_statement_7 7 rfl rfl)
theorem dX4_statement_171 : decode cX4_statement 171 = .ok (.iconst 1, 1) := dk_4 (dk_at dksX4_statement_7 8 rfl rfl)
theorem dX4_statement_172 : decode cX4_statement 172 = .ok (.ireturn, 1) := dk_172 (dk_at dksX4_statement_7 9 rfl rfl)
theorem dX4_statement_173 : decode cX4_statement 173 = .ok (.aload_n 0, 1) := dk_42 (dk_at dksX4_statement_7 10 rfl rfl)
theorem dX4_statement_174 : decode cX4_statement 174 = .ok (.ldc 180, 2) := dk_18 180 (dk_at dksX4_statement_7 11 rfl rfl)
theorem dX4_statement_176 : decode cX4_statement 176 = .ok (.invokevirtual 170, 3) := dk_182 0 170 (dk_at dksX4_statement_7 13 rfl rfl)
theorem dX4_statement_179 : decode cX4_statement 179 = .ok (.ifCond .eq 7, 3) := dk_153 0 7 (dk_at dksX4_statement_7 16 rfl rfl)
theorem dX4_statement_182 : decode cX4_statement 182 = .ok (.iconst 0, 1) := dk_3 (dk_at dksX4_statement_7 19 rfl rfl)
theorem dX4_statement_183 : decode cX4_statement 183 = .ok (.goto 30, 3) := dk_167 0 30 (dk_at dksX4_statement_7 20 rfl rfl)
theorem dX4_statement_186 : decode cX4_statement 186 = .ok (.aload_n 0, 1) := dk_42 (dk_at dksX4_statement_7 23 rfl rfl)
theorem dX4_statement_187 : decode cX4_statement 187 = .ok (.ldc 182, 2) := dk_18 182 (dk_at dksX4_statement_8 0 rfl rfl)
theorem dX4_statement_189 : decode cX4_statement 189 = .ok (.invokevirtual 170, 3) := dk_182 0 170 (dk_at dksX4_statement_8 2 rfl rfl)
theorem dX4_statement_192 : decode cX4_statement 192 = .ok (.ifCond .eq 7, 3) := dk_153 0 7 (dk_at dksX4_statement_8 5 rfl rfl)
theorem dX4_statement_195 : decode cX4_statement 195 = .ok (.iconst 1, 1) := dk_4 (dk_at dksX4_statement_8 8 rfl rfl)
theorem dX4_statement_196 : decode cX4_statement 196 = .ok (.goto 17, 3) := dk_167 0 17 (dk_at dksX4_statement_8 9 rfl rfl)
theorem dX4_statement_199 : decode cX4_statement 199 = .ok (.aload_n 0, 1) := dk_42 (dk_at dksX4_statement_8 12 rfl rfl)
theorem dX4_statement_200 : decode cX4_statement 200 = .ok (.ldc 184, 2) := dk_18 184 (dk_at dksX4_statement_8 13 rfl rfl)
theorem dX4_statement_202 : decode cX4_statement 202 = .ok (.invokevirtual 170, 3) := dk_182 0 170 (dk_at dksX4_statement_8 15 rfl rfl)
theorem dX4_statement_205 : decode cX4_statement 205 = .ok (.ifCond .eq 7, 3) := dk_153 0 7 (dk_at dksX4_statement_8 18 rfl rfl)
theorem dX4_statement_208 : decode cX4_statement 208 = .ok (.iconst 2, 1) := dk_5 (dk_at dksX4_statement_8 21 rfl rfl)
theorem dX4_statement_209 : decode cX4_statement 209 = .ok (.goto 4, 3) := dk_167 0 4 (dk_at dksX4_statement_9 0 rfl rfl)
theorem dX4_statement_212 : decode cX4_statement 212 = .ok (.iconst (-1), 1) := dk_2 (dk_at dksX4_statement_9 3 rfl rfl)
theorem dX4_statement_213 : decode cX4_statement 213 = .ok (.istore_n 2, 1) := dk_61 (dk_at dksX4_statement_9 4 rfl rfl)
theorem dX4_statement_214 : decode cX4_statement 214 = .ok (.iload_n 2, 1) := dk_28 (dk_at dksX4_statement_9 5 rfl rfl)
theorem dX4_statement_215 : decode cX4_statement 215 = .ok (.iconst (-1), 1) := dk_2 (dk_at dksX4_statement_9 6 rfl rfl)
theorem dX4_statement_216 : decode cX4_statement 216 = .ok (.if_icmp .ne 5, 3) := dk_160 0 5 (dk_at dksX4_statement_9 7 rfl rfl)
theorem dX4_statement_219 : decode cX4_statement 219 = .ok (.iconst 0, 1) := dk_3 (dk_at dksX4_statement_9 10 rfl rfl)
theorem dX4_statement_220 : decode cX4_statement 220 = .ok (.ireturn, 1) := dk_172 (dk_at dksX4_statement_9 11 rfl rfl)
theorem dX4_statement_221 : decode cX4_statement 221 = .ok (.aload_n 0, 1) := dk_42 (dk_at dksX4_statement_9 12 rfl rfl)
theorem dX4_statement_222 : decode cX4_statement 222 = .ok (.invokevirtual 176, 3) := dk_182 0 176 (dk_at dksX4_statement_9 13 rfl rfl)
theorem dX4_statement_225 : decode cX4_statement 225 = .ok (.istore_n 1, 1) := dk_60 (dk_at dksX4_statement_9 16 rfl rfl)
theorem dX4_statement_226 : decode cX4_statement 226 = .ok (.iload_n 1, 1) := dk_27 (dk_at dksX4_statement_9 17 rfl rfl)
theorem dX4_statement_227 : decode cX4_statement 227 = .ok (.iconst (-1), 1) := dk_2 (dk_at dksX4_statement_9 18 rfl rfl)
theorem dX4_statement_228 : decode cX4_statement 228 = .ok (.if_icmp .eq 37, 3) := dk_159 0 37 (dk_at dksX4_statement_9 19 rfl rfl)
theorem dX4_statement_231 : decode cX4_statement 231 = .ok (.iload_n 2, 1) := dk_28 (dk_at dksX4_statement_9 22 rfl rfl)
theorem dX4_statement_232 : decode cX4_statement 232 = .ok (.ifCond .ne 19, 3) := dk_154 0 19 (dk_at dksX4_statement_10 0 rfl rfl)
theorem dX4_statement_235 : decode cX4_statement 235 = .ok (.iload_n 1, 1) := dk_27 (dk_at dksX4_statement_10 3 rfl rfl)
theorem dX4_statement_236 : decode cX4_statement 236 = .ok (.aload_n 0, 1) := dk_42 (dk_at dksX4_statement_10 4 rfl rfl)
theorem dX4_statement_237 : decode cX4_statement 237 = .ok (.getfield 114, 3) := dk_180 0 114 (dk_at dksX4_statement_10 5 rfl rfl)
theorem dX4_statement_240 : decode cX4_statement 240 = .ok (.if_icmp .eq 25, 3) := dk_159 0 25 (dk_at dksX4_statement_10 8 rfl rfl)
theorem dX4_statement_243 : decode cX4_statement 243 = .ok (.aload_n 0, 1) := dk_42 (dk_at dksX4_statement_10 11 rfl rfl)
theorem dX4_statement_244 : decode cX4_statement 244 = .ok (.iload_n 1, 1) := dk_27 (dk_at dksX4_statement_10 12 rfl rfl)
theorem dX4_statement_245 : decode cX4_statement 245 = .ok (.invokevirtual 117, 3) := dk_182 0 117 (dk_at dksX4_statement_10 13 rfl rfl)
theorem dX4_statement_248 : decode cX4_statement 248 = .ok (.ifCond .ne 17, 3) := dk_154 0 17 (dk_at dksX4_statement_10 16 rfl rfl)
theorem dX4_statement_251 : decode cX4_statement 251 = .ok (.iload_n 2, 1) := dk_28 (dk_at dksX4_statement_10 19 rfl rfl)
theorem dX4_statement_252 : decode cX4_statement 252 = .ok (.iconst 2, 1) := dk_5 (dk_at dksX4_statement_10 20 rfl rfl)
theorem dX4_statement_253 : decode cX4_statement 253 = .ok (.if_icmp .ne 14, 3) := dk_160 0 14 (dk_at dksX4_statement_10 21 rfl rfl)
theorem dX4_statement_256 : decode cX4_statement 256 = .ok (.aload_n 0, 1) := dk_42 (dk_at dksX4_statement_11 0 rfl rfl)
theorem dX4_statement_257 : decode cX4_statement 257 = .ok (.getfield 7, 3) := dk_180 0 7 (dk_at dksX4_statement_11 1 rfl rfl)
theorem dX4_statement_260 : decode cX4_statement 260 = .ok (.iload_n 1, 1) := dk_27 (dk_at dksX4_statement_11 4 rfl rfl)
theorem dX4_statement_261 : decode cX4_statement 261 = .ok (.baload, 1) := dk_51 (dk_at dksX4_statement_11 5 rfl rfl)
theorem dX4_statement_262 : decode cX4_statement 262 = .ok (.ifCond .eq 5, 3) := dk_153 0 5 (dk_at dksX4_statement_11 6 rfl rfl)
theorem dX4_statement_265 : decode cX4_statement 265 = .ok (.iconst 0, 1) := dk_3 (dk_at dksX4_statement_11 9 rfl rfl)
theorem dX4_statement_266 : decode cX4_statement 266 = .ok (.ireturn, 1) := dk_172 (dk_at dksX4_statement_11 10 rfl rfl)
theorem dX4_statement_267 : decode cX4_statement 267 = .ok (.iload_n 2, 1) := dk_28 (dk_at dksX4_statement_11 11 rfl rfl)
theorem dX4_statement_268 : decode cX4_statement 268 = .ok (.iconst 2, 1) := dk_5 (dk_at dksX4_statement_11 12 rfl rfl)
theorem dX4_statement_269 : decode cX4_statement 269 = .ok (.if_icmp .ge 21, 3) := dk_162 0 21 (dk_at dksX4_statement_11 13 rfl rfl)
theorem dX4_statement_272 : decode cX4_statement 272 = .ok (.aload_n 0, 1) := dk_42 (dk_at dksX4_statement_11 16 rfl rfl)
theorem dX4_statement_273 : decode cX4_statement 273 = .ok (.getfield 7, 3) := dk_180 0 7 (dk_at dksX4_statement_11 17 rfl rfl)
theorem dX4_statement_276 : decode cX4_statement 276 = .ok (.iload_n 1, 1) := dk_27 (dk_at dksX4_statement_11 20 rfl rfl)
theorem dX4_statement_277 : decode cX4_statement 277 = .ok (.iload_n 2, 1) := dk_28 (dk_at dksX4_statement_11 21 rfl rfl)
theorem dX4_statement_278 : decode cX4_statement 278 = .ok (.ifCond .ne 7, 3) := dk_154 0 7 (dk_at dksX4_statement_12 0 rfl rfl)
theorem dX4_statement_281 : decode cX4_statement 281 = .ok (.iconst 1, 1) := dk_4 (dk_at dksX4_statement_12 3 rfl rfl)
theorem dX4_statement_282 : decode cX4_statement 282 = .ok (.goto 4, 3) := dk_167 0 4 (dk_at dksX4_statement_12 4 rfl rfl)
theorem dX4_statement_285 : decode cX4_statement 285 = .ok (.iconst 0, 1) := dk_3 (dk_at dksX4_statement_12 7 rfl rfl)
theorem dX4_statement_286 : decode cX4_statement 286 = .ok (.bastore, 1) := dk_84 (dk_at dksX4_statement_12 8 rfl rfl)
theorem dX4_statement_287 : decode cX4_statement 287 = .ok (.goto 8, 3) := dk_167 0 8 (dk_at dksX4_statement_12 9 rfl rfl)
theorem dX4_statement_290 : decode cX4_statement 290 = .ok (.aload_n 0, 1) := dk_42 (dk_at dksX4_statement_12 12 rfl rfl)
theorem dX4_statement_291 : decode cX4_statement 291 = .ok (.iload_n 1, 1) := dk_27 (dk_at dksX4_statement_12 13 rfl rfl)
theorem dX4_statement_292 : decode cX4_statement 292 = .ok (.putfield 114, 3) := dk_181 0 114 (dk_at dksX4_statement_12 14 rfl rfl)
theorem dX4_statement_295 : decode cX4_statement 295 = .ok (.iconst 1, 1) := dk_4 (dk_at dksX4_statement_12 17 rfl rfl)
theorem dX4_statement_296 : decode cX4_statement 296 = .ok (.ireturn, 1) := dk_172 (dk_at dksX4_statement_12 18 rfl rfl)
def dkwX4_isWord_2 : List UInt8 := [96, 46, 43, 28, 182, 0, 158, 159, 0, 5, 3, 172, 132, 2, 1, 167, 255, 224, 4, 172]
abbrev dktX4_isWord_2 : List UInt8 := dkwX4_isWord_2 ++ []
def dkwX4_isWord_1 : List UInt8 := [159, 0, 5, 3, 172, 3, 61, 28, 43, 182, 0, 152, 162, 0, 30, 42, 180, 0, 29, 42, 180, 0, 137, 28]
abbrev dktX4_isWord_1 : List UInt8 := dkwX4_isWord_1 ++ dktX4_isWord_2
def dkwX4_isWord_0 : List UInt8 := [42, 180, 0, 140, 16, 119, 160, 0, 19, 42, 180, 0, 134, 42, 180, 0, 137, 100, 43, 182, 0, 152]
abbrev dktX4_isWord_0 : List UInt8 := dkwX4_isWord_0 ++ dktX4_isWord_1
theorem dksX4_isWord_0 : cX4_isWord.data.toList.drop 0 = dktX4_isWord_0 := by decide +kernel
theorem dksX4_isWord_1 : cX4_isWord.data.toList.drop 22 = dktX4_isWord_1 := dk_seg dksX4_isWord_0 22 rfl rfl
theorem dksX4_isWord_2 : cX4_isWord.data.toList.drop 46 = dktX4_isWord_2 := dk_seg dksX4_isWord_1 24 rfl rfl
theorem dX4_isWord_0 : decode cX4_isWord 0 = .ok (.aload_n 0, 1) := dk_42 (dk_at dksX4_isWord_0 0 rfl rfl)
theorem dX4_isWord_1 : decode cX4_isWord 1 = .ok (.getfield 140, 3) := dk_180 0 140 (dk_at dksX4_isWord_0 1 rfl rfl)
theorem dX4_isWord_4 : decode cX4_isWord 4 = .ok (.bipush 119, 2) := dk_16 119 (dk_at dksX4_isWord_0 4 rfl rfl)
theorem dX4_isWord_6 : decode cX4_isWord 6 = .ok (.if_icmp .ne 19, 3) := dk_160 0 19 (dk_at dksX4_isWord_0 6 rfl rfl)
theorem dX4_isWord_9 : decode cX4_isWord 9 = .ok (.aload_n 0, 1) := dk_42 (dk_at dksX4_isWord_0 9 rfl rfl)
theorem dX4_isWord_10 : decode cX4_isWord 10 = .ok (.getfield 134, 3) := dk_180 0 134 (dk_at dksX4_isWord_0 10 rfl rfl)
theorem dX4_isWord_13 : decode cX4_isWord 13 = .ok (.aload_n 0, 1) := dk_42 (dk_at dksX4_isWord_0 13 rfl rfl)
theorem dX4_isWord_14 : decode cX4_isWord 14 = .ok (.getfield 137, 3) := dk_180 0 137 (dk_at dksX4_isWord_0 14 rfl rfl)
theorem dX4_isWord_17 : decode cX4_isWord 17 = .ok (.isub, 1) := dk_100 (dk_at dksX4_isWord_0 17 rfl rfl)
theorem dX4_isWord_18 : decode cX4_isWord 18 = .ok (.aload_n 1, 1) := dk_43 (dk_at dksX4_isWord_0 18 rfl rfl)
theorem dX4_isWord_19 : decode cX4_isWord 19 = .ok (.invokevirtual 152, 3) := dk_182 0 152 (dk_at dksX4_isWord_0 19 rfl rfl)
theorem dX4_isWord_22 : decode cX4_isWord 22 = .ok (.if_icmp .eq 5, 3) := dk_159 0 5 (dk_at dksX4_isWord_1 0 rfl rfl)
theorem dX4_isWord_25 : decode cX4_isWord 25 = .ok (.iconst 0, 1) := dk_3 (dk_at dksX4_isWord_1 3 rfl rfl)
theorem dX4_isWord_26 : decode cX4_isWord 26 = .ok (.ireturn, 1) := dk_172 (dk_at dksX4_isWord_1 4 rfl rfl)
theorem dX4_isWord_27 : decode cX4_isWord 27 = .ok (.iconst 0, 1) := dk_3 (dk_at dksX4_isWord_1 5 rfl rfl)
theorem dX4_isWord_28 : decode cX4_isWord 28 = .ok (.istore_n 2, 1) := dk_61 (dk_at dksX4_isWord_1 6 rfl rfl)
theorem dX4_isWord_29 : decode cX4_isWord 29 = .ok (.iload_n 2, 1) := dk_28 (dk_at dksX4_isWord_1 7 rfl rfl)
theorem dX4_isWord_30 : decode cX4_isWord 30 = .ok (.aload_n 1, 1) := dk_43 (dk_at dksX4_isWord_1 8 rfl rfl)
theorem dX4_isWord_31 : decode cX4_isWord 31 = .ok (.invokevirtual 152, 3) := dk_182 0 152 (dk_at dksX4_isWord_1 9 rfl rfl)
theorem dX4_isWord_34 : decode cX4_isWord 34 = .ok (.if_icmp .ge 30, 3) := dk_162 0 30 (dk_at dksX4_isWord_1 12 rfl rfl)
theorem dX4_isWord_37 : decode cX4_isWord 37 = .ok (.aload_n 0, 1) := dk_42 (dk_at dksX4_isWord_1 15 rfl rfl)
theorem dX4_isWord_38 : decode cX4_isWord 38 = .ok (.getfield 29, 3) := dk_180 0 29 (dk_at dksX4_isWord_1 16 rfl rfl)
theorem dX4_isWord_41 : decode cX4_isWord 41 = .ok (.aload_n 0, 1) := dk_42 (dk_at dksX4_isWord_1 19 rfl rfl)
theorem dX4_isWord_42 : decode cX4_isWord 42 = .ok (.getfield 137, 3) := dk_180 0 137 (dk_at dksX4_isWord_1 20 rfl rfl)
theorem dX4_isWord_45 : decode cX4_isWord 45 = .ok (.iload_n 2, 1) := dk_28 (dk_at dksX4_isWord_1 23 rfl rfl)
theorem dX4_isWord_46 : decode cX4_isWord 46 = .ok (.iadd, 1) := dk_96 (dk_at dksX4_isWord_2 0 rfl rfl)
theorem dX4_isWord_47 : decode cX4_isWord 47 = .ok (.iaload, 1) := dk_46 (dk_at dksX4_isWord_2 1 rfl rfl)
theorem dX4_isWord_48 : decode cX4_isWord 48 = .ok (.aload_n 1, 1) := dk_43 (dk_at dksX4_isWord_2 2 rfl rfl)
theorem dX4_isWord_49 : decode cX4_isWord 49 = .ok (.iload_n 2, 1) := dk_28 (dk_at dksX4_isWord_2 3 rfl rfl)
theorem dX4_isWord_50 : decode cX4_isWord 50 = .ok (.invokevirtual 158, 3) := dk_182 0 158 (dk_at dksX4_isWord_2 4 rfl rfl)
theorem dX4_isWord_53 : decode cX4_isWord 53 = .ok (.if_icmp .eq 5, 3) := dk_159 0 5 (dk_at dksX4_isWord_2 7 rfl rfl)
theorem dX4_isWord_56 : decode cX4_isWord 56 = .ok (.iconst 0, 1) := dk_3 (dk_at dksX4_isWord_2 10 rfl rfl)
theorem dX4_isWord_57 : decode cX4_isWord 57 = .ok (.ireturn, 1) := dk_172 (dk_at dksX4_isWord_2 11 rfl rfl)
theorem dX4_isWord_58 : decode cX4_isWord 58 = .ok (.iinc 2 1, 3) := dk_132 2 1 (dk_at dksX4_isWord_2 12 rfl rfl)
theorem dX4_isWord_61 : decode cX4_isWord 61 = .ok (.goto (-32), 3) := dk_167 255 224 (dk_at dksX4_isWord_2 15 rfl rfl)
theorem dX4_isWord_64 : decode cX4_isWord 64 = .ok (.iconst 1, 1) := dk_4 (dk_at dksX4_isWord_2 18 rfl rfl)
theorem dX4_isWord_65 : decode cX4_isWord 65 = .ok (.ireturn, 1) := dk_172 (dk_at dksX4_isWord_2 19 rfl rfl)
def dkwX4_number_1 : List UInt8 := [153, 0, 10, 42, 180, 0, 149, 167, 0, 4, 2, 172]
abbrev dktX4_number_1 : List UInt8 := dkwX4_number_1 ++ []
def dkwX4_number_0 : List UInt8 := [42, 182, 0, 162, 42, 180, 0, 140, 16, 48, 160, 0, 22, 42, 180, 0, 149, 27, 28, 184, 0, 79]
abbrev dktX4_number_0 : List UInt8 := dkwX4_number_0 ++ dktX4_number_1
theorem dksX4_number_0 : cX4_number.data.toList.drop 0 = dktX4_number_0 := by decide +kernel
theorem dksX4_number_1 : cX4_number.data.toList.drop 22 = dktX4_number_1 := dk_seg dksX4_number_0 22 rfl rfl
theorem dX4_number_0 : decode cX4_number 0 = .ok (.aload_n 0, 1) := dk_42 (dk_at dksX4_number_0 0 rfl rfl)
theorem dX4_number_1 : decode cX4_number 1 = .ok (.invokevirtual 162, 3) := dk_182 0 162 (dk_at dksX4_number_0 1 rfl rfl)
theorem dX4_number_4 : decode cX4_number 4 = .ok (.aload_n 0, 1) := dk_42 (dk_at dksX4_number_0 4 rfl rfl)
theorem dX4_number_5 : decode cX4_number 5 = .ok (.getfield 140, 3) := dk_180 0 140 (dk_at dksX4_number_0 5 rfl rfl)
theorem dX4_number_8 : decode cX4_number 8 = .ok (.bipush 48, 2) := dk_16 48 (dk_at dksX4_number_0 8 rfl rfl)
theorem dX4_number_10 : decode cX4_number 10 = .ok (.if_icmp .ne 22, 3) := dk_160 0 22 (dk_at dksX4_number_0 10 rfl rfl)
theorem dX4_number_13 : decode cX4_number 13 = .ok (.aload_n 0, 1) := dk_42 (dk_at dksX4_number_0 13 rfl rfl)
theorem dX4_number_14 : decode cX4_number 14 = .ok (.getfield 149, 3) := dk_180 0 149 (dk_at dksX4_number_0 14 rfl rfl)
theorem dX4_number_17 : decode cX4_number 17 = .ok (.iload_n 1, 1) := dk_27 (dk_at dksX4_number_0 17 rfl rfl)
theorem dX4_number_18 : decode cX4_number 18 = .ok (.iload_n 2, 1) := dk_28 (dk_at dksX4_number_0 18 rfl rfl)
theorem dX4_number_19 : decode cX4_number 19 = .ok (.invokestatic 79, 3) := dk_184 0 79 (dk_at dksX4_number_0 19 rfl rfl)
theorem dX4_number_22 : decode cX4_number 22 = .ok (.ifCond .eq 10, 3) := dk_153 0 10 (dk_at dksX4_number_1 0 rfl rfl)
theorem dX4_number_25 : decode cX4_number 25 = .ok (.aload_n 0, 1) := dk_42 (dk_at dksX4_number_1 3 rfl rfl)
theorem dX4_number_26 : decode cX4_number 26 = .ok (.getfield 149, 3) := dk_180 0 149 (dk_at dksX4_number_1 4 rfl rfl)
theorem dX4_number_29 : decode cX4_number 29 = .ok (.goto 4, 3) := dk_167 0 4 (dk_at dksX4_number_1 7 rfl rfl)
theorem dX4_number_32 : decode cX4_number 32 = .ok (.iconst (-1), 1) := dk_2 (dk_at dksX4_number_1 10 rfl rfl)
theorem dX4_number_33 : decode cX4_number 33 = .ok (.ireturn, 1) := dk_172 (dk_at dksX4_number_1 11 rfl rfl)
def dkwX4_place_1 : List UInt8 := [167, 0, 4, 27, 172]
abbrev dktX4_place_1 : List UInt8 := dkwX4_place_1 ++ []
def dkwX4_place_0 : List UInt8 := [42, 3, 16, 66, 182, 0, 165, 60, 27, 2, 159, 0, 12, 42, 27, 133, 182, 0, 69, 154, 0, 7, 2]
abbrev dktX4_place_0 : List UInt8 := dkwX4_place_0 ++ dktX4_place_1
theorem dksX4_place_0 : cX4_place.data.toList.drop 0 = dktX4_place_0 := by decide +kernel
theorem dksX4_place_1 : cX4_place.data.toList.drop 23 = dktX4_place_1 := dk_seg dksX4_place_0 23 rfl rfl
theorem dX4_place_0 : decode cX4_place 0 = .ok (.aload_n 0, 1) := dk_42 (dk_at dksX4_place_0 0 rfl rfl)
theorem dX4_place_1 : decode cX4_place 1 = .ok (.iconst 0, 1) := dk_3 (dk_at dksX4_place_0 1 rfl rfl)
theorem dX4_place_2 : decode cX4_place 2 = .ok (.bipush 66, 2) := dk_16 66 (dk_at dksX4_place_0 2 rfl rfl)
theorem dX4_place_4 : decode cX4_place 4 = .ok (.invokevirtual 165, 3) := dk_182 0 165 (dk_at dksX4_place_0 4 rfl rfl)
theorem dX4_place_7 : decode cX4_place 7 = .ok (.istore_n 1, 1) := dk_60 (dk_at dksX4_place_0 7 rfl rfl)
theorem dX4_place_8 : decode cX4_place 8 = .ok (.iload_n 1, 1) := dk_27 (dk_at dksX4_place_0 8 rfl rfl)
theorem dX4_place_9 : decode cX4_place 9 = .ok (.iconst (-1), 1) := dk_2 (dk_at dksX4_place_0 9 rfl rfl)
theorem dX4_place_10 : decode cX4_place 10 = .ok (.if_icmp .eq 12, 3) := dk_159 0 12 (dk_at dksX4_place_0 10 rfl rfl)
theorem dX4_place_13 : decode cX4_place 13 = .ok (.aload_n 0, 1) := dk_42 (dk_at dksX4_place_0 13 rfl rfl)
theorem dX4_place_14 : decode cX4_place 14 = .ok (.iload_n 1, 1) := dk_27 (dk_at dksX4_place_0 14 rfl rfl)
theorem dX4_place_15 : decode cX4_place 15 = .ok (.i2l, 1) := dk_133 (dk_at dksX4_place_0 15 rfl rfl)
theorem dX4_place_16 : decode cX4_place 16 = .ok (.invokevirtual 69, 3) := dk_182 0 69 (dk_at dksX4_place_0 16 rfl rfl)
theorem dX4_place_19 : decode cX4_place 19 = .ok (.ifCond .ne 7, 3) := dk_154 0 7 (dk_at dksX4_place_0 19 rfl rfl)
theorem dX4_place_22 : decode cX4_place 22 = .ok (.iconst (-1), 1) := dk_2 (dk_at dksX4_place_0 22 rfl rfl)
theorem dX4_place_23 : decode cX4_place 23 = .ok (.goto 4, 3) := dk_167 0 4 (dk_at dksX4_place_1 0 rfl rfl)
theorem dX4_place_26 : decode cX4_place 26 = .ok (.iload_n 1, 1) := dk_27 (dk_at dksX4_place_1 3 rfl rfl)
theorem dX4_place_27 : decode cX4_place 27 = .ok (.ireturn, 1) := dk_172 (dk_at dksX4_place_1 4 rfl rfl)
def dkwX4_again_6 : List UInt8 := [42, 43, 16, 102, 46, 181, 0, 76, 42, 43, 16, 103, 46, 181, 0, 64, 177]
abbrev dktX4_again_6 : List UInt8 := dkwX4_again_6 ++ []
def dkwX4_again_5 : List UInt8 := [42, 43, 16, 99, 46, 181, 0, 60, 42, 43, 16, 100, 46, 181, 0, 114, 42, 43, 16, 101, 46, 181, 0, 73]
abbrev dktX4_again_5 : List UInt8 := dkwX4_again_5 ++ dktX4_again_6
def dkwX4_again_4 : List UInt8 := [16, 91, 28, 96, 46, 79, 42, 180, 0, 26, 28, 43, 16, 95, 28, 96, 46, 79, 132, 2, 1, 167, 255, 224]
abbrev dktX4_again_4 : List UInt8 := dkwX4_again_4 ++ dktX4_again_5
def dkwX4_again_3 : List UInt8 := [28, 96, 46, 79, 132, 2, 1, 167, 255, 211, 3, 61, 28, 7, 162, 0, 33, 42, 180, 0, 23, 28, 43]
abbrev dktX4_again_3 : List UInt8 := dkwX4_again_3 ++ dktX4_again_4
def dkwX4_again_2 : List UInt8 := [28, 96, 46, 79, 42, 180, 0, 17, 28, 43, 16, 75, 28, 96, 46, 79, 42, 180, 0, 20, 28, 43, 16, 83]
abbrev dktX4_again_2 : List UInt8 := dkwX4_again_2 ++ dktX4_again_3
def dkwX4_again_1 : List UInt8 := [3, 84, 132, 2, 1, 167, 255, 229, 3, 61, 28, 16, 8, 162, 0, 45, 42, 180, 0, 13, 28, 43, 16, 67]
abbrev dktX4_again_1 : List UInt8 := dkwX4_again_1 ++ dktX4_again_2
def dkwX4_again_0 : List UInt8 := [3, 61, 28, 16, 67, 162, 0, 27, 42, 180, 0, 7, 28, 43, 28, 46, 4, 160, 0, 7, 4, 167, 0, 4]
abbrev dktX4_again_0 : List UInt8 := dkwX4_again_0 ++ dktX4_again_1
theorem dksX4_again_0 : cX4_again.data.toList.drop 0 = dktX4_again_0 := by decide +kernel
theorem dksX4_again_1 : cX4_again.data.toList.drop 24 = dktX4_again_1 := dk_seg dksX4_again_0 24 rfl rfl
theorem dksX4_again_2 : cX4_again.data.toList.drop 48 = dktX4_again_2 := dk_seg dksX4_again_1 24 rfl rfl
theorem dksX4_again_3 : cX4_again.data.toList.drop 72 = dktX4_again_3 := dk_seg dksX4_again_2 24 rfl rfl
theorem dksX4_again_4 : cX4_again.data.toList.drop 95 = dktX4_again_4 := dk_seg dksX4_again_3 23 rfl rfl
theorem dksX4_again_5 : cX4_again.data.toList.drop 119 = dktX4_again_5 := dk_seg dksX4_again_4 24 rfl rfl
theorem dksX4_again_6 : cX4_again.data.toList.drop 143 = dktX4_again_6 := dk_seg dksX4_again_5 24 rfl rfl
theorem dX4_again_0 : decode cX4_again 0 = .ok (.iconst 0, 1) := dk_3 (dk_at dksX4_again_0 0 rfl rfl)
theorem dX4_again_1 : decode cX4_again 1 = .ok (.istore_n 2, 1) := dk_61 (dk_at dksX4_again_0 1 rfl rfl)
theorem dX4_again_2 : decode cX4_again 2 = .ok (.iload_n 2, 1) := dk_28 (dk_at dksX4_again_0 2 rfl rfl)
theorem dX4_again_3 : decode cX4_again 3 = .ok (.bipush 67, 2) := dk_16 67 (dk_at dksX4_again_0 3 rfl rfl)
theorem dX4_again_5 : decode cX4_again 5 = .ok (.if_icmp .ge 27, 3) := dk_162 0 27 (dk_at dksX4_again_0 5 rfl rfl)
theorem dX4_again_8 : decode cX4_again 8 = .ok (.aload_n 0, 1) := dk_42 (dk_at dksX4_again_0 8 rfl rfl)
theorem dX4_again_9 : decode cX4_again 9 = .ok (.getfield 7, 3) := dk_180 0 7 (dk_at dksX4_again_0 9 rfl rfl)
theorem dX4_again_12 : decode cX4_again 12 = .ok (.iload_n 2, 1) := dk_28 (dk_at dksX4_again_0 12 rfl rfl)
theorem dX4_again_13 : decode cX4_again 13 = .ok (.aload_n 1, 1) := dk_43 (dk_at dksX4_again_0 13 rfl rfl)
theorem dX4_again_14 : decode cX4_again 14 = .ok (.iload_n 2, 1) := dk_28 (dk_at dksX4_again_0 14 rfl rfl)
theorem dX4_again_15 : decode cX4_again 15 = .ok (.iaload, 1) := dk_46 (dk_at dksX4_again_0 15 rfl rfl)
theorem dX4_again_16 : decode cX4_again 16 = .ok (.iconst 1, 1) := dk_4 (dk_at dksX4_again_0 16 rfl rfl)
theorem dX4_again_17 : decode cX4_again 17 = .ok (.if_icmp .ne 7, 3) := dk_160 0 7 (dk_at dksX4_again_0 17 rfl rfl)
theorem dX4_again_20 : decode cX4_again 20 = .ok (.iconst 1, 1) := dk_4 (dk_at dksX4_again_0 20 rfl rfl)
theorem dX4_again_21 : decode cX4_again 21 = .ok (.goto 4, 3) := dk_167 0 4 (dk_at dksX4_again_0 21 rfl rfl)
theorem dX4_again_24 : decode cX4_again 24 = .ok (.iconst 0, 1) := dk_3 (dk_at dksX4_again_1 0 rfl rfl)
theorem dX4_again_25 : decode cX4_again 25 = .ok (.bastore, 1) := dk_84 (dk_at dksX4_again_1 1 rfl rfl)
theorem dX4_again_26 : decode cX4_again 26 = .ok (.iinc 2 1, 3) := dk_132 2 1 (dk_at dksX4_again_1 2 rfl rfl)
theorem dX4_again_29 : decode cX4_again 29 = .ok (.goto (-27), 3) := dk_167 255 229 (dk_at dksX4_again_1 5 rfl rfl)
theorem dX4_again_32 : decode cX4_again 32 = .ok (.iconst 0, 1) := dk_3 (dk_at dksX4_again_1 8 rfl rfl)
theorem dX4_again_33 : decode cX4_again 33 = .ok (.istore_n 2, 1) := dk_61 (dk_at dksX4_again_1 9 rfl rfl)
theorem dX4_again_34 : decode cX4_again 34 = .ok (.iload_n 2, 1) := dk_28 (dk_at dksX4_again_1 10 rfl rfl)
theorem dX4_again_35 : decode cX4_again 35 = .ok (.bipush 8, 2) := dk_16 8 (dk_at dksX4_again_1 11 rfl rfl)
theorem dX4_again_37 : decode cX4_again 37 = .ok (.if_icmp .ge 45, 3) := dk_162 0 45 (dk_at dksX4_again_1 13 rfl rfl)
theorem dX4_again_40 : decode cX4_again 40 = .ok (.aload_n 0, 1) := dk_42 (dk_at dksX4_again_1 16 rfl rfl)
theorem dX4_again_41 : decode cX4_again 41 = .ok (.getfield 13, 3) := dk_180 0 13 (dk_at dksX4_again_1 17 rfl rfl)
theorem dX4_again_44 : decode cX4_again 44 = .ok (.iload_n 2, 1) := dk_28 (dk_at dksX4_again_1 20 rfl rfl)
theorem dX4_again_45 : decode cX4_again 45 = .ok (.aload_n 1, 1) := dk_43 (dk_at dksX4_again_1 21 rfl rfl)
theorem dX4_again_46 : decode cX4_again 46 = .ok (.bipush 67, 2) := dk_16 67 (dk_at dksX4_again_1 22 rfl rfl)
theorem dX4_again_48 : decode cX4_again 48 = .ok (.iload_n 2, 1) := dk_28 (dk_at dksX4_again_2 0 rfl rfl)
theorem dX4_again_49 : decode cX4_again 49 = .ok (.iadd, 1) := dk_96 (dk_at dksX4_again_2 1 rfl rfl)
theorem dX4_again_50 : decode cX4_again 50 = .ok (.iaload, 1) := dk_46 (dk_at dksX4_again_2 2 rfl rfl)
theorem dX4_again_51 : decode cX4_again 51 = .ok (.iastore, 1) := dk_79 (dk_at dksX4_again_2 3 rfl rfl)
theorem dX4_again_52 : decode cX4_again 52 = .ok (.aload_n 0, 1) := dk_42 (dk_at dksX4_again_2 4 rfl rfl)
theorem dX4_again_53 : decode cX4_again 53 = .ok (.getfield 17, 3) := dk_180 0 17 (dk_at dksX4_again_2 5 rfl rfl)
theorem dX4_again_56 : decode cX4_again 56 = .ok (.iload_n 2, 1) := dk_28 (dk_at dksX4_again_2 8 rfl rfl)
theorem dX4_again_57 : decode cX4_again 57 = .ok (.aload_n 1, 1) := dk_43 (dk_at dksX4_again_2 9 rfl rfl)
theorem dX4_again_58 : decode cX4_again 58 = .ok (.bipush 75, 2) := dk_16 75 (dk_at dksX4_again_2 10 rfl rfl)
theorem dX4_again_60 : decode cX4_again 60 = .ok (.iload_n 2, 1) := dk_28 (dk_at dksX4_again_2 12 rfl rfl)
theorem dX4_again_61 : decode cX4_again 61 = .ok (.iadd, 1) := dk_96 (dk_at dksX4_again_2 13 rfl rfl)
theorem dX4_again_62 : decode cX4_again 62 = .ok (.iaload, 1) := dk_46 (dk_at dksX4_again_2 14 rfl rfl)
theorem dX4_again_63 : decode cX4_again 63 = .ok (.iastore, 1) := dk_79 (dk_at dksX4_again_2 15 rfl rfl)
theorem dX4_again_64 : decode cX4_again 64 = .ok (.aload_n 0, 1) := dk_42 (dk_at dksX4_again_2 16 rfl rfl)
theorem dX4_again_65 : decode cX4_again 65 = .ok (.getfield 20, 3) := dk_180 0 20 (dk_at dksX4_again_2 17 rfl rfl)
theorem dX4_again_68 : decode cX4_again 68 = .ok (.iload_n 2, 1) := dk_28 (dk_at dksX4_again_2 20 rfl rfl)
theorem dX4_again_69 : decode cX4_again 69 = .ok (.aload_n 1, 1) := dk_43 (dk_at dksX4_again_2 21 rfl rfl)
theorem dX4_again_70 : decode cX4_again 70 = .ok (.bipush 83, 2) := dk_16 83 (dk_at dksX4_again_2 22 rfl rfl)
theorem dX4_again_72 : decode cX4_again 72 = .ok (.iload_n 2, 1) := dk_28 (dk_at dksX4_again_3 0 rfl rfl)
theorem dX4_again_73 : decode cX4_again 73 = .ok (.iadd, 1) := dk_96 (dk_at dksX4_again_3 1 rfl rfl)
theorem dX4_again_74 : decode cX4_again 74 = .ok (.iaload, 1) := dk_46 (dk_at dksX4_again_3 2 rfl rfl)
theorem dX4_again_75 : decode cX4_again 75 = .ok (.iastore, 1) := dk_79 (dk_at dksX4_again_3 3 rfl rfl)
theorem dX4_again_76 : decode cX4_again 76 = .ok (.iinc 2 1, 3) := dk_132 2 1 (dk_at dksX4_again_3 4 rfl rfl)
theorem dX4_again_79 : decode cX4_again 79 = .ok (.goto (-45), 3) := dk_167 255 211 (dk_at dksX4_again_3 7 rfl rfl)
theorem dX4_again_82 : decode cX4_again 82 = .ok (.iconst 0, 1) := dk_3 (dk_at dksX4_again_3 10 rfl rfl)
theorem dX4_again_83 : decode cX4_again 83 = .ok (.istore_n 2, 1) := dk_61 (dk_at dksX4_again_3 11 rfl rfl)
theorem dX4_again_84 : decode cX4_again 84 = .ok (.iload_n 2, 1) := dk_28 (dk_at dksX4_again_3 12 rfl rfl)
theorem dX4_again_85 : decode cX4_again 85 = .ok (.iconst 4, 1) := dk_7 (dk_at dksX4_again_3 13 rfl rfl)
theorem dX4_again_86 : decode cX4_again 86 = .ok (.if_icmp .ge 33, 3) := dk_162 0 33 (dk_at dksX4_again_3 14 rfl rfl)
theorem dX4_again_89 : decode cX4_again 89 = .ok (.aload_n 0, 1) := dk_42 (dk_at dksX4_again_3 17 rfl rfl)
theorem dX4_again_90 : decode cX4_again 90 = .ok (.getfield 23, 3) := dk_180 0 23 (dk_at dksX4_again_3 18 rfl rfl)
theorem dX4_again_93 : decode cX4_again 93 = .ok (.iload_n 2, 1) := dk_28 (dk_at dksX4_again_3 21 rfl rfl)
theorem dX4_again_94 : decode cX4_again 94 = .ok (.aload_n 1, 1) := dk_43 (dk_at dksX4_again_3 22 rfl rfl)
theorem dX4_again_95 : decode cX4_again 95 = .ok (.bipush 91, 2) := dk_16 91 (dk_at dksX4_again_4 0 rfl rfl)
theorem dX4_again_97 : decode cX4_again 97 = .ok (.iload_n 2, 1) := dk_28 (dk_at dksX4_again_4 2 rfl rfl)
theorem dX4_again_98 : decode cX4_again 98 = .ok (.iadd, 1) := dk_96 (dk_at dksX4_again_4 3 rfl rfl)
theorem dX4_again_99 : decode cX4_again 99 = .ok (.iaload, 1) := dk_46 (dk_at dksX4_again_4 4 rfl rfl)
theorem dX4_again_100 : decode cX4_again 100 = .ok (.iastore, 1) := dk_79 (dk_at dksX4_again_4 5 rfl rfl)
theorem dX4_again_101 : decode cX4_again 101 = .ok (.aload_n 0, 1) := dk_42 (dk_at dksX4_again_4 6 rfl rfl)
theorem dX4_again_102 : decode cX4_again 102 = .ok (.getfield 26, 3) := dk_180 0 26 (dk_at dksX4_again_4 7 rfl rfl)
theorem dX4_again_105 : decode cX4_again 105 = .ok (.iload_n 2, 1) := dk_28 (dk_at dksX4_again_4 10 rfl rfl)
theorem dX4_again_106 : decode cX4_again 106 = .ok (.aload_n 1, 1) := dk_43 (dk_at dksX4_again_4 11 rfl rfl)
theorem dX4_again_107 : decode cX4_again 107 = .ok (.bipush 95, 2) := dk_16 95 (dk_at dksX4_again_4 12 rfl rfl)
theorem dX4_again_109 : decode cX4_again 109 = .ok (.iload_n 2, 1) := dk_28 (dk_at dksX4_again_4 14 rfl rfl)
theorem dX4_again_110 : decode cX4_again 110 = .ok (.iadd, 1) := dk_96 (dk_at dksX4_again_4 15 rfl rfl)
theorem dX4_again_111 : decode cX4_again 111 = .ok (.iaload, 1) := dk_46 (dk_at dksX4_again_4 16 rfl rfl)
theorem dX4_again_112 : decode cX4_again 112 = .ok (.iastore, 1) := dk_79 (dk_at dksX4_again_4 17 rfl rfl)
theorem dX4_again_113 : decode cX4_again 113 = .ok (.iinc 2 1, 3) := dk_132 2 1 (dk_at dksX4_again_4 18 rfl rfl)
theorem dX4_again_116 : decode cX4_again 116 = .ok (.goto (-32), 3) := dk_167 255 224 (dk_at dksX4_again_4 21 rfl rfl)
theorem dX4_again_119 : decode cX4_again 119 = .ok (.aload_n 0, 1) := dk_42 (dk_at dksX4_again_5 0 rfl rfl)
theorem dX4_again_120 : decode cX4_again 120 = .ok (.aload_n 1, 1) := dk_43 (dk_at dksX4_again_5 1 rfl rfl)
theorem dX4_again_121 : decode cX4_again 121 = .ok (.bipush 99, 2) := dk_16 99 (dk_at dksX4_again_5 2 rfl rfl)
theorem dX4_again_123 : decode cX4_again 123 = .ok (.iaload, 1) := dk_46 (dk_at dksX4_again_5 4 rfl rfl)
theorem dX4_again_124 : decode cX4_again 124 = .ok (.putfield 60, 3) := dk_181 0 60 (dk_at dksX4_again_5 5 rfl rfl)
theorem dX4_again_127 : decode cX4_again 127 = .ok (.aload_n 0, 1) := dk_42 (dk_at dksX4_again_5 8 rfl rfl)
theorem dX4_again_128 : decode cX4_again 128 = .ok (.aload_n 1, 1) := dk_43 (dk_at dksX4_again_5 9 rfl rfl)
theorem dX4_again_129 : decode cX4_again 129 = .ok (.bipush 100, 2) := dk_16 100 (dk_at dksX4_again_5 10 rfl rfl)
theorem dX4_again_131 : decode cX4_again 131 = .ok (.iaload, 1) := dk_46 (dk_at dksX4_again_5 12 rfl rfl)
theorem dX4_again_132 : decode cX4_again 132 = .ok (.putfield 114, 3) := dk_181 0 114 (dk_at dksX4_again_5 13 rfl rfl)
theorem dX4_again_135 : decode cX4_again 135 = .ok (.aload_n 0, 1) := dk_42 (dk_at dksX4_again_5 16 rfl rfl)
theorem dX4_again_136 : decode cX4_again 136 = .ok (.aload_n 1, 1) := dk_43 (dk_at dksX4_again_5 17 rfl rfl)
theorem dX4_again_137 : decode cX4_again 137 = .ok (.bipush 101, 2) := dk_16 101 (dk_at dksX4_again_5 18 rfl rfl)
theorem dX4_again_139 : decode cX4_again 139 = .ok (.iaload, 1) := dk_46 (dk_at dksX4_again_5 20 rfl rfl)
theorem dX4_again_140 : decode cX4_again 140 = .ok (.putfield 73, 3) := dk_181 0 73 (dk_at dksX4_again_5 21 rfl rfl)
theorem dX4_again_143 : decode cX4_again 143 = .ok (.aload_n 0, 1) := dk_42 (dk_at dksX4_again_6 0 rfl rfl)
theorem dX4_again_144 : decode cX4_again 144 = .ok (.aload_n 1, 1) := dk_43 (dk_at dksX4_again_6 1 rfl rfl)
theorem dX4_again_145 : decode cX4_again 145 = .ok (.bipush 102, 2) := dk_16 102 (dk_at dksX4_again_6 2 rfl rfl)
theorem dX4_again_147 : decode cX4_again 147 = .ok (.iaload, 1) := dk_46 (dk_at dksX4_again_6 4 rfl rfl)
theorem dX4_again_148 : decode cX4_again 148 = .ok (.putfield 76, 3) := dk_181 0 76 (dk_at dksX4_again_6 5 rfl rfl)
theorem dX4_again_151 : decode cX4_again 151 = .ok (.aload_n 0, 1) := dk_42 (dk_at dksX4_again_6 8 rfl rfl)
theorem dX4_again_152 : decode cX4_again 152 = .ok (.aload_n 1, 1) := dk_43 (dk_at dksX4_again_6 9 rfl rfl)
theorem dX4_again_153 : decode cX4_again 153 = .ok (.bipush 103, 2) := dk_16 103 (dk_at dksX4_again_6 10 rfl rfl)
theorem dX4_again_155 : decode cX4_again 155 = .ok (.iaload, 1) := dk_46 (dk_at dksX4_again_6 12 rfl rfl)
theorem dX4_again_156 : decode cX4_again 156 = .ok (.putfield 64, 3) := dk_181 0 64 (dk_at dksX4_again_6 13 rfl rfl)
theorem dX4_again_159 : decode cX4_again 159 = .ok (.return_, 1) := dk_177 (dk_at dksX4_again_6 16 rfl rfl)
def dkwX4_postOf_3 : List UInt8 := [182, 0, 111, 172]
abbrev dktX4_postOf_3 : List UInt8 := dkwX4_postOf_3 ++ []
def dkwX4_postOf_2 : List UInt8 := [180, 0, 17, 27, 46, 167, 0, 22, 28, 5, 160, 0, 12, 42, 180, 0, 20, 27, 46, 167, 0, 8, 42, 27]
abbrev dktX4_postOf_2 : List UInt8 := dkwX4_postOf_2 ++ dktX4_postOf_3
def dkwX4_postOf_1 : List UInt8 := [172, 42, 182, 0, 108, 28, 154, 0, 12, 42, 180, 0, 13, 27, 46, 167, 0, 36, 28, 4, 160, 0, 12, 42]
abbrev dktX4_postOf_1 : List UInt8 := dkwX4_postOf_1 ++ dktX4_postOf_2
def dkwX4_postOf_0 : List UInt8 := [42, 27, 133, 182, 0, 101, 153, 0, 12, 28, 3, 6, 184, 0, 79, 154, 0, 10, 42, 16, 254, 182, 0, 87]
abbrev dktX4_postOf_0 : List UInt8 := dkwX4_postOf_0 ++ dktX4_postOf_1
theorem dksX4_postOf_0 : cX4_postOf.data.toList.drop 0 = dktX4_postOf_0 := by decide +kernel
theorem dksX4_postOf_1 : cX4_postOf.data.toList.drop 24 = dktX4_postOf_1 := dk_seg dksX4_postOf_0 24 rfl rfl
theorem dksX4_postOf_2 : cX4_postOf.data.toList.drop 48 = dktX4_postOf_2 := dk_seg dksX4_postOf_1 24 rfl rfl
theorem dksX4_postOf_3 : cX4_postOf.data.toList.drop 72 = dktX4_postOf_3 := dk_seg dksX4_postOf_2 24 rfl rfl
theorem dX4_postOf_0 : decode cX4_postOf 0 = .ok (.aload_n 0, 1) := dk_42 (dk_at dksX4_postOf_0 0 rfl rfl)
theorem dX4_postOf_1 : decode cX4_postOf 1 = .ok (.iload_n 1, 1) := dk_27 (dk_at dksX4_postOf_0 1 rfl rfl)
theorem dX4_postOf_2 : decode cX4_postOf 2 = .ok (.i2l, 1) := dk_133 (dk_at dksX4_postOf_0 2 rfl rfl)
theorem dX4_postOf_3 : decode cX4_postOf 3 = .ok (.invokevirtual 101, 3) := dk_182 0 101 (dk_at dksX4_postOf_0 3 rfl rfl)
theorem dX4_postOf_6 : decode cX4_postOf 6 = .ok (.ifCond .eq 12, 3) := dk_153 0 12 (dk_at dksX4_postOf_0 6 rfl rfl)
theorem dX4_postOf_9 : decode cX4_postOf 9 = .ok (.iload_n 2, 1) := dk_28 (dk_at dksX4_postOf_0 9 rfl rfl)
theorem dX4_postOf_10 : decode cX4_postOf 10 = .ok (.iconst 0, 1) := dk_3 (dk_at dksX4_postOf_0 10 rfl rfl)
theorem dX4_postOf_11 : decode cX4_postOf 11 = .ok (.iconst 3, 1) := dk_6 (dk_at dksX4_postOf_0 11 rfl rfl)
theorem dX4_postOf_12 : decode cX4_postOf 12 = .ok (.invokestatic 79, 3) := dk_184 0 79 (dk_at dksX4_postOf_0 12 rfl rfl)
theorem dX4_postOf_15 : decode cX4_postOf 15 = .ok (.ifCond .ne 10, 3) := dk_154 0 10 (dk_at dksX4_postOf_0 15 rfl rfl)
theorem dX4_postOf_18 : decode cX4_postOf 18 = .ok (.aload_n 0, 1) := dk_42 (dk_at dksX4_postOf_0 18 rfl rfl)
theorem dX4_postOf_19 : decode cX4_postOf 19 = .ok (.bipush (-2), 2) := dk_16 254 (dk_at dksX4_postOf_0 19 rfl rfl)
theorem dX4_postOf_21 : decode cX4_postOf 21 = .ok (.invokevirtual 87, 3) := dk_182 0 87 (dk_at dksX4_postOf_0 21 rfl rfl)
theorem dX4_postOf_24 : decode cX4_postOf 24 = .ok (.ireturn, 1) := dk_172 (dk_at dksX4_postOf_1 0 rfl rfl)
theorem dX4_postOf_25 : decode cX4_postOf 25 = .ok (.aload_n 0, 1) := dk_42 (dk_at dksX4_postOf_1 1 rfl rfl)
theorem dX4_postOf_26 : decode cX4_postOf 26 = .ok (.invokevirtual 108, 3) := dk_182 0 108 (dk_at dksX4_postOf_1 2 rfl rfl)
theorem dX4_postOf_29 : decode cX4_postOf 29 = .ok (.iload_n 2, 1) := dk_28 (dk_at dksX4_postOf_1 5 rfl rfl)
theorem dX4_postOf_30 : decode cX4_postOf 30 = .ok (.ifCond .ne 12, 3) := dk_154 0 12 (dk_at dksX4_postOf_1 6 rfl rfl)
theorem dX4_postOf_33 : decode cX4_postOf 33 = .ok (.aload_n 0, 1) := dk_42 (dk_at dksX4_postOf_1 9 rfl rfl)
theorem dX4_postOf_34 : decode cX4_postOf 34 = .ok (.getfield 13, 3) := dk_180 0 13 (dk_at dksX4_postOf_1 10 rfl rfl)
theorem dX4_postOf_37 : decode cX4_postOf 37 = .ok (.iload_n 1, 1) := dk_27 (dk_at dksX4_postOf_1 13 rfl rfl)
theorem dX4_postOf_38 : decode cX4_postOf 38 = .ok (.iaload, 1) := dk_46 (dk_at dksX4_postOf_1 14 rfl rfl)
theorem dX4_postOf_39 : decode cX4_postOf 39 = .ok (.goto 36, 3) := dk_167 0 36 (dk_at dksX4_postOf_1 15 rfl rfl)
theorem dX4_postOf_42 : decode cX4_postOf 42 = .ok (.iload_n 2, 1) := dk_28 (dk_at dksX4_postOf_1 18 rfl rfl)
theorem dX4_postOf_43 : decode cX4_postOf 43 = .ok (.iconst 1, 1) := dk_4 (dk_at dksX4_postOf_1 19 rfl rfl)
theorem dX4_postOf_44 : decode cX4_postOf 44 = .ok (.if_icmp .ne 12, 3) := dk_160 0 12 (dk_at dksX4_postOf_1 20 rfl rfl)
theorem dX4_postOf_47 : decode cX4_postOf 47 = .ok (.aload_n 0, 1) := dk_42 (dk_at dksX4_postOf_1 23 rfl rfl)
theorem dX4_postOf_48 : decode cX4_postOf 48 = .ok (.getfield 17, 3) := dk_180 0 17 (dk_at dksX4_postOf_2 0 rfl rfl)
theorem dX4_postOf_51 : decode cX4_postOf 51 = .ok (.iload_n 1, 1) := dk_27 (dk_at dksX4_postOf_2 3 rfl rfl)
theorem dX4_postOf_52 : decode cX4_postOf 52 = .ok (.iaload, 1) := dk_46 (dk_at dksX4_postOf_2 4 rfl rfl)
theorem dX4_postOf_53 : decode cX4_postOf 53 = .ok (.goto 22, 3) := dk_167 0 22 (dk_at dksX4_postOf_2 5 rfl rfl)
theorem dX4_postOf_56 : decode cX4_postOf 56 = .ok (.iload_n 2, 1) := dk_28 (dk_at dksX4_postOf_2 8 rfl rfl)
theorem dX4_postOf_57 : decode cX4_postOf 57 = .ok (.iconst 2, 1) := dk_5 (dk_at dksX4_postOf_2 9 rfl rfl)
theorem dX4_postOf_58 : decode cX4_postOf 58 = .ok (.if_icmp .ne 12, 3) := dk_160 0 12 (dk_at dksX4_postOf_2 10 rfl rfl)
theorem dX4_postOf_61 : decode cX4_postOf 61 = .ok (.aload_n 0, 1) := dk_42 (dk_at dksX4_postOf_2 13 rfl rfl)
theorem dX4_postOf_62 : decode cX4_postOf 62 = .ok (.getfield 20, 3) := dk_180 0 20 (dk_at dksX4_postOf_2 14 rfl rfl)
theorem dX4_postOf_65 : decode cX4_postOf 65 = .ok (.iload_n 1, 1) := dk_27 (dk_at dksX4_postOf_2 17 rfl rfl)
theorem dX4_postOf_66 : decode cX4_postOf 66 = .ok (.iaload, 1) := dk_46 (dk_at dksX4_postOf_2 18 rfl rfl)
theorem dX4_postOf_67 : decode cX4_postOf 67 = .ok (.goto 8, 3) := dk_167 0 8 (dk_at dksX4_postOf_2 19 rfl rfl)
theorem dX4_postOf_70 : decode cX4_postOf 70 = .ok (.aload_n 0, 1) := dk_42 (dk_at dksX4_postOf_2 22 rfl rfl)
theorem dX4_postOf_71 : decode cX4_postOf 71 = .ok (.iload_n 1, 1) := dk_27 (dk_at dksX4_postOf_2 23 rfl rfl)
theorem dX4_postOf_72 : decode cX4_postOf 72 = .ok (.invokevirtual 111, 3) := dk_182 0 111 (dk_at dksX4_postOf_3 0 rfl rfl)
theorem dX4_postOf_75 : decode cX4_postOf 75 = .ok (.ireturn, 1) := dk_172 (dk_at dksX4_postOf_3 3 rfl rfl)
def dkwX4_walkerOf_4 : List UInt8 := [182, 0, 87, 172]
abbrev dktX4_walkerOf_4 : List UInt8 := dkwX4_walkerOf_4 ++ []
def dkwX4_walkerOf_3 : List UInt8 := [167, 0, 4, 3, 172, 42, 42, 180, 0, 23, 27, 46, 42, 180, 0, 114, 182, 0, 235, 172, 42, 16, 254]
abbrev dktX4_walkerOf_3 : List UInt8 := dkwX4_walkerOf_3 ++ dktX4_walkerOf_4
def dkwX4_walkerOf_2 : List UInt8 := [42, 180, 0, 23, 27, 46, 172, 42, 180, 0, 26, 27, 46, 172, 42, 27, 182, 0, 207, 153, 0, 7, 4]
abbrev dktX4_walkerOf_2 : List UInt8 := dkwX4_walkerOf_2 ++ dktX4_walkerOf_3
def dkwX4_walkerOf_1 : List UInt8 := [170, 0, 0, 0, 0, 0, 0, 75, 0, 0, 0, 0, 0, 0, 0, 3, 0, 0, 0, 32, 0, 0, 0, 39, 0, 0, 0, 46, 0, 0, 0, 60]
abbrev dktX4_walkerOf_1 : List UInt8 := dkwX4_walkerOf_1 ++ dktX4_walkerOf_2
def dkwX4_walkerOf_0 : List UInt8 := [42, 27, 182, 0, 128, 154, 0, 10, 42, 16, 254, 182, 0, 87, 172, 28]
abbrev dktX4_walkerOf_0 : List UInt8 := dkwX4_walkerOf_0 ++ dktX4_walkerOf_1
theorem dksX4_walkerOf_0 : cX4_walkerOf.data.toList.drop 0 = dktX4_walkerOf_0 := by decide +kernel
theorem dksX4_walkerOf_1 : cX4_walkerOf.data.toList.drop 16 = dktX4_walkerOf_1 := dk_seg dksX4_walkerOf_0 16 rfl rfl
theorem dksX4_walkerOf_2 : cX4_walkerOf.data.toList.drop 48 = dktX4_walkerOf_2 := dk_seg dksX4_walkerOf_1 32 rfl rfl
theorem dksX4_walkerOf_3 : cX4_walkerOf.data.toList.drop 71 = dktX4_walkerOf_3 := dk_seg dksX4_walkerOf_2 23 rfl rfl
theorem dksX4_walkerOf_4 : cX4_walkerOf.data.toList.drop 94 = dktX4_walkerOf_4 := dk_seg dksX4_walkerOf_3 23 rfl rfl
theorem dX4_walkerOf_0 : decode cX4_walkerOf 0 = .ok (.aload_n 0, 1) := dk_42 (dk_at dksX4_walkerOf_0 0 rfl rfl)
theorem dX4_walkerOf_1 : decode cX4_walkerOf 1 = .ok (.iload_n 1, 1) := dk_27 (dk_at dksX4_walkerOf_0 1 rfl rfl)
theorem dX4_walkerOf_2 : decode cX4_walkerOf 2 = .ok (.invokevirtual 128, 3) := dk_182 0 128 (dk_at dksX4_walkerOf_0 2 rfl rfl)
theorem dX4_walkerOf_5 : decode cX4_walkerOf 5 = .ok (.ifCond .ne 10, 3) := dk_154 0 10 (dk_at dksX4_walkerOf_0 5 rfl rfl)
theorem dX4_walkerOf_8 : decode cX4_walkerOf 8 = .ok (.aload_n 0, 1) := dk_42 (dk_at dksX4_walkerOf_0 8 rfl rfl)
theorem dX4_walkerOf_9 : decode cX4_walkerOf 9 = .ok (.bipush (-2), 2) := dk_16 254 (dk_at dksX4_walkerOf_0 9 rfl rfl)
theorem dX4_walkerOf_11 : decode cX4_walkerOf 11 = .ok (.invokevirtual 87, 3) := dk_182 0 87 (dk_at dksX4_walkerOf_0 11 rfl rfl)
theorem dX4_walkerOf_14 : decode cX4_walkerOf 14 = .ok (.ireturn, 1) := dk_172 (dk_at dksX4_walkerOf_0 14 rfl rfl)
theorem dX4_walkerOf_15 : decode cX4_walkerOf 15 = .ok (.iload_n 2, 1) := dk_28 (dk_at dksX4_walkerOf_0 15 rfl rfl)
theorem dX4_walkerOf_16 : decode cX4_walkerOf 16 = .ok (.tableswitch 75 0 3 #[32, 39, 46, 60], 32) := by decide +kernel
theorem dX4_walkerOf_48 : decode cX4_walkerOf 48 = .ok (.aload_n 0, 1) := dk_42 (dk_at dksX4_walkerOf_2 0 rfl rfl)
theorem dX4_walkerOf_49 : decode cX4_walkerOf 49 = .ok (.getfield 23, 3) := dk_180 0 23 (dk_at dksX4_walkerOf_2 1 rfl rfl)
theorem dX4_walkerOf_52 : decode cX4_walkerOf 52 = .ok (.iload_n 1, 1) := dk_27 (dk_at dksX4_walkerOf_2 4 rfl rfl)
theorem dX4_walkerOf_53 : decode cX4_walkerOf 53 = .ok (.iaload, 1) := dk_46 (dk_at dksX4_walkerOf_2 5 rfl rfl)
theorem dX4_walkerOf_54 : decode cX4_walkerOf 54 = .ok (.ireturn, 1) := dk_172 (dk_at dksX4_walkerOf_2 6 rfl rfl)
theorem dX4_walkerOf_55 : decode cX4_walkerOf 55 = .ok (.aload_n 0, 1) := dk_42 (dk_at dksX4_walkerOf_2 7 rfl rfl)
theorem dX4_walkerOf_56 : decode cX4_walkerOf 56 = .ok (.getfield 26, 3) := dk_180 0 26 (dk_at dksX4_walkerOf_2 8 rfl rfl)
theorem dX4_walkerOf_59 : decode cX4_walkerOf 59 = .ok (.iload_n 1, 1) := dk_27 (dk_at dksX4_walkerOf_2 11 rfl rfl)
theorem dX4_walkerOf_60 : decode cX4_walkerOf 60 = .ok (.iaload, 1) := dk_46 (dk_at dksX4_walkerOf_2 12 rfl rfl)
theorem dX4_walkerOf_61 : decode cX4_walkerOf 61 = .ok (.ireturn, 1) := dk_172 (dk_at dksX4_walkerOf_2 13 rfl rfl)
theorem dX4_walkerOf_62 : decode cX4_walkerOf 62 = .ok (.aload_n 0, 1) := dk_42 (dk_at dksX4_walkerOf_2 14 rfl rfl)
theorem dX4_walkerOf_63 : decode cX4_walkerOf 63 = .ok (.iload_n 1, 1) := dk_27 (dk_at dksX4_walkerOf_2 15 rfl rfl)
theorem dX4_walkerOf_64 : decode cX4_walkerOf 64 = .ok (.invokevirtual 207, 3) := dk_182 0 207 (dk_at dksX4_walkerOf_2 16 rfl rfl)
theorem dX4_walkerOf_67 : decode cX4_walkerOf 67 = .ok (.ifCond .eq 7, 3) := dk_153 0 7 (dk_at dksX4_walkerOf_2 19 rfl rfl)
theorem dX4_walkerOf_70 : decode cX4_walkerOf 70 = .ok (.iconst 1, 1) := dk_4 (dk_at dksX4_walkerOf_2 22 rfl rfl)
theorem dX4_walkerOf_71 : decode cX4_walkerOf 71 = .ok (.goto 4, 3) := dk_167 0 4 (dk_at dksX4_walkerOf_3 0 rfl rfl)
theorem dX4_walkerOf_74 : decode cX4_walkerOf 74 = .ok (.iconst 0, 1) := dk_3 (dk_at dksX4_walkerOf_3 3 rfl rfl)
theorem dX4_walkerOf_75 : decode cX4_walkerOf 75 = .ok (.ireturn, 1) := dk_172 (dk_at dksX4_walkerOf_3 4 rfl rfl)
theorem dX4_walkerOf_76 : decode cX4_walkerOf 76 = .ok (.aload_n 0, 1) := dk_42 (dk_at dksX4_walkerOf_3 5 rfl rfl)
theorem dX4_walkerOf_77 : decode cX4_walkerOf 77 = .ok (.aload_n 0, 1) := dk_42 (dk_at dksX4_walkerOf_3 6 rfl rfl)
theorem dX4_walkerOf_78 : decode cX4_walkerOf 78 = .ok (.getfield 23, 3) := dk_180 0 23 (dk_at dksX4_walkerOf_3 7 rfl rfl)
theorem dX4_walkerOf_81 : decode cX4_walkerOf 81 = .ok (.iload_n 1, 1) := dk_27 (dk_at dksX4_walkerOf_3 10 rfl rfl)
theorem dX4_walkerOf_82 : decode cX4_walkerOf 82 = .ok (.iaload, 1) := dk_46 (dk_at dksX4_walkerOf_3 11 rfl rfl)
theorem dX4_walkerOf_83 : decode cX4_walkerOf 83 = .ok (.aload_n 0, 1) := dk_42 (dk_at dksX4_walkerOf_3 12 rfl rfl)
theorem dX4_walkerOf_84 : decode cX4_walkerOf 84 = .ok (.getfield 114, 3) := dk_180 0 114 (dk_at dksX4_walkerOf_3 13 rfl rfl)
theorem dX4_walkerOf_87 : decode cX4_walkerOf 87 = .ok (.invokevirtual 235, 3) := dk_182 0 235 (dk_at dksX4_walkerOf_3 16 rfl rfl)
theorem dX4_walkerOf_90 : decode cX4_walkerOf 90 = .ok (.ireturn, 1) := dk_172 (dk_at dksX4_walkerOf_3 19 rfl rfl)
theorem dX4_walkerOf_91 : decode cX4_walkerOf 91 = .ok (.aload_n 0, 1) := dk_42 (dk_at dksX4_walkerOf_3 20 rfl rfl)
theorem dX4_walkerOf_92 : decode cX4_walkerOf 92 = .ok (.bipush (-2), 2) := dk_16 254 (dk_at dksX4_walkerOf_3 21 rfl rfl)
theorem dX4_walkerOf_94 : decode cX4_walkerOf 94 = .ok (.invokevirtual 87, 3) := dk_182 0 87 (dk_at dksX4_walkerOf_4 0 rfl rfl)
theorem dX4_walkerOf_97 : decode cX4_walkerOf 97 = .ok (.ireturn, 1) := dk_172 (dk_at dksX4_walkerOf_4 3 rfl rfl)
def dkwX4_pathOf_0 : List UInt8 := [42, 27, 182, 1, 47, 42, 180, 0, 54, 28, 46, 4, 100, 172]
abbrev dktX4_pathOf_0 : List UInt8 := dkwX4_pathOf_0 ++ []
theorem dksX4_pathOf_0 : cX4_pathOf.data.toList.drop 0 = dktX4_pathOf_0 := by decide +kernel
theorem dX4_pathOf_0 : decode cX4_pathOf 0 = .ok (.aload_n 0, 1) := dk_42 (dk_at dksX4_pathOf_0 0 rfl rfl)
theorem dX4_pathOf_1 : decode cX4_pathOf 1 = .ok (.iload_n 1, 1) := dk_27 (dk_at dksX4_pathOf_0 1 rfl rfl)
theorem dX4_pathOf_2 : decode cX4_pathOf 2 = .ok (.invokevirtual 303, 3) := dk_182 1 47 (dk_at dksX4_pathOf_0 2 rfl rfl)
theorem dX4_pathOf_5 : decode cX4_pathOf 5 = .ok (.aload_n 0, 1) := dk_42 (dk_at dksX4_pathOf_0 5 rfl rfl)
theorem dX4_pathOf_6 : decode cX4_pathOf 6 = .ok (.getfield 54, 3) := dk_180 0 54 (dk_at dksX4_pathOf_0 6 rfl rfl)
theorem dX4_pathOf_9 : decode cX4_pathOf 9 = .ok (.iload_n 2, 1) := dk_28 (dk_at dksX4_pathOf_0 9 rfl rfl)
theorem dX4_pathOf_10 : decode cX4_pathOf 10 = .ok (.iaload, 1) := dk_46 (dk_at dksX4_pathOf_0 10 rfl rfl)
theorem dX4_pathOf_11 : decode cX4_pathOf 11 = .ok (.iconst 1, 1) := dk_4 (dk_at dksX4_pathOf_0 11 rfl rfl)
theorem dX4_pathOf_12 : decode cX4_pathOf 12 = .ok (.isub, 1) := dk_100 (dk_at dksX4_pathOf_0 12 rfl rfl)
theorem dX4_pathOf_13 : decode cX4_pathOf 13 = .ok (.ireturn, 1) := dk_172 (dk_at dksX4_pathOf_0 13 rfl rfl)
def dkwX4_walks_5 : List UInt8 := [167, 255, 180, 132, 2, 1, 167, 255, 166, 177]
abbrev dktX4_walks_5 : List UInt8 := dkwX4_walks_5 ++ []
def dkwX4_walks_4 : List UInt8 := [46, 154, 0, 13, 42, 180, 0, 54, 21, 5, 28, 4, 96, 79, 132, 4, 1, 167, 255, 195, 132, 3, 1]
abbrev dktX4_walks_4 : List UInt8 := dkwX4_walks_4 ++ dktX4_walks_5
def dkwX4_walks_3 : List UInt8 := [182, 1, 44, 154, 0, 6, 167, 0, 32, 42, 29, 21, 4, 182, 1, 41, 54, 5, 42, 180, 0, 54, 21, 5]
abbrev dktX4_walks_3 : List UInt8 := dkwX4_walks_3 ++ dktX4_walks_4
def dkwX4_walks_2 : List UInt8 := [54, 4, 21, 4, 8, 162, 0, 61, 42, 180, 0, 54, 29, 46, 28, 160, 0, 45, 42, 29, 21, 4]
abbrev dktX4_walks_2 : List UInt8 := dkwX4_walks_2 ++ dktX4_walks_3
def dkwX4_walks_1 : List UInt8 := [180, 0, 54, 27, 4, 79, 4, 61, 28, 16, 50, 162, 0, 90, 3, 62, 29, 16, 67, 162, 0, 76, 4]
abbrev dktX4_walks_1 : List UInt8 := dkwX4_walks_1 ++ dktX4_walks_2
def dkwX4_walks_0 : List UInt8 := [3, 61, 28, 16, 67, 162, 0, 16, 42, 180, 0, 54, 28, 3, 79, 132, 2, 1, 167, 255, 240, 42]
abbrev dktX4_walks_0 : List UInt8 := dkwX4_walks_0 ++ dktX4_walks_1
theorem dksX4_walks_0 : cX4_walks.data.toList.drop 0 = dktX4_walks_0 := by decide +kernel
theorem dksX4_walks_1 : cX4_walks.data.toList.drop 22 = dktX4_walks_1 := dk_seg dksX4_walks_0 22 rfl rfl
theorem dksX4_walks_2 : cX4_walks.data.toList.drop 45 = dktX4_walks_2 := dk_seg dksX4_walks_1 23 rfl rfl
theorem dksX4_walks_3 : cX4_walks.data.toList.drop 67 = dktX4_walks_3 := dk_seg dksX4_walks_2 22 rfl rfl
theorem dksX4_walks_4 : cX4_walks.data.toList.drop 91 = dktX4_walks_4 := dk_seg dksX4_walks_3 24 rfl rfl
theorem dksX4_walks_5 : cX4_walks.data.toList.drop 114 = dktX4_walks_5 := dk_seg dksX4_walks_4 23 rfl rfl
theorem dX4_walks_0 : decode cX4_walks 0 = .ok (.iconst 0, 1) := dk_3 (dk_at dksX4_walks_0 0 rfl rfl)
theorem dX4_walks_1 : decode cX4_walks 1 = .ok (.istore_n 2, 1) := dk_61 (dk_at dksX4_walks_0 1 rfl rfl)
theorem dX4_walks_2 : decode cX4_walks 2 = .ok (.iload_n 2, 1) := dk_28 (dk_at dksX4_walks_0 2 rfl rfl)
theorem dX4_walks_3 : decode cX4_walks 3 = .ok (.bipush 67, 2) := dk_16 67 (dk_at dksX4_walks_0 3 rfl rfl)
theorem dX4_walks_5 : decode cX4_walks 5 = .ok (.if_icmp .ge 16, 3) := dk_162 0 16 (dk_at dksX4_walks_0 5 rfl rfl)
theorem dX4_walks_8 : decode cX4_walks 8 = .ok (.aload_n 0, 1) := dk_42 (dk_at dksX4_walks_0 8 rfl rfl)
theorem dX4_walks_9 : decode cX4_walks 9 = .ok (.getfield 54, 3) := dk_180 0 54 (dk_at dksX4_walks_0 9 rfl rfl)
theorem dX4_walks_12 : decode cX4_walks 12 = .ok (.iload_n 2, 1) := dk_28 (dk_at dksX4_walks_0 12 rfl rfl)
theorem dX4_walks_13 : decode cX4_walks 13 = .ok (.iconst 0, 1) := dk_3 (dk_at dksX4_walks_0 13 rfl rfl)
theorem dX4_walks_14 : decode cX4_walks 14 = .ok (.iastore, 1) := dk_79 (dk_at dksX4_walks_0 14 rfl rfl)
theorem dX4_walks_15 : decode cX4_walks 15 = .ok (.iinc 2 1, 3) := dk_132 2 1 (dk_at dksX4_walks_0 15 rfl rfl)
theorem dX4_walks_18 : decode cX4_walks 18 = .ok (.goto (-16), 3) := dk_167 255 240 (dk_at dksX4_walks_0 18 rfl rfl)
theorem dX4_walks_21 : decode cX4_walks 21 = .ok (.aload_n 0, 1) := dk_42 (dk_at dksX4_walks_0 21 rfl rfl)
theorem dX4_walks_22 : decode cX4_walks 22 = .ok (.getfield 54, 3) := dk_180 0 54 (dk_at dksX4_walks_1 0 rfl rfl)
theorem dX4_walks_25 : decode cX4_walks 25 = .ok (.iload_n 1, 1) := dk_27 (dk_at dksX4_walks_1 3 rfl rfl)
theorem dX4_walks_26 : decode cX4_walks 26 = .ok (.iconst 1, 1) := dk_4 (dk_at dksX4_walks_1 4 rfl rfl)
theorem dX4_walks_27 : decode cX4_walks 27 = .ok (.iastore, 1) := dk_79 (dk_at dksX4_walks_1 5 rfl rfl)
theorem dX4_walks_28 : decode cX4_walks 28 = .ok (.iconst 1, 1) := dk_4 (dk_at dksX4_walks_1 6 rfl rfl)
theorem dX4_walks_29 : decode cX4_walks 29 = .ok (.istore_n 2, 1) := dk_61 (dk_at dksX4_walks_1 7 rfl rfl)
theorem dX4_walks_30 : decode cX4_walks 30 = .ok (.iload_n 2, 1) := dk_28 (dk_at dksX4_walks_1 8 rfl rfl)
theorem dX4_walks_31 : decode cX4_walks 31 = .ok (.bipush 50, 2) := dk_16 50 (dk_at dksX4_walks_1 9 rfl rfl)
theorem dX4_walks_33 : decode cX4_walks 33 = .ok (.if_icmp .ge 90, 3) := dk_162 0 90 (dk_at dksX4_walks_1 11 rfl rfl)
theorem dX4_walks_36 : decode cX4_walks 36 = .ok (.iconst 0, 1) := dk_3 (dk_at dksX4_walks_1 14 rfl rfl)
theorem dX4_walks_37 : decode cX4_walks 37 = .ok (.istore_n 3, 1) := dk_62 (dk_at dksX4_walks_1 15 rfl rfl)
theorem dX4_walks_38 : decode cX4_walks 38 = .ok (.iload_n 3, 1) := dk_29 (dk_at dksX4_walks_1 16 rfl rfl)
theorem dX4_walks_39 : decode cX4_walks 39 = .ok (.bipush 67, 2) := dk_16 67 (dk_at dksX4_walks_1 17 rfl rfl)
theorem dX4_walks_41 : decode cX4_walks 41 = .ok (.if_icmp .ge 76, 3) := dk_162 0 76 (dk_at dksX4_walks_1 19 rfl rfl)
theorem dX4_walks_44 : decode cX4_walks 44 = .ok (.iconst 1, 1) := dk_4 (dk_at dksX4_walks_1 22 rfl rfl)
theorem dX4_walks_45 : decode cX4_walks 45 = .ok (.istore 4, 2) := dk_54 4 (dk_at dksX4_walks_2 0 rfl rfl)
theorem dX4_walks_47 : decode cX4_walks 47 = .ok (.iload 4, 2) := dk_21 4 (dk_at dksX4_walks_2 2 rfl rfl)
theorem dX4_walks_49 : decode cX4_walks 49 = .ok (.iconst 5, 1) := dk_8 (dk_at dksX4_walks_2 4 rfl rfl)
theorem dX4_walks_50 : decode cX4_walks 50 = .ok (.if_icmp .ge 61, 3) := dk_162 0 61 (dk_at dksX4_walks_2 5 rfl rfl)
theorem dX4_walks_53 : decode cX4_walks 53 = .ok (.aload_n 0, 1) := dk_42 (dk_at dksX4_walks_2 8 rfl rfl)
theorem dX4_walks_54 : decode cX4_walks 54 = .ok (.getfield 54, 3) := dk_180 0 54 (dk_at dksX4_walks_2 9 rfl rfl)
theorem dX4_walks_57 : decode cX4_walks 57 = .ok (.iload_n 3, 1) := dk_29 (dk_at dksX4_walks_2 12 rfl rfl)
theorem dX4_walks_58 : decode cX4_walks 58 = .ok (.iaload, 1) := dk_46 (dk_at dksX4_walks_2 13 rfl rfl)
theorem dX4_walks_59 : decode cX4_walks 59 = .ok (.iload_n 2, 1) := dk_28 (dk_at dksX4_walks_2 14 rfl rfl)
theorem dX4_walks_60 : decode cX4_walks 60 = .ok (.if_icmp .ne 45, 3) := dk_160 0 45 (dk_at dksX4_walks_2 15 rfl rfl)
theorem dX4_walks_63 : decode cX4_walks 63 = .ok (.aload_n 0, 1) := dk_42 (dk_at dksX4_walks_2 18 rfl rfl)
theorem dX4_walks_64 : decode cX4_walks 64 = .ok (.iload_n 3, 1) := dk_29 (dk_at dksX4_walks_2 19 rfl rfl)
theorem dX4_walks_65 : decode cX4_walks 65 = .ok (.iload 4, 2) := dk_21 4 (dk_at dksX4_walks_2 20 rfl rfl)
theorem dX4_walks_67 : decode cX4_walks 67 = .ok (.invokevirtual 300, 3) := dk_182 1 44 (dk_at dksX4_walks_3 0 rfl rfl)
theorem dX4_walks_70 : decode cX4_walks 70 = .ok (.ifCond .ne 6, 3) := dk_154 0 6 (dk_at dksX4_walks_3 3 rfl rfl)
theorem dX4_walks_73 : decode cX4_walks 73 = .ok (.goto 32, 3) := dk_167 0 32 (dk_at dksX4_walks_3 6 rfl rfl)
theorem dX4_walks_76 : decode cX4_walks 76 = .ok (.aload_n 0, 1) := dk_42 (dk_at dksX4_walks_3 9 rfl rfl)
theorem dX4_walks_77 : decode cX4_walks 77 = .ok (.iload_n 3, 1) := dk_29 (dk_at dksX4_walks_3 10 rfl rfl)
theorem dX4_walks_78 : decode cX4_walks 78 = .ok (.iload 4, 2) := dk_21 4 (dk_at dksX4_walks_3 11 rfl rfl)
theorem dX4_walks_80 : decode cX4_walks 80 = .ok (.invokevirtual 297, 3) := dk_182 1 41 (dk_at dksX4_walks_3 13 rfl rfl)
theorem dX4_walks_83 : decode cX4_walks 83 = .ok (.istore 5, 2) := dk_54 5 (dk_at dksX4_walks_3 16 rfl rfl)
theorem dX4_walks_85 : decode cX4_walks 85 = .ok (.aload_n 0, 1) := dk_42 (dk_at dksX4_walks_3 18 rfl rfl)
theorem dX4_walks_86 : decode cX4_walks 86 = .ok (.getfield 54, 3) := dk_180 0 54 (dk_at dksX4_walks_3 19 rfl rfl)
theorem dX4_walks_89 : decode cX4_walks 89 = .ok (.iload 5, 2) := dk_21 5 (dk_at dksX4_walks_3 22 rfl rfl)
theorem dX4_walks_91 : decode cX4_walks 91 = .ok (.iaload, 1) := dk_46 (dk_at dksX4_walks_4 0 rfl rfl)
theorem dX4_walks_92 : decode cX4_walks 92 = .ok (.ifCond .ne 13, 3) := dk_154 0 13 (dk_at dksX4_walks_4 1 rfl rfl)
theorem dX4_walks_95 : decode cX4_walks 95 = .ok (.aload_n 0, 1) := dk_42 (dk_at dksX4_walks_4 4 rfl rfl)
theorem dX4_walks_96 : decode cX4_walks 96 = .ok (.getfield 54, 3) := dk_180 0 54 (dk_at dksX4_walks_4 5 rfl rfl)
theorem dX4_walks_99 : decode cX4_walks 99 = .ok (.iload 5, 2) := dk_21 5 (dk_at dksX4_walks_4 8 rfl rfl)
theorem dX4_walks_101 : decode cX4_walks 101 = .ok (.iload_n 2, 1) := dk_28 (dk_at dksX4_walks_4 10 rfl rfl)
theorem dX4_walks_102 : decode cX4_walks 102 = .ok (.iconst 1, 1) := dk_4 (dk_at dksX4_walks_4 11 rfl rfl)
theorem dX4_walks_103 : decode cX4_walks 103 = .ok (.iadd, 1) := dk_96 (dk_at dksX4_walks_4 12 rfl rfl)
theorem dX4_walks_104 : decode cX4_walks 104 = .ok (.iastore, 1) := dk_79 (dk_at dksX4_walks_4 13 rfl rfl)
theorem dX4_walks_105 : decode cX4_walks 105 = .ok (.iinc 4 1, 3) := dk_132 4 1 (dk_at dksX4_walks_4 14 rfl rfl)
theorem dX4_walks_108 : decode cX4_walks 108 = .ok (.goto (-61), 3) := dk_167 255 195 (dk_at dksX4_walks_4 17 rfl rfl)
theorem dX4_walks_111 : decode cX4_walks 111 = .ok (.iinc 3 1, 3) := dk_132 3 1 (dk_at dksX4_walks_4 20 rfl rfl)
theorem dX4_walks_114 : decode cX4_walks 114 = .ok (.goto (-76), 3) := dk_167 255 180 (dk_at dksX4_walks_5 0 rfl rfl)
theorem dX4_walks_117 : decode cX4_walks 117 = .ok (.iinc 2 1, 3) := dk_132 2 1 (dk_at dksX4_walks_5 3 rfl rfl)
theorem dX4_walks_120 : decode cX4_walks 120 = .ok (.goto (-90), 3) := dk_167 255 166 (dk_at dksX4_walks_5 6 rfl rfl)
theorem dX4_walks_123 : decode cX4_walks 123 = .ok (.return_, 1) := dk_177 (dk_at dksX4_walks_5 9 rfl rfl)
def dkwX4_can_1 : List UInt8 := [51, 154, 0, 7, 4, 167, 0, 4, 3, 172]
abbrev dktX4_can_1 : List UInt8 := dkwX4_can_1 ++ []
def dkwX4_can_0 : List UInt8 := [28, 153, 0, 27, 42, 27, 28, 182, 1, 41, 2, 159, 0, 21, 42, 180, 0, 7, 42, 27, 28, 182, 1, 41]
abbrev dktX4_can_0 : List UInt8 := dkwX4_can_0 ++ dktX4_can_1
theorem dksX4_can_0 : cX4_can.data.toList.drop 0 = dktX4_can_0 := by decide +kernel
theorem dksX4_can_1 : cX4_can.data.toList.drop 24 = dktX4_can_1 := dk_seg dksX4_can_0 24 rfl rfl
theorem dX4_can_0 : decode cX4_can 0 = .ok (.iload_n 2, 1) := dk_28 (dk_at dksX4_can_0 0 rfl rfl)
theorem dX4_can_1 : decode cX4_can 1 = .ok (.ifCond .eq 27, 3) := dk_153 0 27 (dk_at dksX4_can_0 1 rfl rfl)
theorem dX4_can_4 : decode cX4_can 4 = .ok (.aload_n 0, 1) := dk_42 (dk_at dksX4_can_0 4 rfl rfl)
theorem dX4_can_5 : decode cX4_can 5 = .ok (.iload_n 1, 1) := dk_27 (dk_at dksX4_can_0 5 rfl rfl)
theorem dX4_can_6 : decode cX4_can 6 = .ok (.iload_n 2, 1) := dk_28 (dk_at dksX4_can_0 6 rfl rfl)
theorem dX4_can_7 : decode cX4_can 7 = .ok (.invokevirtual 297, 3) := dk_182 1 41 (dk_at dksX4_can_0 7 rfl rfl)
theorem dX4_can_10 : decode cX4_can 10 = .ok (.iconst (-1), 1) := dk_2 (dk_at dksX4_can_0 10 rfl rfl)
theorem dX4_can_11 : decode cX4_can 11 = .ok (.if_icmp .eq 21, 3) := dk_159 0 21 (dk_at dksX4_can_0 11 rfl rfl)
theorem dX4_can_14 : decode cX4_can 14 = .ok (.aload_n 0, 1) := dk_42 (dk_at dksX4_can_0 14 rfl rfl)
theorem dX4_can_15 : decode cX4_can 15 = .ok (.getfield 7, 3) := dk_180 0 7 (dk_at dksX4_can_0 15 rfl rfl)
theorem dX4_can_18 : decode cX4_can 18 = .ok (.aload_n 0, 1) := dk_42 (dk_at dksX4_can_0 18 rfl rfl)
theorem dX4_can_19 : decode cX4_can 19 = .ok (.iload_n 1, 1) := dk_27 (dk_at dksX4_can_0 19 rfl rfl)
theorem dX4_can_20 : decode cX4_can 20 = .ok (.iload_n 2, 1) := dk_28 (dk_at dksX4_can_0 20 rfl rfl)
theorem dX4_can_21 : decode cX4_can 21 = .ok (.invokevirtual 297, 3) := dk_182 1 41 (dk_at dksX4_can_0 21 rfl rfl)
theorem dX4_can_24 : decode cX4_can 24 = .ok (.baload, 1) := dk_51 (dk_at dksX4_can_1 0 rfl rfl)
theorem dX4_can_25 : decode cX4_can 25 = .ok (.ifCond .ne 7, 3) := dk_154 0 7 (dk_at dksX4_can_1 1 rfl rfl)
theorem dX4_can_28 : decode cX4_can 28 = .ok (.iconst 1, 1) := dk_4 (dk_at dksX4_can_1 4 rfl rfl)
theorem dX4_can_29 : decode cX4_can 29 = .ok (.goto 4, 3) := dk_167 0 4 (dk_at dksX4_can_1 5 rfl rfl)
theorem dX4_can_32 : decode cX4_can 32 = .ok (.iconst 0, 1) := dk_3 (dk_at dksX4_can_1 8 rfl rfl)
theorem dX4_can_33 : decode cX4_can 33 = .ok (.ireturn, 1) := dk_172 (dk_at dksX4_can_1 9 rfl rfl)
def dkwX4_beside_3 : List UInt8 := [4, 100, 184, 0, 79, 153, 0, 13, 16, 10, 29, 104, 21, 4, 96, 167, 0, 4, 2, 172]
abbrev dktX4_beside_3 : List UInt8 := dkwX4_beside_3 ++ []
def dkwX4_beside_2 : List UInt8 := [96, 54, 4, 29, 3, 42, 180, 0, 60, 4, 100, 184, 0, 79, 153, 0, 28, 21, 4, 3, 42, 180, 0, 60]
abbrev dktX4_beside_2 : List UInt8 := dkwX4_beside_2 ++ dktX4_beside_3
def dkwX4_beside_1 : List UInt8 := [62, 27, 16, 10, 112, 28, 6, 160, 0, 7, 2, 167, 0, 13, 28, 7, 160, 0, 7, 4, 167, 0, 4, 3]
abbrev dktX4_beside_1 : List UInt8 := dkwX4_beside_1 ++ dktX4_beside_2
def dkwX4_beside_0 : List UInt8 := [27, 16, 10, 108, 28, 4, 160, 0, 7, 2, 167, 0, 13, 28, 5, 160, 0, 7, 4, 167, 0, 4, 3, 96]
abbrev dktX4_beside_0 : List UInt8 := dkwX4_beside_0 ++ dktX4_beside_1
theorem dksX4_beside_0 : cX4_beside.data.toList.drop 0 = dktX4_beside_0 := by decide +kernel
theorem dksX4_beside_1 : cX4_beside.data.toList.drop 24 = dktX4_beside_1 := dk_seg dksX4_beside_0 24 rfl rfl
theorem dksX4_beside_2 : cX4_beside.data.toList.drop 48 = dktX4_beside_2 := dk_seg dksX4_beside_1 24 rfl rfl
theorem dksX4_beside_3 : cX4_beside.data.toList.drop 72 = dktX4_beside_3 := dk_seg dksX4_beside_2 24 rfl rfl
theorem dX4_beside_0 : decode cX4_beside 0 = .ok (.iload_n 1, 1) := dk_27 (dk_at dksX4_beside_0 0 rfl rfl)
theorem dX4_beside_1 : decode cX4_beside 1 = .ok (.bipush 10, 2) := dk_16 10 (dk_at dksX4_beside_0 1 rfl rfl)
theorem dX4_beside_3 : decode cX4_beside 3 = .ok (.idiv, 1) := dk_108 (dk_at dksX4_beside_0 3 rfl rfl)
theorem dX4_beside_4 : decode cX4_beside 4 = .ok (.iload_n 2, 1) := dk_28 (dk_at dksX4_beside_0 4 rfl rfl)
theorem dX4_beside_5 : decode cX4_beside 5 = .ok (.iconst 1, 1) := dk_4 (dk_at dksX4_beside_0 5 rfl rfl)
theorem dX4_beside_6 : decode cX4_beside 6 = .ok (.if_icmp .ne 7, 3) := dk_160 0 7 (dk_at dksX4_beside_0 6 rfl rfl)
theorem dX4_beside_9 : decode cX4_beside 9 = .ok (.iconst (-1), 1) := dk_2 (dk_at dksX4_beside_0 9 rfl rfl)
theorem dX4_beside_10 : decode cX4_beside 10 = .ok (.goto 13, 3) := dk_167 0 13 (dk_at dksX4_beside_0 10 rfl rfl)
theorem dX4_beside_13 : decode cX4_beside 13 = .ok (.iload_n 2, 1) := dk_28 (dk_at dksX4_beside_0 13 rfl rfl)
theorem dX4_beside_14 : decode cX4_beside 14 = .ok (.iconst 2, 1) := dk_5 (dk_at dksX4_beside_0 14 rfl rfl)
theorem dX4_beside_15 : decode cX4_beside 15 = .ok (.if_icmp .ne 7, 3) := dk_160 0 7 (dk_at dksX4_beside_0 15 rfl rfl)
theorem dX4_beside_18 : decode cX4_beside 18 = .ok (.iconst 1, 1) := dk_4 (dk_at dksX4_beside_0 18 rfl rfl)
theorem dX4_beside_19 : decode cX4_beside 19 = .ok (.goto 4, 3) := dk_167 0 4 (dk_at dksX4_beside_0 19 rfl rfl)
theorem dX4_beside_22 : decode cX4_beside 22 = .ok (.iconst 0, 1) := dk_3 (dk_at dksX4_beside_0 22 rfl rfl)
theorem dX4_beside_23 : decode cX4_beside 23 = .ok (.iadd, 1) := dk_96 (dk_at dksX4_beside_0 23 rfl rfl)
theorem dX4_beside_24 : decode cX4_beside 24 = .ok (.istore_n 3, 1) := dk_62 (dk_at dksX4_beside_1 0 rfl rfl)
theorem dX4_beside_25 : decode cX4_beside 25 = .ok (.iload_n 1, 1) := dk_27 (dk_at dksX4_beside_1 1 rfl rfl)
theorem dX4_beside_26 : decode cX4_beside 26 = .ok (.bipush 10, 2) := dk_16 10 (dk_at dksX4_beside_1 2 rfl rfl)
theorem dX4_beside_28 : decode cX4_beside 28 = .ok (.irem, 1) := dk_112 (dk_at dksX4_beside_1 4 rfl rfl)
theorem dX4_beside_29 : decode cX4_beside 29 = .ok (.iload_n 2, 1) := dk_28 (dk_at dksX4_beside_1 5 rfl rfl)
theorem dX4_beside_30 : decode cX4_beside 30 = .ok (.iconst 3, 1) := dk_6 (dk_at dksX4_beside_1 6 rfl rfl)
theorem dX4_beside_31 : decode cX4_beside 31 = .ok (.if_icmp .ne 7, 3) := dk_160 0 7 (dk_at dksX4_beside_1 7 rfl rfl)
theorem dX4_beside_34 : decode cX4_beside 34 = .ok (.iconst (-1), 1) := dk_2 (dk_at dksX4_beside_1 10 rfl rfl)
theorem dX4_beside_35 : decode cX4_beside 35 = .ok (.goto 13, 3) := dk_167 0 13 (dk_at dksX4_beside_1 11 rfl rfl)
theorem dX4_beside_38 : decode cX4_beside 38 = .ok (.iload_n 2, 1) := dk_28 (dk_at dksX4_beside_1 14 rfl rfl)
theorem dX4_beside_39 : decode cX4_beside 39 = .ok (.iconst 4, 1) := dk_7 (dk_at dksX4_beside_1 15 rfl rfl)
theorem dX4_beside_40 : decode cX4_beside 40 = .ok (.if_icmp .ne 7, 3) := dk_160 0 7 (dk_at dksX4_beside_1 16 rfl rfl)
theorem dX4_beside_43 : decode cX4_beside 43 = .ok (.iconst 1, 1) := dk_4 (dk_at dksX4_beside_1 19 rfl rfl)
theorem dX4_beside_44 : decode cX4_beside 44 = .ok (.goto 4, 3) := dk_167 0 4 (dk_at dksX4_beside_1 20 rfl rfl)
theorem dX4_beside_47 : decode cX4_beside 47 = .ok (.iconst 0, 1) := dk_3 (dk_at dksX4_beside_1 23 rfl rfl)
theorem dX4_beside_48 : decode cX4_beside 48 = .ok (.iadd, 1) := dk_96 (dk_at dksX4_beside_2 0 rfl rfl)
theorem dX4_beside_49 : decode cX4_beside 49 = .ok (.istore 4, 2) := dk_54 4 (dk_at dksX4_beside_2 1 rfl rfl)
theorem dX4_beside_51 : decode cX4_beside 51 = .ok (.iload_n 3, 1) := dk_29 (dk_at dksX4_beside_2 3 rfl rfl)
theorem dX4_beside_52 : decode cX4_beside 52 = .ok (.iconst 0, 1) := dk_3 (dk_at dksX4_beside_2 4 rfl rfl)
theorem dX4_beside_53 : decode cX4_beside 53 = .ok (.aload_n 0, 1) := dk_42 (dk_at dksX4_beside_2 5 rfl rfl)
theorem dX4_beside_54 : decode cX4_beside 54 = .ok (.getfield 60, 3) := dk_180 0 60 (dk_at dksX4_beside_2 6 rfl rfl)
theorem dX4_beside_57 : decode cX4_beside 57 = .ok (.iconst 1, 1) := dk_4 (dk_at dksX4_beside_2 9 rfl rfl)
theorem dX4_beside_58 : decode cX4_beside 58 = .ok (.isub, 1) := dk_100 (dk_at dksX4_beside_2 10 rfl rfl)
theorem dX4_beside_59 : decode cX4_beside 59 = .ok (.invokestatic 79, 3) := dk_184 0 79 (dk_at dksX4_beside_2 11 rfl rfl)
theorem dX4_beside_62 : decode cX4_beside 62 = .ok (.ifCond .eq 28, 3) := dk_153 0 28 (dk_at dksX4_beside_2 14 rfl rfl)
theorem dX4_beside_65 : decode cX4_beside 65 = .ok (.iload 4, 2) := dk_21 4 (dk_at dksX4_beside_2 17 rfl rfl)
theorem dX4_beside_67 : decode cX4_beside 67 = .ok (.iconst 0, 1) := dk_3 (dk_at dksX4_beside_2 19 rfl rfl)
theorem dX4_beside_68 : decode cX4_beside 68 = .ok (.aload_n 0, 1) := dk_42 (dk_at dksX4_beside_2 20 rfl rfl)
theorem dX4_beside_69 : decode cX4_beside 69 = .ok (.getfield 60, 3) := dk_180 0 60 (dk_at dksX4_beside_2 21 rfl rfl)
theorem dX4_beside_72 : decode cX4_beside 72 = .ok (.iconst 1, 1) := dk_4 (dk_at dksX4_beside_3 0 rfl rfl)
theorem dX4_beside_73 : decode cX4_beside 73 = .ok (.isub, 1) := dk_100 (dk_at dksX4_beside_3 1 rfl rfl)
theorem dX4_beside_74 : decode cX4_beside 74 = .ok (.invokestatic 79, 3) := dk_184 0 79 (dk_at dksX4_beside_3 2 rfl rfl)
theorem dX4_beside_77 : decode cX4_beside 77 = .ok (.ifCond .eq 13, 3) := dk_153 0 13 (dk_at dksX4_beside_3 5 rfl rfl)
theorem dX4_beside_80 : decode cX4_beside 80 = .ok (.bipush 10, 2) := dk_16 10 (dk_at dksX4_beside_3 8 rfl rfl)
theorem dX4_beside_82 : decode cX4_beside 82 = .ok (.iload_n 3, 1) := dk_29 (dk_at dksX4_beside_3 10 rfl rfl)
theorem dX4_beside_83 : decode cX4_beside 83 = .ok (.imul, 1) := dk_104 (dk_at dksX4_beside_3 11 rfl rfl)
theorem dX4_beside_84 : decode cX4_beside 84 = .ok (.iload 4, 2) := dk_21 4 (dk_at dksX4_beside_3 12 rfl rfl)
theorem dX4_beside_86 : decode cX4_beside 86 = .ok (.iadd, 1) := dk_96 (dk_at dksX4_beside_3 14 rfl rfl)
theorem dX4_beside_87 : decode cX4_beside 87 = .ok (.goto 4, 3) := dk_167 0 4 (dk_at dksX4_beside_3 15 rfl rfl)
theorem dX4_beside_90 : decode cX4_beside 90 = .ok (.iconst (-1), 1) := dk_2 (dk_at dksX4_beside_3 18 rfl rfl)
theorem dX4_beside_91 : decode cX4_beside 91 = .ok (.ireturn, 1) := dk_172 (dk_at dksX4_beside_3 19 rfl rfl)
def dkwX4_isBog_1 : List UInt8 := [167, 0, 9, 42, 16, 254, 182, 0, 87, 172]
abbrev dktX4_isBog_1 : List UInt8 := dkwX4_isBog_1 ++ []
def dkwX4_isBog_0 : List UInt8 := [42, 27, 133, 182, 0, 69, 153, 0, 20, 42, 180, 0, 7, 27, 51, 153, 0, 7, 4, 167, 0, 13, 3]
abbrev dktX4_isBog_0 : List UInt8 := dkwX4_isBog_0 ++ dktX4_isBog_1
theorem dksX4_isBog_0 : cX4_isBog.data.toList.drop 0 = dktX4_isBog_0 := by decide +kernel
theorem dksX4_isBog_1 : cX4_isBog.data.toList.drop 23 = dktX4_isBog_1 := dk_seg dksX4_isBog_0 23 rfl rfl
theorem dX4_isBog_0 : decode cX4_isBog 0 = .ok (.aload_n 0, 1) := dk_42 (dk_at dksX4_isBog_0 0 rfl rfl)
theorem dX4_isBog_1 : decode cX4_isBog 1 = .ok (.iload_n 1, 1) := dk_27 (dk_at dksX4_isBog_0 1 rfl rfl)
theorem dX4_isBog_2 : decode cX4_isBog 2 = .ok (.i2l, 1) := dk_133 (dk_at dksX4_isBog_0 2 rfl rfl)
theorem dX4_isBog_3 : decode cX4_isBog 3 = .ok (.invokevirtual 69, 3) := dk_182 0 69 (dk_at dksX4_isBog_0 3 rfl rfl)
theorem dX4_isBog_6 : decode cX4_isBog 6 = .ok (.ifCond .eq 20, 3) := dk_153 0 20 (dk_at dksX4_isBog_0 6 rfl rfl)
theorem dX4_isBog_9 : decode cX4_isBog 9 = .ok (.aload_n 0, 1) := dk_42 (dk_at dksX4_isBog_0 9 rfl rfl)
theorem dX4_isBog_10 : decode cX4_isBog 10 = .ok (.getfield 7, 3) := dk_180 0 7 (dk_at dksX4_isBog_0 10 rfl rfl)
theorem dX4_isBog_13 : decode cX4_isBog 13 = .ok (.iload_n 1, 1) := dk_27 (dk_at dksX4_isBog_0 13 rfl rfl)
theorem dX4_isBog_14 : decode cX4_isBog 14 = .ok (.baload, 1) := dk_51 (dk_at dksX4_isBog_0 14 rfl rfl)
theorem dX4_isBog_15 : decode cX4_isBog 15 = .ok (.ifCond .eq 7, 3) := dk_153 0 7 (dk_at dksX4_isBog_0 15 rfl rfl)
theorem dX4_isBog_18 : decode cX4_isBog 18 = .ok (.iconst 1, 1) := dk_4 (dk_at dksX4_isBog_0 18 rfl rfl)
theorem dX4_isBog_19 : decode cX4_isBog 19 = .ok (.goto 13, 3) := dk_167 0 13 (dk_at dksX4_isBog_0 19 rfl rfl)
theorem dX4_isBog_22 : decode cX4_isBog 22 = .ok (.iconst 0, 1) := dk_3 (dk_at dksX4_isBog_0 22 rfl rfl)
theorem dX4_isBog_23 : decode cX4_isBog 23 = .ok (.goto 9, 3) := dk_167 0 9 (dk_at dksX4_isBog_1 0 rfl rfl)
theorem dX4_isBog_26 : decode cX4_isBog 26 = .ok (.aload_n 0, 1) := dk_42 (dk_at dksX4_isBog_1 3 rfl rfl)
theorem dX4_isBog_27 : decode cX4_isBog 27 = .ok (.bipush (-2), 2) := dk_16 254 (dk_at dksX4_isBog_1 4 rfl rfl)
theorem dX4_isBog_29 : decode cX4_isBog 29 = .ok (.invokevirtual 87, 3) := dk_182 0 87 (dk_at dksX4_isBog_1 6 rfl rfl)
theorem dX4_isBog_32 : decode cX4_isBog 32 = .ok (.ireturn, 1) := dk_172 (dk_at dksX4_isBog_1 9 rfl rfl)
def dkwX4_way_1 : List UInt8 := [167, 0, 9, 42, 16, 254, 182, 0, 87, 172]
abbrev dktX4_way_1 : List UInt8 := dkwX4_way_1 ++ []
def dkwX4_way_0 : List UInt8 := [42, 27, 133, 182, 0, 69, 153, 0, 20, 42, 28, 133, 182, 0, 69, 153, 0, 11, 27, 28, 184, 0, 213]
abbrev dktX4_way_0 : List UInt8 := dkwX4_way_0 ++ dktX4_way_1
theorem dksX4_way_0 : cX4_way.data.toList.drop 0 = dktX4_way_0 := by decide +kernel
theorem dksX4_way_1 : cX4_way.data.toList.drop 23 = dktX4_way_1 := dk_seg dksX4_way_0 23 rfl rfl
theorem dX4_way_0 : decode cX4_way 0 = .ok (.aload_n 0, 1) := dk_42 (dk_at dksX4_way_0 0 rfl rfl)
theorem dX4_way_1 : decode cX4_way 1 = .ok (.iload_n 1, 1) := dk_27 (dk_at dksX4_way_0 1 rfl rfl)
theorem dX4_way_2 : decode cX4_way 2 = .ok (.i2l, 1) := dk_133 (dk_at dksX4_way_0 2 rfl rfl)
theorem dX4_way_3 : decode cX4_way 3 = .ok (.invokevirtual 69, 3) := dk_182 0 69 (dk_at dksX4_way_0 3 rfl rfl)
theorem dX4_way_6 : decode cX4_way 6 = .ok (.ifCond .eq 20, 3) := dk_153 0 20 (dk_at dksX4_way_0 6 rfl rfl)
theorem dX4_way_9 : decode cX4_way 9 = .ok (.aload_n 0, 1) := dk_42 (dk_at dksX4_way_0 9 rfl rfl)
theorem dX4_way_10 : decode cX4_way 10 = .ok (.iload_n 2, 1) := dk_28 (dk_at dksX4_way_0 10 rfl rfl)
theorem dX4_way_11 : decode cX4_way 11 = .ok (.i2l, 1) := dk_133 (dk_at dksX4_way_0 11 rfl rfl)
theorem dX4_way_12 : decode cX4_way 12 = .ok (.invokevirtual 69, 3) := dk_182 0 69 (dk_at dksX4_way_0 12 rfl rfl)
theorem dX4_way_15 : decode cX4_way 15 = .ok (.ifCond .eq 11, 3) := dk_153 0 11 (dk_at dksX4_way_0 15 rfl rfl)
theorem dX4_way_18 : decode cX4_way 18 = .ok (.iload_n 1, 1) := dk_27 (dk_at dksX4_way_0 18 rfl rfl)
theorem dX4_way_19 : decode cX4_way 19 = .ok (.iload_n 2, 1) := dk_28 (dk_at dksX4_way_0 19 rfl rfl)
theorem dX4_way_20 : decode cX4_way 20 = .ok (.invokestatic 213, 3) := dk_184 0 213 (dk_at dksX4_way_0 20 rfl rfl)
theorem dX4_way_23 : decode cX4_way 23 = .ok (.goto 9, 3) := dk_167 0 9 (dk_at dksX4_way_1 0 rfl rfl)
theorem dX4_way_26 : decode cX4_way 26 = .ok (.aload_n 0, 1) := dk_42 (dk_at dksX4_way_1 3 rfl rfl)
theorem dX4_way_27 : decode cX4_way 27 = .ok (.bipush (-2), 2) := dk_16 254 (dk_at dksX4_way_1 4 rfl rfl)
theorem dX4_way_29 : decode cX4_way 29 = .ok (.invokevirtual 87, 3) := dk_182 0 87 (dk_at dksX4_way_1 6 rfl rfl)
theorem dX4_way_32 : decode cX4_way 32 = .ok (.ireturn, 1) := dk_172 (dk_at dksX4_way_1 9 rfl rfl)
def dkwX4_arm_1 : List UInt8 := [167, 0, 9, 42, 16, 254, 182, 0, 87, 172]
abbrev dktX4_arm_1 : List UInt8 := dkwX4_arm_1 ++ []
def dkwX4_arm_0 : List UInt8 := [42, 27, 133, 182, 0, 101, 153, 0, 21, 42, 28, 133, 182, 0, 69, 153, 0, 12, 42, 27, 28, 182, 0, 238]
abbrev dktX4_arm_0 : List UInt8 := dkwX4_arm_0 ++ dktX4_arm_1
theorem dksX4_arm_0 : cX4_arm.data.toList.drop 0 = dktX4_arm_0 := by decide +kernel
theorem dksX4_arm_1 : cX4_arm.data.toList.drop 24 = dktX4_arm_1 := dk_seg dksX4_arm_0 24 rfl rfl
theorem dX4_arm_0 : decode cX4_arm 0 = .ok (.aload_n 0, 1) := dk_42 (dk_at dksX4_arm_0 0 rfl rfl)
theorem dX4_arm_1 : decode cX4_arm 1 = .ok (.iload_n 1, 1) := dk_27 (dk_at dksX4_arm_0 1 rfl rfl)
theorem dX4_arm_2 : decode cX4_arm 2 = .ok (.i2l, 1) := dk_133 (dk_at dksX4_arm_0 2 rfl rfl)
theorem dX4_arm_3 : decode cX4_arm 3 = .ok (.invokevirtual 101, 3) := dk_182 0 101 (dk_at dksX4_arm_0 3 rfl rfl)
theorem dX4_arm_6 : decode cX4_arm 6 = .ok (.ifCond .eq 21, 3) := dk_153 0 21 (dk_at dksX4_arm_0 6 rfl rfl)
theorem dX4_arm_9 : decode cX4_arm 9 = .ok (.aload_n 0, 1) := dk_42 (dk_at dksX4_arm_0 9 rfl rfl)
theorem dX4_arm_10 : decode cX4_arm 10 = .ok (.iload_n 2, 1) := dk_28 (dk_at dksX4_arm_0 10 rfl rfl)
theorem dX4_arm_11 : decode cX4_arm 11 = .ok (.i2l, 1) := dk_133 (dk_at dksX4_arm_0 11 rfl rfl)
theorem dX4_arm_12 : decode cX4_arm 12 = .ok (.invokevirtual 69, 3) := dk_182 0 69 (dk_at dksX4_arm_0 12 rfl rfl)
theorem dX4_arm_15 : decode cX4_arm 15 = .ok (.ifCond .eq 12, 3) := dk_153 0 12 (dk_at dksX4_arm_0 15 rfl rfl)
theorem dX4_arm_18 : decode cX4_arm 18 = .ok (.aload_n 0, 1) := dk_42 (dk_at dksX4_arm_0 18 rfl rfl)
theorem dX4_arm_19 : decode cX4_arm 19 = .ok (.iload_n 1, 1) := dk_27 (dk_at dksX4_arm_0 19 rfl rfl)
theorem dX4_arm_20 : decode cX4_arm 20 = .ok (.iload_n 2, 1) := dk_28 (dk_at dksX4_arm_0 20 rfl rfl)
theorem dX4_arm_21 : decode cX4_arm 21 = .ok (.invokevirtual 238, 3) := dk_182 0 238 (dk_at dksX4_arm_0 21 rfl rfl)
theorem dX4_arm_24 : decode cX4_arm 24 = .ok (.goto 9, 3) := dk_167 0 9 (dk_at dksX4_arm_1 0 rfl rfl)
theorem dX4_arm_27 : decode cX4_arm 27 = .ok (.aload_n 0, 1) := dk_42 (dk_at dksX4_arm_1 3 rfl rfl)
theorem dX4_arm_28 : decode cX4_arm 28 = .ok (.bipush (-2), 2) := dk_16 254 (dk_at dksX4_arm_1 4 rfl rfl)
theorem dX4_arm_30 : decode cX4_arm 30 = .ok (.invokevirtual 87, 3) := dk_182 0 87 (dk_at dksX4_arm_1 6 rfl rfl)
theorem dX4_arm_33 : decode cX4_arm 33 = .ok (.ireturn, 1) := dk_172 (dk_at dksX4_arm_1 9 rfl rfl)
def dkwX4_armFor_0 : List UInt8 := [42, 28, 182, 0, 231, 42, 27, 182, 0, 111, 172]
abbrev dktX4_armFor_0 : List UInt8 := dkwX4_armFor_0 ++ []
theorem dksX4_armFor_0 : cX4_armFor.data.toList.drop 0 = dktX4_armFor_0 := by decide +kernel
theorem dX4_armFor_0 : decode cX4_armFor 0 = .ok (.aload_n 0, 1) := dk_42 (dk_at dksX4_armFor_0 0 rfl rfl)
theorem dX4_armFor_1 : decode cX4_armFor 1 = .ok (.iload_n 2, 1) := dk_28 (dk_at dksX4_armFor_0 1 rfl rfl)
theorem dX4_armFor_2 : decode cX4_armFor 2 = .ok (.invokevirtual 231, 3) := dk_182 0 231 (dk_at dksX4_armFor_0 2 rfl rfl)
theorem dX4_armFor_5 : decode cX4_armFor 5 = .ok (.aload_n 0, 1) := dk_42 (dk_at dksX4_armFor_0 5 rfl rfl)
theorem dX4_armFor_6 : decode cX4_armFor 6 = .ok (.iload_n 1, 1) := dk_27 (dk_at dksX4_armFor_0 6 rfl rfl)
theorem dX4_armFor_7 : decode cX4_armFor 7 = .ok (.invokevirtual 111, 3) := dk_182 0 111 (dk_at dksX4_armFor_0 7 rfl rfl)
theorem dX4_armFor_10 : decode cX4_armFor 10 = .ok (.ireturn, 1) := dk_172 (dk_at dksX4_armFor_0 10 rfl rfl)
def dkwX4_one_0 : List UInt8 := [42, 4, 181, 0, 204, 42, 180, 0, 51, 3, 27, 79, 177]
abbrev dktX4_one_0 : List UInt8 := dkwX4_one_0 ++ []
theorem dksX4_one_0 : cX4_one.data.toList.drop 0 = dktX4_one_0 := by decide +kernel
theorem dX4_one_0 : decode cX4_one 0 = .ok (.aload_n 0, 1) := dk_42 (dk_at dksX4_one_0 0 rfl rfl)
theorem dX4_one_1 : decode cX4_one 1 = .ok (.iconst 1, 1) := dk_4 (dk_at dksX4_one_0 1 rfl rfl)
theorem dX4_one_2 : decode cX4_one 2 = .ok (.putfield 204, 3) := dk_181 0 204 (dk_at dksX4_one_0 2 rfl rfl)
theorem dX4_one_5 : decode cX4_one 5 = .ok (.aload_n 0, 1) := dk_42 (dk_at dksX4_one_0 5 rfl rfl)
theorem dX4_one_6 : decode cX4_one 6 = .ok (.getfield 51, 3) := dk_180 0 51 (dk_at dksX4_one_0 6 rfl rfl)
theorem dX4_one_9 : decode cX4_one 9 = .ok (.iconst 0, 1) := dk_3 (dk_at dksX4_one_0 9 rfl rfl)
theorem dX4_one_10 : decode cX4_one 10 = .ok (.iload_n 1, 1) := dk_27 (dk_at dksX4_one_0 10 rfl rfl)
theorem dX4_one_11 : decode cX4_one 11 = .ok (.iastore, 1) := dk_79 (dk_at dksX4_one_0 11 rfl rfl)
theorem dX4_one_12 : decode cX4_one 12 = .ok (.return_, 1) := dk_177 (dk_at dksX4_one_0 12 rfl rfl)
def dkwX4_where_4 : List UInt8 := [182, 0, 255, 153, 0, 11, 21, 6, 132, 6, 255, 158, 0, 9, 132, 7, 1, 167, 255, 233, 21, 7, 172]
abbrev dktX4_where_4 : List UInt8 := dkwX4_where_4 ++ []
def dkwX4_where_3 : List UInt8 := [161, 0, 10, 42, 16, 251, 182, 0, 87, 172, 29, 54, 6, 3, 54, 7, 42, 27, 28, 2, 21, 7]
abbrev dktX4_where_3 : List UInt8 := dkwX4_where_3 ++ dktX4_where_4
def dkwX4_where_2 : List UInt8 := [182, 0, 87, 172, 42, 27, 28, 2, 182, 1, 6, 54, 5, 29, 2, 160, 0, 6, 21, 5, 172, 29, 21, 5]
abbrev dktX4_where_2 : List UInt8 := dkwX4_where_2 ++ dktX4_where_3
def dkwX4_where_1 : List UInt8 := [16, 254, 182, 0, 87, 172, 42, 27, 28, 182, 1, 3, 54, 4, 21, 4, 156, 0, 10, 42, 21, 4]
abbrev dktX4_where_1 : List UInt8 := dkwX4_where_1 ++ dktX4_where_2
def dkwX4_where_0 : List UInt8 := [27, 184, 0, 83, 153, 0, 18, 28, 3, 16, 20, 184, 0, 79, 153, 0, 8, 29, 2, 162, 0, 10, 42]
abbrev dktX4_where_0 : List UInt8 := dkwX4_where_0 ++ dktX4_where_1
theorem dksX4_where_0 : cX4_where.data.toList.drop 0 = dktX4_where_0 := by decide +kernel
theorem dksX4_where_1 : cX4_where.data.toList.drop 23 = dktX4_where_1 := dk_seg dksX4_where_0 23 rfl rfl
theorem dksX4_where_2 : cX4_where.data.toList.drop 45 = dktX4_where_2 := dk_seg dksX4_where_1 22 rfl rfl
theorem dksX4_where_3 : cX4_where.data.toList.drop 69 = dktX4_where_3 := dk_seg dksX4_where_2 24 rfl rfl
theorem dksX4_where_4 : cX4_where.data.toList.drop 91 = dktX4_where_4 := dk_seg dksX4_where_3 22 rfl rfl
theorem dX4_where_0 : decode cX4_where 0 = .ok (.iload_n 1, 1) := dk_27 (dk_at dksX4_where_0 0 rfl rfl)
theorem dX4_where_1 : decode cX4_where 1 = .ok (.invokestatic 83, 3) := dk_184 0 83 (dk_at dksX4_where_0 1 rfl rfl)
theorem dX4_where_4 : decode cX4_where 4 = .ok (.ifCond .eq 18, 3) := dk_153 0 18 (dk_at dksX4_where_0 4 rfl rfl)
theorem dX4_where_7 : decode cX4_where 7 = .ok (.iload_n 2, 1) := dk_28 (dk_at dksX4_where_0 7 rfl rfl)
theorem dX4_where_8 : decode cX4_where 8 = .ok (.iconst 0, 1) := dk_3 (dk_at dksX4_where_0 8 rfl rfl)
theorem dX4_where_9 : decode cX4_where 9 = .ok (.bipush 20, 2) := dk_16 20 (dk_at dksX4_where_0 9 rfl rfl)
theorem dX4_where_11 : decode cX4_where 11 = .ok (.invokestatic 79, 3) := dk_184 0 79 (dk_at dksX4_where_0 11 rfl rfl)
theorem dX4_where_14 : decode cX4_where 14 = .ok (.ifCond .eq 8, 3) := dk_153 0 8 (dk_at dksX4_where_0 14 rfl rfl)
theorem dX4_where_17 : decode cX4_where 17 = .ok (.iload_n 3, 1) := dk_29 (dk_at dksX4_where_0 17 rfl rfl)
theorem dX4_where_18 : decode cX4_where 18 = .ok (.iconst (-1), 1) := dk_2 (dk_at dksX4_where_0 18 rfl rfl)
theorem dX4_where_19 : decode cX4_where 19 = .ok (.if_icmp .ge 10, 3) := dk_162 0 10 (dk_at dksX4_where_0 19 rfl rfl)
theorem dX4_where_22 : decode cX4_where 22 = .ok (.aload_n 0, 1) := dk_42 (dk_at dksX4_where_0 22 rfl rfl)
theorem dX4_where_23 : decode cX4_where 23 = .ok (.bipush (-2), 2) := dk_16 254 (dk_at dksX4_where_1 0 rfl rfl)
theorem dX4_where_25 : decode cX4_where 25 = .ok (.invokevirtual 87, 3) := dk_182 0 87 (dk_at dksX4_where_1 2 rfl rfl)
theorem dX4_where_28 : decode cX4_where 28 = .ok (.ireturn, 1) := dk_172 (dk_at dksX4_where_1 5 rfl rfl)
theorem dX4_where_29 : decode cX4_where 29 = .ok (.aload_n 0, 1) := dk_42 (dk_at dksX4_where_1 6 rfl rfl)
theorem dX4_where_30 : decode cX4_where 30 = .ok (.iload_n 1, 1) := dk_27 (dk_at dksX4_where_1 7 rfl rfl)
theorem dX4_where_31 : decode cX4_where 31 = .ok (.iload_n 2, 1) := dk_28 (dk_at dksX4_where_1 8 rfl rfl)
theorem dX4_where_32 : decode cX4_where 32 = .ok (.invokevirtual 259, 3) := dk_182 1 3 (dk_at dksX4_where_1 9 rfl rfl)
theorem dX4_where_35 : decode cX4_where 35 = .ok (.istore 4, 2) := dk_54 4 (dk_at dksX4_where_1 12 rfl rfl)
theorem dX4_where_37 : decode cX4_where 37 = .ok (.iload 4, 2) := dk_21 4 (dk_at dksX4_where_1 14 rfl rfl)
theorem dX4_where_39 : decode cX4_where 39 = .ok (.ifCond .ge 10, 3) := dk_156 0 10 (dk_at dksX4_where_1 16 rfl rfl)
theorem dX4_where_42 : decode cX4_where 42 = .ok (.aload_n 0, 1) := dk_42 (dk_at dksX4_where_1 19 rfl rfl)
theorem dX4_where_43 : decode cX4_where 43 = .ok (.iload 4, 2) := dk_21 4 (dk_at dksX4_where_1 20 rfl rfl)
theorem dX4_where_45 : decode cX4_where 45 = .ok (.invokevirtual 87, 3) := dk_182 0 87 (dk_at dksX4_where_2 0 rfl rfl)
theorem dX4_where_48 : decode cX4_where 48 = .ok (.ireturn, 1) := dk_172 (dk_at dksX4_where_2 3 rfl rfl)
theorem dX4_where_49 : decode cX4_where 49 = .ok (.aload_n 0, 1) := dk_42 (dk_at dksX4_where_2 4 rfl rfl)
theorem dX4_where_50 : decode cX4_where 50 = .ok (.iload_n 1, 1) := dk_27 (dk_at dksX4_where_2 5 rfl rfl)
theorem dX4_where_51 : decode cX4_where 51 = .ok (.iload_n 2, 1) := dk_28 (dk_at dksX4_where_2 6 rfl rfl)
theorem dX4_where_52 : decode cX4_where 52 = .ok (.iconst (-1), 1) := dk_2 (dk_at dksX4_where_2 7 rfl rfl)
theorem dX4_where_53 : decode cX4_where 53 = .ok (.invokevirtual 262, 3) := dk_182 1 6 (dk_at dksX4_where_2 8 rfl rfl)
theorem dX4_where_56 : decode cX4_where 56 = .ok (.istore 5, 2) := dk_54 5 (dk_at dksX4_where_2 11 rfl rfl)
theorem dX4_where_58 : decode cX4_where 58 = .ok (.iload_n 3, 1) := dk_29 (dk_at dksX4_where_2 13 rfl rfl)
theorem dX4_where_59 : decode cX4_where 59 = .ok (.iconst (-1), 1) := dk_2 (dk_at dksX4_where_2 14 rfl rfl)
theorem dX4_where_60 : decode cX4_where 60 = .ok (.if_icmp .ne 6, 3) := dk_160 0 6 (dk_at dksX4_where_2 15 rfl rfl)
theorem dX4_where_63 : decode cX4_where 63 = .ok (.iload 5, 2) := dk_21 5 (dk_at dksX4_where_2 18 rfl rfl)
theorem dX4_where_65 : decode cX4_where 65 = .ok (.ireturn, 1) := dk_172 (dk_at dksX4_where_2 20 rfl rfl)
theorem dX4_where_66 : decode cX4_where 66 = .ok (.iload_n 3, 1) := dk_29 (dk_at dksX4_where_2 21 rfl rfl)
theorem dX4_where_67 : decode cX4_where 67 = .ok (.iload 5, 2) := dk_21 5 (dk_at dksX4_where_2 22 rfl rfl)
theorem dX4_where_69 : decode cX4_where 69 = .ok (.if_icmp .lt 10, 3) := dk_161 0 10 (dk_at dksX4_where_3 0 rfl rfl)
theorem dX4_where_72 : decode cX4_where 72 = .ok (.aload_n 0, 1) := dk_42 (dk_at dksX4_where_3 3 rfl rfl)
theorem dX4_where_73 : decode cX4_where 73 = .ok (.bipush (-5), 2) := dk_16 251 (dk_at dksX4_where_3 4 rfl rfl)
theorem dX4_where_75 : decode cX4_where 75 = .ok (.invokevirtual 87, 3) := dk_182 0 87 (dk_at dksX4_where_3 6 rfl rfl)
theorem dX4_where_78 : decode cX4_where 78 = .ok (.ireturn, 1) := dk_172 (dk_at dksX4_where_3 9 rfl rfl)
theorem dX4_where_79 : decode cX4_where 79 = .ok (.iload_n 3, 1) := dk_29 (dk_at dksX4_where_3 10 rfl rfl)
theorem dX4_where_80 : decode cX4_where 80 = .ok (.istore 6, 2) := dk_54 6 (dk_at dksX4_where_3 11 rfl rfl)
theorem dX4_where_82 : decode cX4_where 82 = .ok (.iconst 0, 1) := dk_3 (dk_at dksX4_where_3 13 rfl rfl)
theorem dX4_where_83 : decode cX4_where 83 = .ok (.istore 7, 2) := dk_54 7 (dk_at dksX4_where_3 14 rfl rfl)
theorem dX4_where_85 : decode cX4_where 85 = .ok (.aload_n 0, 1) := dk_42 (dk_at dksX4_where_3 16 rfl rfl)
theorem dX4_where_86 : decode cX4_where 86 = .ok (.iload_n 1, 1) := dk_27 (dk_at dksX4_where_3 17 rfl rfl)
theorem dX4_where_87 : decode cX4_where 87 = .ok (.iload_n 2, 1) := dk_28 (dk_at dksX4_where_3 18 rfl rfl)
theorem dX4_where_88 : decode cX4_where 88 = .ok (.iconst (-1), 1) := dk_2 (dk_at dksX4_where_3 19 rfl rfl)
theorem dX4_where_89 : decode cX4_where 89 = .ok (.iload 7, 2) := dk_21 7 (dk_at dksX4_where_3 20 rfl rfl)
theorem dX4_where_91 : decode cX4_where 91 = .ok (.invokevirtual 255, 3) := dk_182 0 255 (dk_at dksX4_where_4 0 rfl rfl)
theorem dX4_where_94 : decode cX4_where 94 = .ok (.ifCond .eq 11, 3) := dk_153 0 11 (dk_at dksX4_where_4 3 rfl rfl)
theorem dX4_where_97 : decode cX4_where 97 = .ok (.iload 6, 2) := dk_21 6 (dk_at dksX4_where_4 6 rfl rfl)
theorem dX4_where_99 : decode cX4_where 99 = .ok (.iinc 6 (-1), 3) := dk_132 6 255 (dk_at dksX4_where_4 8 rfl rfl)
theorem dX4_where_102 : decode cX4_where 102 = .ok (.ifCond .le 9, 3) := dk_158 0 9 (dk_at dksX4_where_4 11 rfl rfl)
theorem dX4_where_105 : decode cX4_where 105 = .ok (.iinc 7 1, 3) := dk_132 7 1 (dk_at dksX4_where_4 14 rfl rfl)
theorem dX4_where_108 : decode cX4_where 108 = .ok (.goto (-23), 3) := dk_167 255 233 (dk_at dksX4_where_4 17 rfl rfl)
theorem dX4_where_111 : decode cX4_where 111 = .ok (.iload 7, 2) := dk_21 7 (dk_at dksX4_where_4 20 rfl rfl)
theorem dX4_where_113 : decode cX4_where 113 = .ok (.ireturn, 1) := dk_172 (dk_at dksX4_where_4 22 rfl rfl)
def dkwX4_noPairs_3 : List UInt8 := [148, 158, 0, 6, 16, 251, 172, 132, 4, 1, 167, 255, 192, 3, 172]
abbrev dktX4_noPairs_3 : List UInt8 := dkwX4_noPairs_3 ++ []
def dkwX4_noPairs_2 : List UInt8 := [182, 0, 244, 20, 0, 248, 148, 155, 0, 21, 42, 27, 5, 21, 4, 104, 4, 96, 182, 0, 244, 20, 0, 250]
abbrev dktX4_noPairs_2 : List UInt8 := dkwX4_noPairs_2 ++ dktX4_noPairs_3
def dkwX4_noPairs_1 : List UInt8 := [42, 42, 27, 5, 21, 4, 104, 182, 0, 244, 182, 0, 101, 153, 0, 39, 42, 27, 5, 21, 4, 104, 4, 96]
abbrev dktX4_noPairs_1 : List UInt8 := dkwX4_noPairs_1 ++ dktX4_noPairs_2
def dkwX4_noPairs_0 : List UInt8 := [42, 27, 5, 28, 104, 182, 0, 241, 62, 29, 156, 0, 5, 29, 172, 3, 54, 4, 21, 4, 28, 162, 0, 64]
abbrev dktX4_noPairs_0 : List UInt8 := dkwX4_noPairs_0 ++ dktX4_noPairs_1
theorem dksX4_noPairs_0 : cX4_noPairs.data.toList.drop 0 = dktX4_noPairs_0 := by decide +kernel
theorem dksX4_noPairs_1 : cX4_noPairs.data.toList.drop 24 = dktX4_noPairs_1 := dk_seg dksX4_noPairs_0 24 rfl rfl
theorem dksX4_noPairs_2 : cX4_noPairs.data.toList.drop 48 = dktX4_noPairs_2 := dk_seg dksX4_noPairs_1 24 rfl rfl
theorem dksX4_noPairs_3 : cX4_noPairs.data.toList.drop 72 = dktX4_noPairs_3 := dk_seg dksX4_noPairs_2 24 rfl rfl
theorem dX4_noPairs_0 : decode cX4_noPairs 0 = .ok (.aload_n 0, 1) := dk_42 (dk_at dksX4_noPairs_0 0 rfl rfl)
theorem dX4_noPairs_1 : decode cX4_noPairs 1 = .ok (.iload_n 1, 1) := dk_27 (dk_at dksX4_noPairs_0 1 rfl rfl)
theorem dX4_noPairs_2 : decode cX4_noPairs 2 = .ok (.iconst 2, 1) := dk_5 (dk_at dksX4_noPairs_0 2 rfl rfl)
theorem dX4_noPairs_3 : decode cX4_noPairs 3 = .ok (.iload_n 2, 1) := dk_28 (dk_at dksX4_noPairs_0 3 rfl rfl)
theorem dX4_noPairs_4 : decode cX4_noPairs 4 = .ok (.imul, 1) := dk_104 (dk_at dksX4_noPairs_0 4 rfl rfl)
theorem dX4_noPairs_5 : decode cX4_noPairs 5 = .ok (.invokevirtual 241, 3) := dk_182 0 241 (dk_at dksX4_noPairs_0 5 rfl rfl)
theorem dX4_noPairs_8 : decode cX4_noPairs 8 = .ok (.istore_n 3, 1) := dk_62 (dk_at dksX4_noPairs_0 8 rfl rfl)
theorem dX4_noPairs_9 : decode cX4_noPairs 9 = .ok (.iload_n 3, 1) := dk_29 (dk_at dksX4_noPairs_0 9 rfl rfl)
theorem dX4_noPairs_10 : decode cX4_noPairs 10 = .ok (.ifCond .ge 5, 3) := dk_156 0 5 (dk_at dksX4_noPairs_0 10 rfl rfl)
theorem dX4_noPairs_13 : decode cX4_noPairs 13 = .ok (.iload_n 3, 1) := dk_29 (dk_at dksX4_noPairs_0 13 rfl rfl)
theorem dX4_noPairs_14 : decode cX4_noPairs 14 = .ok (.ireturn, 1) := dk_172 (dk_at dksX4_noPairs_0 14 rfl rfl)
theorem dX4_noPairs_15 : decode cX4_noPairs 15 = .ok (.iconst 0, 1) := dk_3 (dk_at dksX4_noPairs_0 15 rfl rfl)
theorem dX4_noPairs_16 : decode cX4_noPairs 16 = .ok (.istore 4, 2) := dk_54 4 (dk_at dksX4_noPairs_0 16 rfl rfl)
theorem dX4_noPairs_18 : decode cX4_noPairs 18 = .ok (.iload 4, 2) := dk_21 4 (dk_at dksX4_noPairs_0 18 rfl rfl)
theorem dX4_noPairs_20 : decode cX4_noPairs 20 = .ok (.iload_n 2, 1) := dk_28 (dk_at dksX4_noPairs_0 20 rfl rfl)
theorem dX4_noPairs_21 : decode cX4_noPairs 21 = .ok (.if_icmp .ge 64, 3) := dk_162 0 64 (dk_at dksX4_noPairs_0 21 rfl rfl)
theorem dX4_noPairs_24 : decode cX4_noPairs 24 = .ok (.aload_n 0, 1) := dk_42 (dk_at dksX4_noPairs_1 0 rfl rfl)
theorem dX4_noPairs_25 : decode cX4_noPairs 25 = .ok (.aload_n 0, 1) := dk_42 (dk_at dksX4_noPairs_1 1 rfl rfl)
theorem dX4_noPairs_26 : decode cX4_noPairs 26 = .ok (.iload_n 1, 1) := dk_27 (dk_at dksX4_noPairs_1 2 rfl rfl)
theorem dX4_noPairs_27 : decode cX4_noPairs 27 = .ok (.iconst 2, 1) := dk_5 (dk_at dksX4_noPairs_1 3 rfl rfl)
theorem dX4_noPairs_28 : decode cX4_noPairs 28 = .ok (.iload 4, 2) := dk_21 4 (dk_at dksX4_noPairs_1 4 rfl rfl)
theorem dX4_noPairs_30 : decode cX4_noPairs 30 = .ok (.imul, 1) := dk_104 (dk_at dksX4_noPairs_1 6 rfl rfl)
theorem dX4_noPairs_31 : decode cX4_noPairs 31 = .ok (.invokevirtual 244, 3) := dk_182 0 244 (dk_at dksX4_noPairs_1 7 rfl rfl)
theorem dX4_noPairs_34 : decode cX4_noPairs 34 = .ok (.invokevirtual 101, 3) := dk_182 0 101 (dk_at dksX4_noPairs_1 10 rfl rfl)
theorem dX4_noPairs_37 : decode cX4_noPairs 37 = .ok (.ifCond .eq 39, 3) := dk_153 0 39 (dk_at dksX4_noPairs_1 13 rfl rfl)
theorem dX4_noPairs_40 : decode cX4_noPairs 40 = .ok (.aload_n 0, 1) := dk_42 (dk_at dksX4_noPairs_1 16 rfl rfl)
theorem dX4_noPairs_41 : decode cX4_noPairs 41 = .ok (.iload_n 1, 1) := dk_27 (dk_at dksX4_noPairs_1 17 rfl rfl)
theorem dX4_noPairs_42 : decode cX4_noPairs 42 = .ok (.iconst 2, 1) := dk_5 (dk_at dksX4_noPairs_1 18 rfl rfl)
theorem dX4_noPairs_43 : decode cX4_noPairs 43 = .ok (.iload 4, 2) := dk_21 4 (dk_at dksX4_noPairs_1 19 rfl rfl)
theorem dX4_noPairs_45 : decode cX4_noPairs 45 = .ok (.imul, 1) := dk_104 (dk_at dksX4_noPairs_1 21 rfl rfl)
theorem dX4_noPairs_46 : decode cX4_noPairs 46 = .ok (.iconst 1, 1) := dk_4 (dk_at dksX4_noPairs_1 22 rfl rfl)
theorem dX4_noPairs_47 : decode cX4_noPairs 47 = .ok (.iadd, 1) := dk_96 (dk_at dksX4_noPairs_1 23 rfl rfl)
theorem dX4_noPairs_48 : decode cX4_noPairs 48 = .ok (.invokevirtual 244, 3) := dk_182 0 244 (dk_at dksX4_noPairs_2 0 rfl rfl)
theorem dX4_noPairs_51 : decode cX4_noPairs 51 = .ok (.ldc2_w 248, 3) := dk_20 0 248 (dk_at dksX4_noPairs_2 3 rfl rfl)
theorem dX4_noPairs_54 : decode cX4_noPairs 54 = .ok (.lcmp, 1) := dk_148 (dk_at dksX4_noPairs_2 6 rfl rfl)
theorem dX4_noPairs_55 : decode cX4_noPairs 55 = .ok (.ifCond .lt 21, 3) := dk_155 0 21 (dk_at dksX4_noPairs_2 7 rfl rfl)
theorem dX4_noPairs_58 : decode cX4_noPairs 58 = .ok (.aload_n 0, 1) := dk_42 (dk_at dksX4_noPairs_2 10 rfl rfl)
theorem dX4_noPairs_59 : decode cX4_noPairs 59 = .ok (.iload_n 1, 1) := dk_27 (dk_at dksX4_noPairs_2 11 rfl rfl)
theorem dX4_noPairs_60 : decode cX4_noPairs 60 = .ok (.iconst 2, 1) := dk_5 (dk_at dksX4_noPairs_2 12 rfl rfl)
theorem dX4_noPairs_61 : decode cX4_noPairs 61 = .ok (.iload 4, 2) := dk_21 4 (dk_at dksX4_noPairs_2 13 rfl rfl)
theorem dX4_noPairs_63 : decode cX4_noPairs 63 = .ok (.imul, 1) := dk_104 (dk_at dksX4_noPairs_2 15 rfl rfl)
theorem dX4_noPairs_64 : decode cX4_noPairs 64 = .ok (.iconst 1, 1) := dk_4 (dk_at dksX4_noPairs_2 16 rfl rfl)
theorem dX4_noPairs_65 : decode cX4_noPairs 65 = .ok (.iadd, 1) := dk_96 (dk_at dksX4_noPairs_2 17 rfl rfl)
theorem dX4_noPairs_66 : decode cX4_noPairs 66 = .ok (.invokevirtual 244, 3) := dk_182 0 244 (dk_at dksX4_noPairs_2 18 rfl rfl)
theorem dX4_noPairs_69 : decode cX4_noPairs 69 = .ok (.ldc2_w 250, 3) := dk_20 0 250 (dk_at dksX4_noPairs_2 21 rfl rfl)
theorem dX4_noPairs_72 : decode cX4_noPairs 72 = .ok (.lcmp, 1) := dk_148 (dk_at dksX4_noPairs_3 0 rfl rfl)
theorem dX4_noPairs_73 : decode cX4_noPairs 73 = .ok (.ifCond .le 6, 3) := dk_158 0 6 (dk_at dksX4_noPairs_3 1 rfl rfl)
theorem dX4_noPairs_76 : decode cX4_noPairs 76 = .ok (.bipush (-5), 2) := dk_16 251 (dk_at dksX4_noPairs_3 4 rfl rfl)
theorem dX4_noPairs_78 : decode cX4_noPairs 78 = .ok (.ireturn, 1) := dk_172 (dk_at dksX4_noPairs_3 6 rfl rfl)
theorem dX4_noPairs_79 : decode cX4_noPairs 79 = .ok (.iinc 4 1, 3) := dk_132 4 1 (dk_at dksX4_noPairs_3 7 rfl rfl)
theorem dX4_noPairs_82 : decode cX4_noPairs 82 = .ok (.goto (-64), 3) := dk_167 255 192 (dk_at dksX4_noPairs_3 10 rfl rfl)
theorem dX4_noPairs_85 : decode cX4_noPairs 85 = .ok (.iconst 0, 1) := dk_3 (dk_at dksX4_noPairs_3 13 rfl rfl)
theorem dX4_noPairs_86 : decode cX4_noPairs 86 = .ok (.ireturn, 1) := dk_172 (dk_at dksX4_noPairs_3 14 rfl rfl)
def dkwX4_noTold_1 : List UInt8 := [164, 0, 8, 16, 254, 167, 0, 4, 3, 172]
abbrev dktX4_noTold_1 : List UInt8 := dkwX4_noTold_1 ++ []
def dkwX4_noTold_0 : List UInt8 := [42, 27, 182, 0, 91, 154, 0, 11, 42, 27, 182, 0, 94, 167, 0, 19, 28, 42, 180, 0, 35, 27, 46]
abbrev dktX4_noTold_0 : List UInt8 := dkwX4_noTold_0 ++ dktX4_noTold_1
theorem dksX4_noTold_0 : cX4_noTold.data.toList.drop 0 = dktX4_noTold_0 := by decide +kernel
theorem dksX4_noTold_1 : cX4_noTold.data.toList.drop 23 = dktX4_noTold_1 := dk_seg dksX4_noTold_0 23 rfl rfl
theorem dX4_noTold_0 : decode cX4_noTold 0 = .ok (.aload_n 0, 1) := dk_42 (dk_at dksX4_noTold_0 0 rfl rfl)
theorem dX4_noTold_1 : decode cX4_noTold 1 = .ok (.iload_n 1, 1) := dk_27 (dk_at dksX4_noTold_0 1 rfl rfl)
theorem dX4_noTold_2 : decode cX4_noTold 2 = .ok (.invokevirtual 91, 3) := dk_182 0 91 (dk_at dksX4_noTold_0 2 rfl rfl)
theorem dX4_noTold_5 : decode cX4_noTold 5 = .ok (.ifCond .ne 11, 3) := dk_154 0 11 (dk_at dksX4_noTold_0 5 rfl rfl)
theorem dX4_noTold_8 : decode cX4_noTold 8 = .ok (.aload_n 0, 1) := dk_42 (dk_at dksX4_noTold_0 8 rfl rfl)
theorem dX4_noTold_9 : decode cX4_noTold 9 = .ok (.iload_n 1, 1) := dk_27 (dk_at dksX4_noTold_0 9 rfl rfl)
theorem dX4_noTold_10 : decode cX4_noTold 10 = .ok (.invokevirtual 94, 3) := dk_182 0 94 (dk_at dksX4_noTold_0 10 rfl rfl)
theorem dX4_noTold_13 : decode cX4_noTold 13 = .ok (.goto 19, 3) := dk_167 0 19 (dk_at dksX4_noTold_0 13 rfl rfl)
theorem dX4_noTold_16 : decode cX4_noTold 16 = .ok (.iload_n 2, 1) := dk_28 (dk_at dksX4_noTold_0 16 rfl rfl)
theorem dX4_noTold_17 : decode cX4_noTold 17 = .ok (.aload_n 0, 1) := dk_42 (dk_at dksX4_noTold_0 17 rfl rfl)
theorem dX4_noTold_18 : decode cX4_noTold 18 = .ok (.getfield 35, 3) := dk_180 0 35 (dk_at dksX4_noTold_0 18 rfl rfl)
theorem dX4_noTold_21 : decode cX4_noTold 21 = .ok (.iload_n 1, 1) := dk_27 (dk_at dksX4_noTold_0 21 rfl rfl)
theorem dX4_noTold_22 : decode cX4_noTold 22 = .ok (.iaload, 1) := dk_46 (dk_at dksX4_noTold_0 22 rfl rfl)
theorem dX4_noTold_23 : decode cX4_noTold 23 = .ok (.if_icmp .le 8, 3) := dk_164 0 8 (dk_at dksX4_noTold_1 0 rfl rfl)
theorem dX4_noTold_26 : decode cX4_noTold 26 = .ok (.bipush (-2), 2) := dk_16 254 (dk_at dksX4_noTold_1 3 rfl rfl)
theorem dX4_noTold_28 : decode cX4_noTold 28 = .ok (.goto 4, 3) := dk_167 0 4 (dk_at dksX4_noTold_1 5 rfl rfl)
theorem dX4_noTold_31 : decode cX4_noTold 31 = .ok (.iconst 0, 1) := dk_3 (dk_at dksX4_noTold_1 8 rfl rfl)
theorem dX4_noTold_32 : decode cX4_noTold 32 = .ok (.ireturn, 1) := dk_172 (dk_at dksX4_noTold_1 9 rfl rfl)
def dkwX4_toldAt_0 : List UInt8 := [42, 180, 0, 38, 16, 40, 27, 104, 28, 96, 47, 173]
abbrev dktX4_toldAt_0 : List UInt8 := dkwX4_toldAt_0 ++ []
theorem dksX4_toldAt_0 : cX4_toldAt.data.toList.drop 0 = dktX4_toldAt_0 := by decide +kernel
theorem dX4_toldAt_0 : decode cX4_toldAt 0 = .ok (.aload_n 0, 1) := dk_42 (dk_at dksX4_toldAt_0 0 rfl rfl)
theorem dX4_toldAt_1 : decode cX4_toldAt 1 = .ok (.getfield 38, 3) := dk_180 0 38 (dk_at dksX4_toldAt_0 1 rfl rfl)
theorem dX4_toldAt_4 : decode cX4_toldAt 4 = .ok (.bipush 40, 2) := dk_16 40 (dk_at dksX4_toldAt_0 4 rfl rfl)
theorem dX4_toldAt_6 : decode cX4_toldAt 6 = .ok (.iload_n 1, 1) := dk_27 (dk_at dksX4_toldAt_0 6 rfl rfl)
theorem dX4_toldAt_7 : decode cX4_toldAt 7 = .ok (.imul, 1) := dk_104 (dk_at dksX4_toldAt_0 7 rfl rfl)
theorem dX4_toldAt_8 : decode cX4_toldAt 8 = .ok (.iload_n 2, 1) := dk_28 (dk_at dksX4_toldAt_0 8 rfl rfl)
theorem dX4_toldAt_9 : decode cX4_toldAt 9 = .ok (.iadd, 1) := dk_96 (dk_at dksX4_toldAt_0 9 rfl rfl)
theorem dX4_toldAt_10 : decode cX4_toldAt 10 = .ok (.laload, 1) := dk_47 (dk_at dksX4_toldAt_0 10 rfl rfl)
theorem dX4_toldAt_11 : decode cX4_toldAt 11 = .ok (.lreturn, 1) := dk_173 (dk_at dksX4_toldAt_0 11 rfl rfl)
def dkwX4_fitting_1 : List UInt8 := [153, 0, 6, 132, 4, 1, 132, 5, 1, 167, 255, 231, 21, 4, 172]
abbrev dktX4_fitting_1 : List UInt8 := dkwX4_fitting_1 ++ []
def dkwX4_fitting_0 : List UInt8 := [3, 54, 4, 3, 54, 5, 21, 5, 16, 67, 162, 0, 24, 42, 27, 28, 29, 21, 5, 182, 0, 255]
abbrev dktX4_fitting_0 : List UInt8 := dkwX4_fitting_0 ++ dktX4_fitting_1
theorem dksX4_fitting_0 : cX4_fitting.data.toList.drop 0 = dktX4_fitting_0 := by decide +kernel
theorem dksX4_fitting_1 : cX4_fitting.data.toList.drop 22 = dktX4_fitting_1 := dk_seg dksX4_fitting_0 22 rfl rfl
theorem dX4_fitting_0 : decode cX4_fitting 0 = .ok (.iconst 0, 1) := dk_3 (dk_at dksX4_fitting_0 0 rfl rfl)
theorem dX4_fitting_1 : decode cX4_fitting 1 = .ok (.istore 4, 2) := dk_54 4 (dk_at dksX4_fitting_0 1 rfl rfl)
theorem dX4_fitting_3 : decode cX4_fitting 3 = .ok (.iconst 0, 1) := dk_3 (dk_at dksX4_fitting_0 3 rfl rfl)
theorem dX4_fitting_4 : decode cX4_fitting 4 = .ok (.istore 5, 2) := dk_54 5 (dk_at dksX4_fitting_0 4 rfl rfl)
theorem dX4_fitting_6 : decode cX4_fitting 6 = .ok (.iload 5, 2) := dk_21 5 (dk_at dksX4_fitting_0 6 rfl rfl)
theorem dX4_fitting_8 : decode cX4_fitting 8 = .ok (.bipush 67, 2) := dk_16 67 (dk_at dksX4_fitting_0 8 rfl rfl)
theorem dX4_fitting_10 : decode cX4_fitting 10 = .ok (.if_icmp .ge 24, 3) := dk_162 0 24 (dk_at dksX4_fitting_0 10 rfl rfl)
theorem dX4_fitting_13 : decode cX4_fitting 13 = .ok (.aload_n 0, 1) := dk_42 (dk_at dksX4_fitting_0 13 rfl rfl)
theorem dX4_fitting_14 : decode cX4_fitting 14 = .ok (.iload_n 1, 1) := dk_27 (dk_at dksX4_fitting_0 14 rfl rfl)
theorem dX4_fitting_15 : decode cX4_fitting 15 = .ok (.iload_n 2, 1) := dk_28 (dk_at dksX4_fitting_0 15 rfl rfl)
theorem dX4_fitting_16 : decode cX4_fitting 16 = .ok (.iload_n 3, 1) := dk_29 (dk_at dksX4_fitting_0 16 rfl rfl)
theorem dX4_fitting_17 : decode cX4_fitting 17 = .ok (.iload 5, 2) := dk_21 5 (dk_at dksX4_fitting_0 17 rfl rfl)
theorem dX4_fitting_19 : decode cX4_fitting 19 = .ok (.invokevirtual 255, 3) := dk_182 0 255 (dk_at dksX4_fitting_0 19 rfl rfl)
theorem dX4_fitting_22 : decode cX4_fitting 22 = .ok (.ifCond .eq 6, 3) := dk_153 0 6 (dk_at dksX4_fitting_1 0 rfl rfl)
theorem dX4_fitting_25 : decode cX4_fitting 25 = .ok (.iinc 4 1, 3) := dk_132 4 1 (dk_at dksX4_fitting_1 3 rfl rfl)
theorem dX4_fitting_28 : decode cX4_fitting 28 = .ok (.iinc 5 1, 3) := dk_132 5 1 (dk_at dksX4_fitting_1 6 rfl rfl)
theorem dX4_fitting_31 : decode cX4_fitting 31 = .ok (.goto (-25), 3) := dk_167 255 231 (dk_at dksX4_fitting_1 9 rfl rfl)
theorem dX4_fitting_34 : decode cX4_fitting 34 = .ok (.iload 4, 2) := dk_21 4 (dk_at dksX4_fitting_1 12 rfl rfl)
theorem dX4_fitting_36 : decode cX4_fitting 36 = .ok (.ireturn, 1) := dk_172 (dk_at dksX4_fitting_1 14 rfl rfl)
def dkwX4_fits_2 : List UInt8 := [21, 5, 104, 4, 96, 182, 0, 244, 148, 153, 0, 5, 3, 172, 132, 5, 1, 167, 255, 207, 4, 172]
abbrev dktX4_fits_2 : List UInt8 := dkwX4_fits_2 ++ []
def dkwX4_fits_1 : List UInt8 := [159, 0, 37, 42, 42, 27, 5, 21, 5, 104, 182, 0, 244, 136, 21, 4, 182, 0, 238, 133, 42, 27, 5]
abbrev dktX4_fits_1 : List UInt8 := dkwX4_fits_1 ++ dktX4_fits_2
def dkwX4_fits_0 : List UInt8 := [42, 21, 4, 182, 0, 252, 154, 0, 5, 3, 172, 3, 54, 5, 21, 5, 28, 162, 0, 49, 21, 5, 29]
abbrev dktX4_fits_0 : List UInt8 := dkwX4_fits_0 ++ dktX4_fits_1
theorem dksX4_fits_0 : cX4_fits.data.toList.drop 0 = dktX4_fits_0 := by decide +kernel
theorem dksX4_fits_1 : cX4_fits.data.toList.drop 23 = dktX4_fits_1 := dk_seg dksX4_fits_0 23 rfl rfl
theorem dksX4_fits_2 : cX4_fits.data.toList.drop 46 = dktX4_fits_2 := dk_seg dksX4_fits_1 23 rfl rfl
theorem dX4_fits_0 : decode cX4_fits 0 = .ok (.aload_n 0, 1) := dk_42 (dk_at dksX4_fits_0 0 rfl rfl)
theorem dX4_fits_1 : decode cX4_fits 1 = .ok (.iload 4, 2) := dk_21 4 (dk_at dksX4_fits_0 1 rfl rfl)
theorem dX4_fits_3 : decode cX4_fits 3 = .ok (.invokevirtual 252, 3) := dk_182 0 252 (dk_at dksX4_fits_0 3 rfl rfl)
theorem dX4_fits_6 : decode cX4_fits 6 = .ok (.ifCond .ne 5, 3) := dk_154 0 5 (dk_at dksX4_fits_0 6 rfl rfl)
theorem dX4_fits_9 : decode cX4_fits 9 = .ok (.iconst 0, 1) := dk_3 (dk_at dksX4_fits_0 9 rfl rfl)
theorem dX4_fits_10 : decode cX4_fits 10 = .ok (.ireturn, 1) := dk_172 (dk_at dksX4_fits_0 10 rfl rfl)
theorem dX4_fits_11 : decode cX4_fits 11 = .ok (.iconst 0, 1) := dk_3 (dk_at dksX4_fits_0 11 rfl rfl)
theorem dX4_fits_12 : decode cX4_fits 12 = .ok (.istore 5, 2) := dk_54 5 (dk_at dksX4_fits_0 12 rfl rfl)
theorem dX4_fits_14 : decode cX4_fits 14 = .ok (.iload 5, 2) := dk_21 5 (dk_at dksX4_fits_0 14 rfl rfl)
theorem dX4_fits_16 : decode cX4_fits 16 = .ok (.iload_n 2, 1) := dk_28 (dk_at dksX4_fits_0 16 rfl rfl)
theorem dX4_fits_17 : decode cX4_fits 17 = .ok (.if_icmp .ge 49, 3) := dk_162 0 49 (dk_at dksX4_fits_0 17 rfl rfl)
theorem dX4_fits_20 : decode cX4_fits 20 = .ok (.iload 5, 2) := dk_21 5 (dk_at dksX4_fits_0 20 rfl rfl)
theorem dX4_fits_22 : decode cX4_fits 22 = .ok (.iload_n 3, 1) := dk_29 (dk_at dksX4_fits_0 22 rfl rfl)
theorem dX4_fits_23 : decode cX4_fits 23 = .ok (.if_icmp .eq 37, 3) := dk_159 0 37 (dk_at dksX4_fits_1 0 rfl rfl)
theorem dX4_fits_26 : decode cX4_fits 26 = .ok (.aload_n 0, 1) := dk_42 (dk_at dksX4_fits_1 3 rfl rfl)
theorem dX4_fits_27 : decode cX4_fits 27 = .ok (.aload_n 0, 1) := dk_42 (dk_at dksX4_fits_1 4 rfl rfl)
theorem dX4_fits_28 : decode cX4_fits 28 = .ok (.iload_n 1, 1) := dk_27 (dk_at dksX4_fits_1 5 rfl rfl)
theorem dX4_fits_29 : decode cX4_fits 29 = .ok (.iconst 2, 1) := dk_5 (dk_at dksX4_fits_1 6 rfl rfl)
theorem dX4_fits_30 : decode cX4_fits 30 = .ok (.iload 5, 2) := dk_21 5 (dk_at dksX4_fits_1 7 rfl rfl)
theorem dX4_fits_32 : decode cX4_fits 32 = .ok (.imul, 1) := dk_104 (dk_at dksX4_fits_1 9 rfl rfl)
theorem dX4_fits_33 : decode cX4_fits 33 = .ok (.invokevirtual 244, 3) := dk_182 0 244 (dk_at dksX4_fits_1 10 rfl rfl)
theorem dX4_fits_36 : decode cX4_fits 36 = .ok (.l2i, 1) := dk_136 (dk_at dksX4_fits_1 13 rfl rfl)
theorem dX4_fits_37 : decode cX4_fits 37 = .ok (.iload 4, 2) := dk_21 4 (dk_at dksX4_fits_1 14 rfl rfl)
theorem dX4_fits_39 : decode cX4_fits 39 = .ok (.invokevirtual 238, 3) := dk_182 0 238 (dk_at dksX4_fits_1 16 rfl rfl)
theorem dX4_fits_42 : decode cX4_fits 42 = .ok (.i2l, 1) := dk_133 (dk_at dksX4_fits_1 19 rfl rfl)
theorem dX4_fits_43 : decode cX4_fits 43 = .ok (.aload_n 0, 1) := dk_42 (dk_at dksX4_fits_1 20 rfl rfl)
theorem dX4_fits_44 : decode cX4_fits 44 = .ok (.iload_n 1, 1) := dk_27 (dk_at dksX4_fits_1 21 rfl rfl)
theorem dX4_fits_45 : decode cX4_fits 45 = .ok (.iconst 2, 1) := dk_5 (dk_at dksX4_fits_1 22 rfl rfl)
theorem dX4_fits_46 : decode cX4_fits 46 = .ok (.iload 5, 2) := dk_21 5 (dk_at dksX4_fits_2 0 rfl rfl)
theorem dX4_fits_48 : decode cX4_fits 48 = .ok (.imul, 1) := dk_104 (dk_at dksX4_fits_2 2 rfl rfl)
theorem dX4_fits_49 : decode cX4_fits 49 = .ok (.iconst 1, 1) := dk_4 (dk_at dksX4_fits_2 3 rfl rfl)
theorem dX4_fits_50 : decode cX4_fits 50 = .ok (.iadd, 1) := dk_96 (dk_at dksX4_fits_2 4 rfl rfl)
theorem dX4_fits_51 : decode cX4_fits 51 = .ok (.invokevirtual 244, 3) := dk_182 0 244 (dk_at dksX4_fits_2 5 rfl rfl)
theorem dX4_fits_54 : decode cX4_fits 54 = .ok (.lcmp, 1) := dk_148 (dk_at dksX4_fits_2 8 rfl rfl)
theorem dX4_fits_55 : decode cX4_fits 55 = .ok (.ifCond .eq 5, 3) := dk_153 0 5 (dk_at dksX4_fits_2 9 rfl rfl)
theorem dX4_fits_58 : decode cX4_fits 58 = .ok (.iconst 0, 1) := dk_3 (dk_at dksX4_fits_2 12 rfl rfl)
theorem dX4_fits_59 : decode cX4_fits 59 = .ok (.ireturn, 1) := dk_172 (dk_at dksX4_fits_2 13 rfl rfl)
theorem dX4_fits_60 : decode cX4_fits 60 = .ok (.iinc 5 1, 3) := dk_132 5 1 (dk_at dksX4_fits_2 14 rfl rfl)
theorem dX4_fits_63 : decode cX4_fits 63 = .ok (.goto (-49), 3) := dk_167 255 207 (dk_at dksX4_fits_2 17 rfl rfl)
theorem dX4_fits_66 : decode cX4_fits 66 = .ok (.iconst 1, 1) := dk_4 (dk_at dksX4_fits_2 20 rfl rfl)
theorem dX4_fits_67 : decode cX4_fits 67 = .ok (.ireturn, 1) := dk_172 (dk_at dksX4_fits_2 21 rfl rfl)
def dkwX4_isDry_0 : List UInt8 := [42, 27, 133, 182, 0, 69, 153, 0, 16, 42, 180, 0, 7, 27, 51, 154, 0, 7, 4, 167, 0, 4, 3, 172]
abbrev dktX4_isDry_0 : List UInt8 := dkwX4_isDry_0 ++ []
theorem dksX4_isDry_0 : cX4_isDry.data.toList.drop 0 = dktX4_isDry_0 := by decide +kernel
theorem dX4_isDry_0 : decode cX4_isDry 0 = .ok (.aload_n 0, 1) := dk_42 (dk_at dksX4_isDry_0 0 rfl rfl)
theorem dX4_isDry_1 : decode cX4_isDry 1 = .ok (.iload_n 1, 1) := dk_27 (dk_at dksX4_isDry_0 1 rfl rfl)
theorem dX4_isDry_2 : decode cX4_isDry 2 = .ok (.i2l, 1) := dk_133 (dk_at dksX4_isDry_0 2 rfl rfl)
theorem dX4_isDry_3 : decode cX4_isDry 3 = .ok (.invokevirtual 69, 3) := dk_182 0 69 (dk_at dksX4_isDry_0 3 rfl rfl)
theorem dX4_isDry_6 : decode cX4_isDry 6 = .ok (.ifCond .eq 16, 3) := dk_153 0 16 (dk_at dksX4_isDry_0 6 rfl rfl)
theorem dX4_isDry_9 : decode cX4_isDry 9 = .ok (.aload_n 0, 1) := dk_42 (dk_at dksX4_isDry_0 9 rfl rfl)
theorem dX4_isDry_10 : decode cX4_isDry 10 = .ok (.getfield 7, 3) := dk_180 0 7 (dk_at dksX4_isDry_0 10 rfl rfl)
theorem dX4_isDry_13 : decode cX4_isDry 13 = .ok (.iload_n 1, 1) := dk_27 (dk_at dksX4_isDry_0 13 rfl rfl)
theorem dX4_isDry_14 : decode cX4_isDry 14 = .ok (.baload, 1) := dk_51 (dk_at dksX4_isDry_0 14 rfl rfl)
theorem dX4_isDry_15 : decode cX4_isDry 15 = .ok (.ifCond .ne 7, 3) := dk_154 0 7 (dk_at dksX4_isDry_0 15 rfl rfl)
theorem dX4_isDry_18 : decode cX4_isDry 18 = .ok (.iconst 1, 1) := dk_4 (dk_at dksX4_isDry_0 18 rfl rfl)
theorem dX4_isDry_19 : decode cX4_isDry 19 = .ok (.goto 4, 3) := dk_167 0 4 (dk_at dksX4_isDry_0 19 rfl rfl)
theorem dX4_isDry_22 : decode cX4_isDry 22 = .ok (.iconst 0, 1) := dk_3 (dk_at dksX4_isDry_0 22 rfl rfl)
theorem dX4_isDry_23 : decode cX4_isDry 23 = .ok (.ireturn, 1) := dk_172 (dk_at dksX4_isDry_0 23 rfl rfl)
def dkwX4_of_3 : List UInt8 := [182, 1, 18, 172]
abbrev dktX4_of_3 : List UInt8 := dkwX4_of_3 ++ []
def dkwX4_of_2 : List UInt8 := [21, 4, 182, 0, 87, 172, 29, 154, 0, 12, 42, 27, 28, 182, 1, 15, 167, 0, 9, 42, 27, 28]
abbrev dktX4_of_2 : List UInt8 := dkwX4_of_2 ++ dktX4_of_3
def dkwX4_of_1 : List UInt8 := [154, 0, 10, 42, 16, 254, 182, 0, 87, 172, 42, 27, 28, 182, 1, 3, 54, 4, 21, 4, 156, 0, 10, 42]
abbrev dktX4_of_1 : List UInt8 := dkwX4_of_1 ++ dktX4_of_2
def dkwX4_of_0 : List UInt8 := [27, 184, 0, 83, 153, 0, 22, 28, 3, 16, 20, 184, 0, 79, 153, 0, 12, 29, 3, 4, 184, 0, 79]
abbrev dktX4_of_0 : List UInt8 := dkwX4_of_0 ++ dktX4_of_1
theorem dksX4_of_0 : cX4_of.data.toList.drop 0 = dktX4_of_0 := by decide +kernel
theorem dksX4_of_1 : cX4_of.data.toList.drop 23 = dktX4_of_1 := dk_seg dksX4_of_0 23 rfl rfl
theorem dksX4_of_2 : cX4_of.data.toList.drop 47 = dktX4_of_2 := dk_seg dksX4_of_1 24 rfl rfl
theorem dksX4_of_3 : cX4_of.data.toList.drop 69 = dktX4_of_3 := dk_seg dksX4_of_2 22 rfl rfl
theorem dX4_of_0 : decode cX4_of 0 = .ok (.iload_n 1, 1) := dk_27 (dk_at dksX4_of_0 0 rfl rfl)
theorem dX4_of_1 : decode cX4_of 1 = .ok (.invokestatic 83, 3) := dk_184 0 83 (dk_at dksX4_of_0 1 rfl rfl)
theorem dX4_of_4 : decode cX4_of 4 = .ok (.ifCond .eq 22, 3) := dk_153 0 22 (dk_at dksX4_of_0 4 rfl rfl)
theorem dX4_of_7 : decode cX4_of 7 = .ok (.iload_n 2, 1) := dk_28 (dk_at dksX4_of_0 7 rfl rfl)
theorem dX4_of_8 : decode cX4_of 8 = .ok (.iconst 0, 1) := dk_3 (dk_at dksX4_of_0 8 rfl rfl)
theorem dX4_of_9 : decode cX4_of 9 = .ok (.bipush 20, 2) := dk_16 20 (dk_at dksX4_of_0 9 rfl rfl)
theorem dX4_of_11 : decode cX4_of 11 = .ok (.invokestatic 79, 3) := dk_184 0 79 (dk_at dksX4_of_0 11 rfl rfl)
theorem dX4_of_14 : decode cX4_of 14 = .ok (.ifCond .eq 12, 3) := dk_153 0 12 (dk_at dksX4_of_0 14 rfl rfl)
theorem dX4_of_17 : decode cX4_of 17 = .ok (.iload_n 3, 1) := dk_29 (dk_at dksX4_of_0 17 rfl rfl)
theorem dX4_of_18 : decode cX4_of 18 = .ok (.iconst 0, 1) := dk_3 (dk_at dksX4_of_0 18 rfl rfl)
theorem dX4_of_19 : decode cX4_of 19 = .ok (.iconst 1, 1) := dk_4 (dk_at dksX4_of_0 19 rfl rfl)
theorem dX4_of_20 : decode cX4_of 20 = .ok (.invokestatic 79, 3) := dk_184 0 79 (dk_at dksX4_of_0 20 rfl rfl)
theorem dX4_of_23 : decode cX4_of 23 = .ok (.ifCond .ne 10, 3) := dk_154 0 10 (dk_at dksX4_of_1 0 rfl rfl)
theorem dX4_of_26 : decode cX4_of 26 = .ok (.aload_n 0, 1) := dk_42 (dk_at dksX4_of_1 3 rfl rfl)
theorem dX4_of_27 : decode cX4_of 27 = .ok (.bipush (-2), 2) := dk_16 254 (dk_at dksX4_of_1 4 rfl rfl)
theorem dX4_of_29 : decode cX4_of 29 = .ok (.invokevirtual 87, 3) := dk_182 0 87 (dk_at dksX4_of_1 6 rfl rfl)
theorem dX4_of_32 : decode cX4_of 32 = .ok (.ireturn, 1) := dk_172 (dk_at dksX4_of_1 9 rfl rfl)
theorem dX4_of_33 : decode cX4_of 33 = .ok (.aload_n 0, 1) := dk_42 (dk_at dksX4_of_1 10 rfl rfl)
theorem dX4_of_34 : decode cX4_of 34 = .ok (.iload_n 1, 1) := dk_27 (dk_at dksX4_of_1 11 rfl rfl)
theorem dX4_of_35 : decode cX4_of 35 = .ok (.iload_n 2, 1) := dk_28 (dk_at dksX4_of_1 12 rfl rfl)
theorem dX4_of_36 : decode cX4_of 36 = .ok (.invokevirtual 259, 3) := dk_182 1 3 (dk_at dksX4_of_1 13 rfl rfl)
theorem dX4_of_39 : decode cX4_of 39 = .ok (.istore 4, 2) := dk_54 4 (dk_at dksX4_of_1 16 rfl rfl)
theorem dX4_of_41 : decode cX4_of 41 = .ok (.iload 4, 2) := dk_21 4 (dk_at dksX4_of_1 18 rfl rfl)
theorem dX4_of_43 : decode cX4_of 43 = .ok (.ifCond .ge 10, 3) := dk_156 0 10 (dk_at dksX4_of_1 20 rfl rfl)
theorem dX4_of_46 : decode cX4_of 46 = .ok (.aload_n 0, 1) := dk_42 (dk_at dksX4_of_1 23 rfl rfl)
theorem dX4_of_47 : decode cX4_of 47 = .ok (.iload 4, 2) := dk_21 4 (dk_at dksX4_of_2 0 rfl rfl)
theorem dX4_of_49 : decode cX4_of 49 = .ok (.invokevirtual 87, 3) := dk_182 0 87 (dk_at dksX4_of_2 2 rfl rfl)
theorem dX4_of_52 : decode cX4_of 52 = .ok (.ireturn, 1) := dk_172 (dk_at dksX4_of_2 5 rfl rfl)
theorem dX4_of_53 : decode cX4_of 53 = .ok (.iload_n 3, 1) := dk_29 (dk_at dksX4_of_2 6 rfl rfl)
theorem dX4_of_54 : decode cX4_of 54 = .ok (.ifCond .ne 12, 3) := dk_154 0 12 (dk_at dksX4_of_2 7 rfl rfl)
theorem dX4_of_57 : decode cX4_of 57 = .ok (.aload_n 0, 1) := dk_42 (dk_at dksX4_of_2 10 rfl rfl)
theorem dX4_of_58 : decode cX4_of 58 = .ok (.iload_n 1, 1) := dk_27 (dk_at dksX4_of_2 11 rfl rfl)
theorem dX4_of_59 : decode cX4_of 59 = .ok (.iload_n 2, 1) := dk_28 (dk_at dksX4_of_2 12 rfl rfl)
theorem dX4_of_60 : decode cX4_of 60 = .ok (.invokevirtual 271, 3) := dk_182 1 15 (dk_at dksX4_of_2 13 rfl rfl)
theorem dX4_of_63 : decode cX4_of 63 = .ok (.goto 9, 3) := dk_167 0 9 (dk_at dksX4_of_2 16 rfl rfl)
theorem dX4_of_66 : decode cX4_of 66 = .ok (.aload_n 0, 1) := dk_42 (dk_at dksX4_of_2 19 rfl rfl)
theorem dX4_of_67 : decode cX4_of 67 = .ok (.iload_n 1, 1) := dk_27 (dk_at dksX4_of_2 20 rfl rfl)
theorem dX4_of_68 : decode cX4_of 68 = .ok (.iload_n 2, 1) := dk_28 (dk_at dksX4_of_2 21 rfl rfl)
theorem dX4_of_69 : decode cX4_of 69 = .ok (.invokevirtual 274, 3) := dk_182 1 18 (dk_at dksX4_of_3 0 rfl rfl)
theorem dX4_of_72 : decode cX4_of 72 = .ok (.ireturn, 1) := dk_172 (dk_at dksX4_of_3 3 rfl rfl)
def dkwX4_asked_2 : List UInt8 := [21, 4, 161, 0, 6, 167, 0, 10, 21, 6, 54, 4, 21, 5, 62, 132, 5, 1, 167, 255, 212, 29, 172]
abbrev dktX4_asked_2 : List UInt8 := dkwX4_asked_2 ++ []
def dkwX4_asked_1 : List UInt8 := [180, 0, 73, 162, 0, 41, 42, 27, 28, 21, 5, 182, 1, 12, 54, 6, 29, 2, 159, 0, 13, 21, 6]
abbrev dktX4_asked_1 : List UInt8 := dkwX4_asked_1 ++ dktX4_asked_2
def dkwX4_asked_0 : List UInt8 := [42, 27, 28, 2, 182, 1, 6, 5, 162, 0, 5, 2, 172, 2, 62, 3, 54, 4, 3, 54, 5, 21, 5, 42]
abbrev dktX4_asked_0 : List UInt8 := dkwX4_asked_0 ++ dktX4_asked_1
theorem dksX4_asked_0 : cX4_asked.data.toList.drop 0 = dktX4_asked_0 := by decide +kernel
theorem dksX4_asked_1 : cX4_asked.data.toList.drop 24 = dktX4_asked_1 := dk_seg dksX4_asked_0 24 rfl rfl
theorem dksX4_asked_2 : cX4_asked.data.toList.drop 47 = dktX4_asked_2 := dk_seg dksX4_asked_1 23 rfl rfl
theorem dX4_asked_0 : decode cX4_asked 0 = .ok (.aload_n 0, 1) := dk_42 (dk_at dksX4_asked_0 0 rfl rfl)
theorem dX4_asked_1 : decode cX4_asked 1 = .ok (.iload_n 1, 1) := dk_27 (dk_at dksX4_asked_0 1 rfl rfl)
theorem dX4_asked_2 : decode cX4_asked 2 = .ok (.iload_n 2, 1) := dk_28 (dk_at dksX4_asked_0 2 rfl rfl)
theorem dX4_asked_3 : decode cX4_asked 3 = .ok (.iconst (-1), 1) := dk_2 (dk_at dksX4_asked_0 3 rfl rfl)
theorem dX4_asked_4 : decode cX4_asked 4 = .ok (.invokevirtual 262, 3) := dk_182 1 6 (dk_at dksX4_asked_0 4 rfl rfl)
theorem dX4_asked_7 : decode cX4_asked 7 = .ok (.iconst 2, 1) := dk_5 (dk_at dksX4_asked_0 7 rfl rfl)
theorem dX4_asked_8 : decode cX4_asked 8 = .ok (.if_icmp .ge 5, 3) := dk_162 0 5 (dk_at dksX4_asked_0 8 rfl rfl)
theorem dX4_asked_11 : decode cX4_asked 11 = .ok (.iconst (-1), 1) := dk_2 (dk_at dksX4_asked_0 11 rfl rfl)
theorem dX4_asked_12 : decode cX4_asked 12 = .ok (.ireturn, 1) := dk_172 (dk_at dksX4_asked_0 12 rfl rfl)
theorem dX4_asked_13 : decode cX4_asked 13 = .ok (.iconst (-1), 1) := dk_2 (dk_at dksX4_asked_0 13 rfl rfl)
theorem dX4_asked_14 : decode cX4_asked 14 = .ok (.istore_n 3, 1) := dk_62 (dk_at dksX4_asked_0 14 rfl rfl)
theorem dX4_asked_15 : decode cX4_asked 15 = .ok (.iconst 0, 1) := dk_3 (dk_at dksX4_asked_0 15 rfl rfl)
theorem dX4_asked_16 : decode cX4_asked 16 = .ok (.istore 4, 2) := dk_54 4 (dk_at dksX4_asked_0 16 rfl rfl)
theorem dX4_asked_18 : decode cX4_asked 18 = .ok (.iconst 0, 1) := dk_3 (dk_at dksX4_asked_0 18 rfl rfl)
theorem dX4_asked_19 : decode cX4_asked 19 = .ok (.istore 5, 2) := dk_54 5 (dk_at dksX4_asked_0 19 rfl rfl)
theorem dX4_asked_21 : decode cX4_asked 21 = .ok (.iload 5, 2) := dk_21 5 (dk_at dksX4_asked_0 21 rfl rfl)
theorem dX4_asked_23 : decode cX4_asked 23 = .ok (.aload_n 0, 1) := dk_42 (dk_at dksX4_asked_0 23 rfl rfl)
theorem dX4_asked_24 : decode cX4_asked 24 = .ok (.getfield 73, 3) := dk_180 0 73 (dk_at dksX4_asked_1 0 rfl rfl)
theorem dX4_asked_27 : decode cX4_asked 27 = .ok (.if_icmp .ge 41, 3) := dk_162 0 41 (dk_at dksX4_asked_1 3 rfl rfl)
theorem dX4_asked_30 : decode cX4_asked 30 = .ok (.aload_n 0, 1) := dk_42 (dk_at dksX4_asked_1 6 rfl rfl)
theorem dX4_asked_31 : decode cX4_asked 31 = .ok (.iload_n 1, 1) := dk_27 (dk_at dksX4_asked_1 7 rfl rfl)
theorem dX4_asked_32 : decode cX4_asked 32 = .ok (.iload_n 2, 1) := dk_28 (dk_at dksX4_asked_1 8 rfl rfl)
theorem dX4_asked_33 : decode cX4_asked 33 = .ok (.iload 5, 2) := dk_21 5 (dk_at dksX4_asked_1 9 rfl rfl)
theorem dX4_asked_35 : decode cX4_asked 35 = .ok (.invokevirtual 268, 3) := dk_182 1 12 (dk_at dksX4_asked_1 11 rfl rfl)
theorem dX4_asked_38 : decode cX4_asked 38 = .ok (.istore 6, 2) := dk_54 6 (dk_at dksX4_asked_1 14 rfl rfl)
theorem dX4_asked_40 : decode cX4_asked 40 = .ok (.iload_n 3, 1) := dk_29 (dk_at dksX4_asked_1 16 rfl rfl)
theorem dX4_asked_41 : decode cX4_asked 41 = .ok (.iconst (-1), 1) := dk_2 (dk_at dksX4_asked_1 17 rfl rfl)
theorem dX4_asked_42 : decode cX4_asked 42 = .ok (.if_icmp .eq 13, 3) := dk_159 0 13 (dk_at dksX4_asked_1 18 rfl rfl)
theorem dX4_asked_45 : decode cX4_asked 45 = .ok (.iload 6, 2) := dk_21 6 (dk_at dksX4_asked_1 21 rfl rfl)
theorem dX4_asked_47 : decode cX4_asked 47 = .ok (.iload 4, 2) := dk_21 4 (dk_at dksX4_asked_2 0 rfl rfl)
theorem dX4_asked_49 : decode cX4_asked 49 = .ok (.if_icmp .lt 6, 3) := dk_161 0 6 (dk_at dksX4_asked_2 2 rfl rfl)
theorem dX4_asked_52 : decode cX4_asked 52 = .ok (.goto 10, 3) := dk_167 0 10 (dk_at dksX4_asked_2 5 rfl rfl)
theorem dX4_asked_55 : decode cX4_asked 55 = .ok (.iload 6, 2) := dk_21 6 (dk_at dksX4_asked_2 8 rfl rfl)
theorem dX4_asked_57 : decode cX4_asked 57 = .ok (.istore 4, 2) := dk_54 4 (dk_at dksX4_asked_2 10 rfl rfl)
theorem dX4_asked_59 : decode cX4_asked 59 = .ok (.iload 5, 2) := dk_21 5 (dk_at dksX4_asked_2 12 rfl rfl)
theorem dX4_asked_61 : decode cX4_asked 61 = .ok (.istore_n 3, 1) := dk_62 (dk_at dksX4_asked_2 14 rfl rfl)
theorem dX4_asked_62 : decode cX4_asked 62 = .ok (.iinc 5 1, 3) := dk_132 5 1 (dk_at dksX4_asked_2 15 rfl rfl)
theorem dX4_asked_65 : decode cX4_asked 65 = .ok (.goto (-44), 3) := dk_167 255 212 (dk_at dksX4_asked_2 18 rfl rfl)
theorem dX4_asked_68 : decode cX4_asked 68 = .ok (.iload_n 3, 1) := dk_29 (dk_at dksX4_asked_2 21 rfl rfl)
theorem dX4_asked_69 : decode cX4_asked 69 = .ok (.ireturn, 1) := dk_172 (dk_at dksX4_asked_2 22 rfl rfl)
def dkwX4_worstOf_3 : List UInt8 := [167, 255, 191, 21, 4, 172]
abbrev dktX4_worstOf_3 : List UInt8 := dkwX4_worstOf_3 ++ []
def dkwX4_worstOf_2 : List UInt8 := [160, 0, 6, 132, 6, 1, 132, 7, 1, 167, 255, 219, 21, 4, 21, 6, 184, 1, 9, 54, 4, 132, 5, 1]
abbrev dktX4_worstOf_2 : List UInt8 := dkwX4_worstOf_2 ++ dktX4_worstOf_3
def dkwX4_worstOf_1 : List UInt8 := [162, 0, 36, 42, 27, 28, 2, 21, 7, 182, 0, 255, 153, 0, 18, 42, 29, 21, 7, 182, 0, 238, 21, 5]
abbrev dktX4_worstOf_1 : List UInt8 := dkwX4_worstOf_1 ++ dktX4_worstOf_2
def dkwX4_worstOf_0 : List UInt8 := [3, 54, 4, 2, 54, 5, 21, 5, 16, 9, 162, 0, 64, 3, 54, 6, 3, 54, 7, 21, 7, 16, 67]
abbrev dktX4_worstOf_0 : List UInt8 := dkwX4_worstOf_0 ++ dktX4_worstOf_1
theorem dksX4_worstOf_0 : cX4_worstOf.data.toList.drop 0 = dktX4_worstOf_0 := by decide +kernel
theorem dksX4_worstOf_1 : cX4_worstOf.data.toList.drop 23 = dktX4_worstOf_1 := dk_seg dksX4_worstOf_0 23 rfl rfl
theorem dksX4_worstOf_2 : cX4_worstOf.data.toList.drop 47 = dktX4_worstOf_2 := dk_seg dksX4_worstOf_1 24 rfl rfl
theorem dksX4_worstOf_3 : cX4_worstOf.data.toList.drop 71 = dktX4_worstOf_3 := dk_seg dksX4_worstOf_2 24 rfl rfl
theorem dX4_worstOf_0 : decode cX4_worstOf 0 = .ok (.iconst 0, 1) := dk_3 (dk_at dksX4_worstOf_0 0 rfl rfl)
theorem dX4_worstOf_1 : decode cX4_worstOf 1 = .ok (.istore 4, 2) := dk_54 4 (dk_at dksX4_worstOf_0 1 rfl rfl)
theorem dX4_worstOf_3 : decode cX4_worstOf 3 = .ok (.iconst (-1), 1) := dk_2 (dk_at dksX4_worstOf_0 3 rfl rfl)
theorem dX4_worstOf_4 : decode cX4_worstOf 4 = .ok (.istore 5, 2) := dk_54 5 (dk_at dksX4_worstOf_0 4 rfl rfl)
theorem dX4_worstOf_6 : decode cX4_worstOf 6 = .ok (.iload 5, 2) := dk_21 5 (dk_at dksX4_worstOf_0 6 rfl rfl)
theorem dX4_worstOf_8 : decode cX4_worstOf 8 = .ok (.bipush 9, 2) := dk_16 9 (dk_at dksX4_worstOf_0 8 rfl rfl)
theorem dX4_worstOf_10 : decode cX4_worstOf 10 = .ok (.if_icmp .ge 64, 3) := dk_162 0 64 (dk_at dksX4_worstOf_0 10 rfl rfl)
theorem dX4_worstOf_13 : decode cX4_worstOf 13 = .ok (.iconst 0, 1) := dk_3 (dk_at dksX4_worstOf_0 13 rfl rfl)
theorem dX4_worstOf_14 : decode cX4_worstOf 14 = .ok (.istore 6, 2) := dk_54 6 (dk_at dksX4_worstOf_0 14 rfl rfl)
theorem dX4_worstOf_16 : decode cX4_worstOf 16 = .ok (.iconst 0, 1) := dk_3 (dk_at dksX4_worstOf_0 16 rfl rfl)
theorem dX4_worstOf_17 : decode cX4_worstOf 17 = .ok (.istore 7, 2) := dk_54 7 (dk_at dksX4_worstOf_0 17 rfl rfl)
theorem dX4_worstOf_19 : decode cX4_worstOf 19 = .ok (.iload 7, 2) := dk_21 7 (dk_at dksX4_worstOf_0 19 rfl rfl)
theorem dX4_worstOf_21 : decode cX4_worstOf 21 = .ok (.bipush 67, 2) := dk_16 67 (dk_at dksX4_worstOf_0 21 rfl rfl)
theorem dX4_worstOf_23 : decode cX4_worstOf 23 = .ok (.if_icmp .ge 36, 3) := dk_162 0 36 (dk_at dksX4_worstOf_1 0 rfl rfl)
theorem dX4_worstOf_26 : decode cX4_worstOf 26 = .ok (.aload_n 0, 1) := dk_42 (dk_at dksX4_worstOf_1 3 rfl rfl)
theorem dX4_worstOf_27 : decode cX4_worstOf 27 = .ok (.iload_n 1, 1) := dk_27 (dk_at dksX4_worstOf_1 4 rfl rfl)
theorem dX4_worstOf_28 : decode cX4_worstOf 28 = .ok (.iload_n 2, 1) := dk_28 (dk_at dksX4_worstOf_1 5 rfl rfl)
theorem dX4_worstOf_29 : decode cX4_worstOf 29 = .ok (.iconst (-1), 1) := dk_2 (dk_at dksX4_worstOf_1 6 rfl rfl)
theorem dX4_worstOf_30 : decode cX4_worstOf 30 = .ok (.iload 7, 2) := dk_21 7 (dk_at dksX4_worstOf_1 7 rfl rfl)
theorem dX4_worstOf_32 : decode cX4_worstOf 32 = .ok (.invokevirtual 255, 3) := dk_182 0 255 (dk_at dksX4_worstOf_1 9 rfl rfl)
theorem dX4_worstOf_35 : decode cX4_worstOf 35 = .ok (.ifCond .eq 18, 3) := dk_153 0 18 (dk_at dksX4_worstOf_1 12 rfl rfl)
theorem dX4_worstOf_38 : decode cX4_worstOf 38 = .ok (.aload_n 0, 1) := dk_42 (dk_at dksX4_worstOf_1 15 rfl rfl)
theorem dX4_worstOf_39 : decode cX4_worstOf 39 = .ok (.iload_n 3, 1) := dk_29 (dk_at dksX4_worstOf_1 16 rfl rfl)
theorem dX4_worstOf_40 : decode cX4_worstOf 40 = .ok (.iload 7, 2) := dk_21 7 (dk_at dksX4_worstOf_1 17 rfl rfl)
theorem dX4_worstOf_42 : decode cX4_worstOf 42 = .ok (.invokevirtual 238, 3) := dk_182 0 238 (dk_at dksX4_worstOf_1 19 rfl rfl)
theorem dX4_worstOf_45 : decode cX4_worstOf 45 = .ok (.iload 5, 2) := dk_21 5 (dk_at dksX4_worstOf_1 22 rfl rfl)
theorem dX4_worstOf_47 : decode cX4_worstOf 47 = .ok (.if_icmp .ne 6, 3) := dk_160 0 6 (dk_at dksX4_worstOf_2 0 rfl rfl)
theorem dX4_worstOf_50 : decode cX4_worstOf 50 = .ok (.iinc 6 1, 3) := dk_132 6 1 (dk_at dksX4_worstOf_2 3 rfl rfl)
theorem dX4_worstOf_53 : decode cX4_worstOf 53 = .ok (.iinc 7 1, 3) := dk_132 7 1 (dk_at dksX4_worstOf_2 6 rfl rfl)
theorem dX4_worstOf_56 : decode cX4_worstOf 56 = .ok (.goto (-37), 3) := dk_167 255 219 (dk_at dksX4_worstOf_2 9 rfl rfl)
theorem dX4_worstOf_59 : decode cX4_worstOf 59 = .ok (.iload 4, 2) := dk_21 4 (dk_at dksX4_worstOf_2 12 rfl rfl)
theorem dX4_worstOf_61 : decode cX4_worstOf 61 = .ok (.iload 6, 2) := dk_21 6 (dk_at dksX4_worstOf_2 14 rfl rfl)
theorem dX4_worstOf_63 : decode cX4_worstOf 63 = .ok (.invokestatic 265, 3) := dk_184 1 9 (dk_at dksX4_worstOf_2 16 rfl rfl)
theorem dX4_worstOf_66 : decode cX4_worstOf 66 = .ok (.istore 4, 2) := dk_54 4 (dk_at dksX4_worstOf_2 19 rfl rfl)
theorem dX4_worstOf_68 : decode cX4_worstOf 68 = .ok (.iinc 5 1, 3) := dk_132 5 1 (dk_at dksX4_worstOf_2 21 rfl rfl)
theorem dX4_worstOf_71 : decode cX4_worstOf 71 = .ok (.goto (-65), 3) := dk_167 255 191 (dk_at dksX4_worstOf_3 0 rfl rfl)
theorem dX4_worstOf_74 : decode cX4_worstOf 74 = .ok (.iload 4, 2) := dk_21 4 (dk_at dksX4_worstOf_3 3 rfl rfl)
theorem dX4_worstOf_76 : decode cX4_worstOf 76 = .ok (.ireturn, 1) := dk_172 (dk_at dksX4_worstOf_3 5 rfl rfl)
def dkwX4_liar_2 : List UInt8 := [21, 6, 54, 4, 21, 5, 62, 132, 5, 1, 167, 255, 220, 29, 172]
abbrev dktX4_liar_2 : List UInt8 := dkwX4_liar_2 ++ []
def dkwX4_liar_1 : List UInt8 := [162, 0, 36, 42, 27, 28, 21, 5, 182, 1, 6, 54, 6, 21, 6, 21, 4, 163, 0, 6, 167, 0, 10]
abbrev dktX4_liar_1 : List UInt8 := dkwX4_liar_1 ++ dktX4_liar_2
def dkwX4_liar_0 : List UInt8 := [42, 27, 28, 2, 182, 1, 6, 158, 0, 5, 2, 172, 2, 62, 2, 54, 4, 3, 54, 5, 21, 5, 28]
abbrev dktX4_liar_0 : List UInt8 := dkwX4_liar_0 ++ dktX4_liar_1
theorem dksX4_liar_0 : cX4_liar.data.toList.drop 0 = dktX4_liar_0 := by decide +kernel
theorem dksX4_liar_1 : cX4_liar.data.toList.drop 23 = dktX4_liar_1 := dk_seg dksX4_liar_0 23 rfl rfl
theorem dksX4_liar_2 : cX4_liar.data.toList.drop 46 = dktX4_liar_2 := dk_seg dksX4_liar_1 23 rfl rfl
theorem dX4_liar_0 : decode cX4_liar 0 = .ok (.aload_n 0, 1) := dk_42 (dk_at dksX4_liar_0 0 rfl rfl)
theorem dX4_liar_1 : decode cX4_liar 1 = .ok (.iload_n 1, 1) := dk_27 (dk_at dksX4_liar_0 1 rfl rfl)
theorem dX4_liar_2 : decode cX4_liar 2 = .ok (.iload_n 2, 1) := dk_28 (dk_at dksX4_liar_0 2 rfl rfl)
theorem dX4_liar_3 : decode cX4_liar 3 = .ok (.iconst (-1), 1) := dk_2 (dk_at dksX4_liar_0 3 rfl rfl)
theorem dX4_liar_4 : decode cX4_liar 4 = .ok (.invokevirtual 262, 3) := dk_182 1 6 (dk_at dksX4_liar_0 4 rfl rfl)
theorem dX4_liar_7 : decode cX4_liar 7 = .ok (.ifCond .le 5, 3) := dk_158 0 5 (dk_at dksX4_liar_0 7 rfl rfl)
theorem dX4_liar_10 : decode cX4_liar 10 = .ok (.iconst (-1), 1) := dk_2 (dk_at dksX4_liar_0 10 rfl rfl)
theorem dX4_liar_11 : decode cX4_liar 11 = .ok (.ireturn, 1) := dk_172 (dk_at dksX4_liar_0 11 rfl rfl)
theorem dX4_liar_12 : decode cX4_liar 12 = .ok (.iconst (-1), 1) := dk_2 (dk_at dksX4_liar_0 12 rfl rfl)
theorem dX4_liar_13 : decode cX4_liar 13 = .ok (.istore_n 3, 1) := dk_62 (dk_at dksX4_liar_0 13 rfl rfl)
theorem dX4_liar_14 : decode cX4_liar 14 = .ok (.iconst (-1), 1) := dk_2 (dk_at dksX4_liar_0 14 rfl rfl)
theorem dX4_liar_15 : decode cX4_liar 15 = .ok (.istore 4, 2) := dk_54 4 (dk_at dksX4_liar_0 15 rfl rfl)
theorem dX4_liar_17 : decode cX4_liar 17 = .ok (.iconst 0, 1) := dk_3 (dk_at dksX4_liar_0 17 rfl rfl)
theorem dX4_liar_18 : decode cX4_liar 18 = .ok (.istore 5, 2) := dk_54 5 (dk_at dksX4_liar_0 18 rfl rfl)
theorem dX4_liar_20 : decode cX4_liar 20 = .ok (.iload 5, 2) := dk_21 5 (dk_at dksX4_liar_0 20 rfl rfl)
theorem dX4_liar_22 : decode cX4_liar 22 = .ok (.iload_n 2, 1) := dk_28 (dk_at dksX4_liar_0 22 rfl rfl)
theorem dX4_liar_23 : decode cX4_liar 23 = .ok (.if_icmp .ge 36, 3) := dk_162 0 36 (dk_at dksX4_liar_1 0 rfl rfl)
theorem dX4_liar_26 : decode cX4_liar 26 = .ok (.aload_n 0, 1) := dk_42 (dk_at dksX4_liar_1 3 rfl rfl)
theorem dX4_liar_27 : decode cX4_liar 27 = .ok (.iload_n 1, 1) := dk_27 (dk_at dksX4_liar_1 4 rfl rfl)
theorem dX4_liar_28 : decode cX4_liar 28 = .ok (.iload_n 2, 1) := dk_28 (dk_at dksX4_liar_1 5 rfl rfl)
theorem dX4_liar_29 : decode cX4_liar 29 = .ok (.iload 5, 2) := dk_21 5 (dk_at dksX4_liar_1 6 rfl rfl)
theorem dX4_liar_31 : decode cX4_liar 31 = .ok (.invokevirtual 262, 3) := dk_182 1 6 (dk_at dksX4_liar_1 8 rfl rfl)
theorem dX4_liar_34 : decode cX4_liar 34 = .ok (.istore 6, 2) := dk_54 6 (dk_at dksX4_liar_1 11 rfl rfl)
theorem dX4_liar_36 : decode cX4_liar 36 = .ok (.iload 6, 2) := dk_21 6 (dk_at dksX4_liar_1 13 rfl rfl)
theorem dX4_liar_38 : decode cX4_liar 38 = .ok (.iload 4, 2) := dk_21 4 (dk_at dksX4_liar_1 15 rfl rfl)
theorem dX4_liar_40 : decode cX4_liar 40 = .ok (.if_icmp .gt 6, 3) := dk_163 0 6 (dk_at dksX4_liar_1 17 rfl rfl)
theorem dX4_liar_43 : decode cX4_liar 43 = .ok (.goto 10, 3) := dk_167 0 10 (dk_at dksX4_liar_1 20 rfl rfl)
theorem dX4_liar_46 : decode cX4_liar 46 = .ok (.iload 6, 2) := dk_21 6 (dk_at dksX4_liar_2 0 rfl rfl)
theorem dX4_liar_48 : decode cX4_liar 48 = .ok (.istore 4, 2) := dk_54 4 (dk_at dksX4_liar_2 2 rfl rfl)
theorem dX4_liar_50 : decode cX4_liar 50 = .ok (.iload 5, 2) := dk_21 5 (dk_at dksX4_liar_2 4 rfl rfl)
theorem dX4_liar_52 : decode cX4_liar 52 = .ok (.istore_n 3, 1) := dk_62 (dk_at dksX4_liar_2 6 rfl rfl)
theorem dX4_liar_53 : decode cX4_liar 53 = .ok (.iinc 5 1, 3) := dk_132 5 1 (dk_at dksX4_liar_2 7 rfl rfl)
theorem dX4_liar_56 : decode cX4_liar 56 = .ok (.goto (-36), 3) := dk_167 255 220 (dk_at dksX4_liar_2 10 rfl rfl)
theorem dX4_liar_59 : decode cX4_liar 59 = .ok (.iload_n 3, 1) := dk_29 (dk_at dksX4_liar_2 13 rfl rfl)
theorem dX4_liar_60 : decode cX4_liar 60 = .ok (.ireturn, 1) := dk_172 (dk_at dksX4_liar_2 14 rfl rfl)
def dkwX4_kinds_3 : List UInt8 := [4, 21, 5, 120, 128, 54, 4, 132, 5, 1, 167, 255, 220, 42, 180, 0, 13, 27, 29, 79, 21, 4, 172]
abbrev dktX4_kinds_3 : List UInt8 := dkwX4_kinds_3 ++ []
def dkwX4_kinds_2 : List UInt8 := [16, 6, 162, 0, 35, 42, 180, 0, 13, 27, 21, 5, 79, 42, 27, 182, 0, 111, 28, 160, 0, 12, 21, 4]
abbrev dktX4_kinds_2 : List UInt8 := dkwX4_kinds_2 ++ dktX4_kinds_3
def dkwX4_kinds_1 : List UInt8 := [182, 0, 87, 172, 42, 182, 0, 108, 42, 180, 0, 13, 27, 46, 62, 3, 54, 4, 3, 54, 5, 21, 5]
abbrev dktX4_kinds_1 : List UInt8 := dkwX4_kinds_1 ++ dktX4_kinds_2
def dkwX4_kinds_0 : List UInt8 := [42, 27, 133, 182, 0, 101, 153, 0, 13, 28, 2, 16, 8, 184, 0, 79, 154, 0, 10, 42, 16, 254]
abbrev dktX4_kinds_0 : List UInt8 := dkwX4_kinds_0 ++ dktX4_kinds_1
theorem dksX4_kinds_0 : cX4_kinds.data.toList.drop 0 = dktX4_kinds_0 := by decide +kernel
theorem dksX4_kinds_1 : cX4_kinds.data.toList.drop 22 = dktX4_kinds_1 := dk_seg dksX4_kinds_0 22 rfl rfl
theorem dksX4_kinds_2 : cX4_kinds.data.toList.drop 45 = dktX4_kinds_2 := dk_seg dksX4_kinds_1 23 rfl rfl
theorem dksX4_kinds_3 : cX4_kinds.data.toList.drop 69 = dktX4_kinds_3 := dk_seg dksX4_kinds_2 24 rfl rfl
theorem dX4_kinds_0 : decode cX4_kinds 0 = .ok (.aload_n 0, 1) := dk_42 (dk_at dksX4_kinds_0 0 rfl rfl)
theorem dX4_kinds_1 : decode cX4_kinds 1 = .ok (.iload_n 1, 1) := dk_27 (dk_at dksX4_kinds_0 1 rfl rfl)
theorem dX4_kinds_2 : decode cX4_kinds 2 = .ok (.i2l, 1) := dk_133 (dk_at dksX4_kinds_0 2 rfl rfl)
theorem dX4_kinds_3 : decode cX4_kinds 3 = .ok (.invokevirtual 101, 3) := dk_182 0 101 (dk_at dksX4_kinds_0 3 rfl rfl)
theorem dX4_kinds_6 : decode cX4_kinds 6 = .ok (.ifCond .eq 13, 3) := dk_153 0 13 (dk_at dksX4_kinds_0 6 rfl rfl)
theorem dX4_kinds_9 : decode cX4_kinds 9 = .ok (.iload_n 2, 1) := dk_28 (dk_at dksX4_kinds_0 9 rfl rfl)
theorem dX4_kinds_10 : decode cX4_kinds 10 = .ok (.iconst (-1), 1) := dk_2 (dk_at dksX4_kinds_0 10 rfl rfl)
theorem dX4_kinds_11 : decode cX4_kinds 11 = .ok (.bipush 8, 2) := dk_16 8 (dk_at dksX4_kinds_0 11 rfl rfl)
theorem dX4_kinds_13 : decode cX4_kinds 13 = .ok (.invokestatic 79, 3) := dk_184 0 79 (dk_at dksX4_kinds_0 13 rfl rfl)
theorem dX4_kinds_16 : decode cX4_kinds 16 = .ok (.ifCond .ne 10, 3) := dk_154 0 10 (dk_at dksX4_kinds_0 16 rfl rfl)
theorem dX4_kinds_19 : decode cX4_kinds 19 = .ok (.aload_n 0, 1) := dk_42 (dk_at dksX4_kinds_0 19 rfl rfl)
theorem dX4_kinds_20 : decode cX4_kinds 20 = .ok (.bipush (-2), 2) := dk_16 254 (dk_at dksX4_kinds_0 20 rfl rfl)
theorem dX4_kinds_22 : decode cX4_kinds 22 = .ok (.invokevirtual 87, 3) := dk_182 0 87 (dk_at dksX4_kinds_1 0 rfl rfl)
theorem dX4_kinds_25 : decode cX4_kinds 25 = .ok (.ireturn, 1) := dk_172 (dk_at dksX4_kinds_1 3 rfl rfl)
theorem dX4_kinds_26 : decode cX4_kinds 26 = .ok (.aload_n 0, 1) := dk_42 (dk_at dksX4_kinds_1 4 rfl rfl)
theorem dX4_kinds_27 : decode cX4_kinds 27 = .ok (.invokevirtual 108, 3) := dk_182 0 108 (dk_at dksX4_kinds_1 5 rfl rfl)
theorem dX4_kinds_30 : decode cX4_kinds 30 = .ok (.aload_n 0, 1) := dk_42 (dk_at dksX4_kinds_1 8 rfl rfl)
theorem dX4_kinds_31 : decode cX4_kinds 31 = .ok (.getfield 13, 3) := dk_180 0 13 (dk_at dksX4_kinds_1 9 rfl rfl)
theorem dX4_kinds_34 : decode cX4_kinds 34 = .ok (.iload_n 1, 1) := dk_27 (dk_at dksX4_kinds_1 12 rfl rfl)
theorem dX4_kinds_35 : decode cX4_kinds 35 = .ok (.iaload, 1) := dk_46 (dk_at dksX4_kinds_1 13 rfl rfl)
theorem dX4_kinds_36 : decode cX4_kinds 36 = .ok (.istore_n 3, 1) := dk_62 (dk_at dksX4_kinds_1 14 rfl rfl)
theorem dX4_kinds_37 : decode cX4_kinds 37 = .ok (.iconst 0, 1) := dk_3 (dk_at dksX4_kinds_1 15 rfl rfl)
theorem dX4_kinds_38 : decode cX4_kinds 38 = .ok (.istore 4, 2) := dk_54 4 (dk_at dksX4_kinds_1 16 rfl rfl)
theorem dX4_kinds_40 : decode cX4_kinds 40 = .ok (.iconst 0, 1) := dk_3 (dk_at dksX4_kinds_1 18 rfl rfl)
theorem dX4_kinds_41 : decode cX4_kinds 41 = .ok (.istore 5, 2) := dk_54 5 (dk_at dksX4_kinds_1 19 rfl rfl)
theorem dX4_kinds_43 : decode cX4_kinds 43 = .ok (.iload 5, 2) := dk_21 5 (dk_at dksX4_kinds_1 21 rfl rfl)
theorem dX4_kinds_45 : decode cX4_kinds 45 = .ok (.bipush 6, 2) := dk_16 6 (dk_at dksX4_kinds_2 0 rfl rfl)
theorem dX4_kinds_47 : decode cX4_kinds 47 = .ok (.if_icmp .ge 35, 3) := dk_162 0 35 (dk_at dksX4_kinds_2 2 rfl rfl)
theorem dX4_kinds_50 : decode cX4_kinds 50 = .ok (.aload_n 0, 1) := dk_42 (dk_at dksX4_kinds_2 5 rfl rfl)
theorem dX4_kinds_51 : decode cX4_kinds 51 = .ok (.getfield 13, 3) := dk_180 0 13 (dk_at dksX4_kinds_2 6 rfl rfl)
theorem dX4_kinds_54 : decode cX4_kinds 54 = .ok (.iload_n 1, 1) := dk_27 (dk_at dksX4_kinds_2 9 rfl rfl)
theorem dX4_kinds_55 : decode cX4_kinds 55 = .ok (.iload 5, 2) := dk_21 5 (dk_at dksX4_kinds_2 10 rfl rfl)
theorem dX4_kinds_57 : decode cX4_kinds 57 = .ok (.iastore, 1) := dk_79 (dk_at dksX4_kinds_2 12 rfl rfl)
theorem dX4_kinds_58 : decode cX4_kinds 58 = .ok (.aload_n 0, 1) := dk_42 (dk_at dksX4_kinds_2 13 rfl rfl)
theorem dX4_kinds_59 : decode cX4_kinds 59 = .ok (.iload_n 1, 1) := dk_27 (dk_at dksX4_kinds_2 14 rfl rfl)
theorem dX4_kinds_60 : decode cX4_kinds 60 = .ok (.invokevirtual 111, 3) := dk_182 0 111 (dk_at dksX4_kinds_2 15 rfl rfl)
theorem dX4_kinds_63 : decode cX4_kinds 63 = .ok (.iload_n 2, 1) := dk_28 (dk_at dksX4_kinds_2 18 rfl rfl)
theorem dX4_kinds_64 : decode cX4_kinds 64 = .ok (.if_icmp .ne 12, 3) := dk_160 0 12 (dk_at dksX4_kinds_2 19 rfl rfl)
theorem dX4_kinds_67 : decode cX4_kinds 67 = .ok (.iload 4, 2) := dk_21 4 (dk_at dksX4_kinds_2 22 rfl rfl)
theorem dX4_kinds_69 : decode cX4_kinds 69 = .ok (.iconst 1, 1) := dk_4 (dk_at dksX4_kinds_3 0 rfl rfl)
theorem dX4_kinds_70 : decode cX4_kinds 70 = .ok (.iload 5, 2) := dk_21 5 (dk_at dksX4_kinds_3 1 rfl rfl)
theorem dX4_kinds_72 : decode cX4_kinds 72 = .ok (.ishl, 1) := dk_120 (dk_at dksX4_kinds_3 3 rfl rfl)
theorem dX4_kinds_73 : decode cX4_kinds 73 = .ok (.ior, 1) := dk_128 (dk_at dksX4_kinds_3 4 rfl rfl)
theorem dX4_kinds_74 : decode cX4_kinds 74 = .ok (.istore 4, 2) := dk_54 4 (dk_at dksX4_kinds_3 5 rfl rfl)
theorem dX4_kinds_76 : decode cX4_kinds 76 = .ok (.iinc 5 1, 3) := dk_132 5 1 (dk_at dksX4_kinds_3 7 rfl rfl)
theorem dX4_kinds_79 : decode cX4_kinds 79 = .ok (.goto (-36), 3) := dk_167 255 220 (dk_at dksX4_kinds_3 10 rfl rfl)
theorem dX4_kinds_82 : decode cX4_kinds 82 = .ok (.aload_n 0, 1) := dk_42 (dk_at dksX4_kinds_3 13 rfl rfl)
theorem dX4_kinds_83 : decode cX4_kinds 83 = .ok (.getfield 13, 3) := dk_180 0 13 (dk_at dksX4_kinds_3 14 rfl rfl)
theorem dX4_kinds_86 : decode cX4_kinds 86 = .ok (.iload_n 1, 1) := dk_27 (dk_at dksX4_kinds_3 17 rfl rfl)
theorem dX4_kinds_87 : decode cX4_kinds 87 = .ok (.iload_n 3, 1) := dk_29 (dk_at dksX4_kinds_3 18 rfl rfl)
theorem dX4_kinds_88 : decode cX4_kinds 88 = .ok (.iastore, 1) := dk_79 (dk_at dksX4_kinds_3 19 rfl rfl)
theorem dX4_kinds_89 : decode cX4_kinds 89 = .ok (.iload 4, 2) := dk_21 4 (dk_at dksX4_kinds_3 20 rfl rfl)
theorem dX4_kinds_91 : decode cX4_kinds 91 = .ok (.ireturn, 1) := dk_172 (dk_at dksX4_kinds_3 22 rfl rfl)
def dkwX4_apart_3 : List UInt8 := [167, 0, 4, 29, 172]
abbrev dktX4_apart_3 : List UInt8 := dkwX4_apart_3 ++ []
def dkwX4_apart_2 : List UInt8 := [29, 42, 21, 4, 182, 1, 33, 184, 1, 9, 62, 132, 4, 1, 167, 255, 236, 27, 154, 0, 7, 28]
abbrev dktX4_apart_2 : List UInt8 := dkwX4_apart_2 ++ dktX4_apart_3
def dkwX4_apart_1 : List UInt8 := [182, 1, 24, 172, 42, 42, 182, 1, 27, 182, 1, 30, 61, 3, 62, 3, 54, 4, 21, 4, 28, 162, 0, 20]
abbrev dktX4_apart_1 : List UInt8 := dkwX4_apart_1 ++ dktX4_apart_2
def dkwX4_apart_0 : List UInt8 := [27, 3, 5, 184, 0, 79, 154, 0, 10, 42, 16, 254, 182, 0, 87, 172, 27, 5, 160, 0, 8, 42]
abbrev dktX4_apart_0 : List UInt8 := dkwX4_apart_0 ++ dktX4_apart_1
theorem dksX4_apart_0 : cX4_apart.data.toList.drop 0 = dktX4_apart_0 := by decide +kernel
theorem dksX4_apart_1 : cX4_apart.data.toList.drop 22 = dktX4_apart_1 := dk_seg dksX4_apart_0 22 rfl rfl
theorem dksX4_apart_2 : cX4_apart.data.toList.drop 46 = dktX4_apart_2 := dk_seg dksX4_apart_1 24 rfl rfl
theorem dksX4_apart_3 : cX4_apart.data.toList.drop 68 = dktX4_apart_3 := dk_seg dksX4_apart_2 22 rfl rfl
theorem dX4_apart_0 : decode cX4_apart 0 = .ok (.iload_n 1, 1) := dk_27 (dk_at dksX4_apart_0 0 rfl rfl)
theorem dX4_apart_1 : decode cX4_apart 1 = .ok (.iconst 0, 1) := dk_3 (dk_at dksX4_apart_0 1 rfl rfl)
theorem dX4_apart_2 : decode cX4_apart 2 = .ok (.iconst 2, 1) := dk_5 (dk_at dksX4_apart_0 2 rfl rfl)
theorem dX4_apart_3 : decode cX4_apart 3 = .ok (.invokestatic 79, 3) := dk_184 0 79 (dk_at dksX4_apart_0 3 rfl rfl)
theorem dX4_apart_6 : decode cX4_apart 6 = .ok (.ifCond .ne 10, 3) := dk_154 0 10 (dk_at dksX4_apart_0 6 rfl rfl)
theorem dX4_apart_9 : decode cX4_apart 9 = .ok (.aload_n 0, 1) := dk_42 (dk_at dksX4_apart_0 9 rfl rfl)
theorem dX4_apart_10 : decode cX4_apart 10 = .ok (.bipush (-2), 2) := dk_16 254 (dk_at dksX4_apart_0 10 rfl rfl)
theorem dX4_apart_12 : decode cX4_apart 12 = .ok (.invokevirtual 87, 3) := dk_182 0 87 (dk_at dksX4_apart_0 12 rfl rfl)
theorem dX4_apart_15 : decode cX4_apart 15 = .ok (.ireturn, 1) := dk_172 (dk_at dksX4_apart_0 15 rfl rfl)
theorem dX4_apart_16 : decode cX4_apart 16 = .ok (.iload_n 1, 1) := dk_27 (dk_at dksX4_apart_0 16 rfl rfl)
theorem dX4_apart_17 : decode cX4_apart 17 = .ok (.iconst 2, 1) := dk_5 (dk_at dksX4_apart_0 17 rfl rfl)
theorem dX4_apart_18 : decode cX4_apart 18 = .ok (.if_icmp .ne 8, 3) := dk_160 0 8 (dk_at dksX4_apart_0 18 rfl rfl)
theorem dX4_apart_21 : decode cX4_apart 21 = .ok (.aload_n 0, 1) := dk_42 (dk_at dksX4_apart_0 21 rfl rfl)
theorem dX4_apart_22 : decode cX4_apart 22 = .ok (.invokevirtual 280, 3) := dk_182 1 24 (dk_at dksX4_apart_1 0 rfl rfl)
theorem dX4_apart_25 : decode cX4_apart 25 = .ok (.ireturn, 1) := dk_172 (dk_at dksX4_apart_1 3 rfl rfl)
theorem dX4_apart_26 : decode cX4_apart 26 = .ok (.aload_n 0, 1) := dk_42 (dk_at dksX4_apart_1 4 rfl rfl)
theorem dX4_apart_27 : decode cX4_apart 27 = .ok (.aload_n 0, 1) := dk_42 (dk_at dksX4_apart_1 5 rfl rfl)
theorem dX4_apart_28 : decode cX4_apart 28 = .ok (.invokevirtual 283, 3) := dk_182 1 27 (dk_at dksX4_apart_1 6 rfl rfl)
theorem dX4_apart_31 : decode cX4_apart 31 = .ok (.invokevirtual 286, 3) := dk_182 1 30 (dk_at dksX4_apart_1 9 rfl rfl)
theorem dX4_apart_34 : decode cX4_apart 34 = .ok (.istore_n 2, 1) := dk_61 (dk_at dksX4_apart_1 12 rfl rfl)
theorem dX4_apart_35 : decode cX4_apart 35 = .ok (.iconst 0, 1) := dk_3 (dk_at dksX4_apart_1 13 rfl rfl)
theorem dX4_apart_36 : decode cX4_apart 36 = .ok (.istore_n 3, 1) := dk_62 (dk_at dksX4_apart_1 14 rfl rfl)
theorem dX4_apart_37 : decode cX4_apart 37 = .ok (.iconst 0, 1) := dk_3 (dk_at dksX4_apart_1 15 rfl rfl)
theorem dX4_apart_38 : decode cX4_apart 38 = .ok (.istore 4, 2) := dk_54 4 (dk_at dksX4_apart_1 16 rfl rfl)
theorem dX4_apart_40 : decode cX4_apart 40 = .ok (.iload 4, 2) := dk_21 4 (dk_at dksX4_apart_1 18 rfl rfl)
theorem dX4_apart_42 : decode cX4_apart 42 = .ok (.iload_n 2, 1) := dk_28 (dk_at dksX4_apart_1 20 rfl rfl)
theorem dX4_apart_43 : decode cX4_apart 43 = .ok (.if_icmp .ge 20, 3) := dk_162 0 20 (dk_at dksX4_apart_1 21 rfl rfl)
theorem dX4_apart_46 : decode cX4_apart 46 = .ok (.iload_n 3, 1) := dk_29 (dk_at dksX4_apart_2 0 rfl rfl)
theorem dX4_apart_47 : decode cX4_apart 47 = .ok (.aload_n 0, 1) := dk_42 (dk_at dksX4_apart_2 1 rfl rfl)
theorem dX4_apart_48 : decode cX4_apart 48 = .ok (.iload 4, 2) := dk_21 4 (dk_at dksX4_apart_2 2 rfl rfl)
theorem dX4_apart_50 : decode cX4_apart 50 = .ok (.invokevirtual 289, 3) := dk_182 1 33 (dk_at dksX4_apart_2 4 rfl rfl)
theorem dX4_apart_53 : decode cX4_apart 53 = .ok (.invokestatic 265, 3) := dk_184 1 9 (dk_at dksX4_apart_2 7 rfl rfl)
theorem dX4_apart_56 : decode cX4_apart 56 = .ok (.istore_n 3, 1) := dk_62 (dk_at dksX4_apart_2 10 rfl rfl)
theorem dX4_apart_57 : decode cX4_apart 57 = .ok (.iinc 4 1, 3) := dk_132 4 1 (dk_at dksX4_apart_2 11 rfl rfl)
theorem dX4_apart_60 : decode cX4_apart 60 = .ok (.goto (-20), 3) := dk_167 255 236 (dk_at dksX4_apart_2 14 rfl rfl)
theorem dX4_apart_63 : decode cX4_apart 63 = .ok (.iload_n 1, 1) := dk_27 (dk_at dksX4_apart_2 17 rfl rfl)
theorem dX4_apart_64 : decode cX4_apart 64 = .ok (.ifCond .ne 7, 3) := dk_154 0 7 (dk_at dksX4_apart_2 18 rfl rfl)
theorem dX4_apart_67 : decode cX4_apart 67 = .ok (.iload_n 2, 1) := dk_28 (dk_at dksX4_apart_2 21 rfl rfl)
theorem dX4_apart_68 : decode cX4_apart 68 = .ok (.goto 4, 3) := dk_167 0 4 (dk_at dksX4_apart_3 0 rfl rfl)
theorem dX4_apart_71 : decode cX4_apart 71 = .ok (.iload_n 3, 1) := dk_29 (dk_at dksX4_apart_3 3 rfl rfl)
theorem dX4_apart_72 : decode cX4_apart 72 = .ok (.ireturn, 1) := dk_172 (dk_at dksX4_apart_3 4 rfl rfl)
def dkwX4_blind_3 : List UInt8 := [27, 172]
abbrev dktX4_blind_3 : List UInt8 := dkwX4_blind_3 ++ []
def dkwX4_blind_2 : List UInt8 := [167, 0, 4, 3, 62, 132, 4, 1, 167, 255, 223, 29, 153, 0, 6, 132, 1, 1, 132, 2, 1, 167, 255, 195]
abbrev dktX4_blind_2 : List UInt8 := dkwX4_blind_2 ++ dktX4_blind_3
def dkwX4_blind_1 : List UInt8 := [180, 0, 73, 162, 0, 30, 29, 153, 0, 26, 42, 21, 4, 28, 182, 0, 238, 2, 160, 0, 7, 4]
abbrev dktX4_blind_1 : List UInt8 := dkwX4_blind_1 ++ dktX4_blind_2
def dkwX4_blind_0 : List UInt8 := [3, 60, 3, 61, 28, 16, 67, 162, 0, 61, 42, 28, 182, 0, 252, 62, 3, 54, 4, 21, 4, 42]
abbrev dktX4_blind_0 : List UInt8 := dkwX4_blind_0 ++ dktX4_blind_1
theorem dksX4_blind_0 : cX4_blind.data.toList.drop 0 = dktX4_blind_0 := by decide +kernel
theorem dksX4_blind_1 : cX4_blind.data.toList.drop 22 = dktX4_blind_1 := dk_seg dksX4_blind_0 22 rfl rfl
theorem dksX4_blind_2 : cX4_blind.data.toList.drop 44 = dktX4_blind_2 := dk_seg dksX4_blind_1 22 rfl rfl
theorem dksX4_blind_3 : cX4_blind.data.toList.drop 68 = dktX4_blind_3 := dk_seg dksX4_blind_2 24 rfl rfl
theorem dX4_blind_0 : decode cX4_blind 0 = .ok (.iconst 0, 1) := dk_3 (dk_at dksX4_blind_0 0 rfl rfl)
theorem dX4_blind_1 : decode cX4_blind 1 = .ok (.istore_n 1, 1) := dk_60 (dk_at dksX4_blind_0 1 rfl rfl)
theorem dX4_blind_2 : decode cX4_blind 2 = .ok (.iconst 0, 1) := dk_3 (dk_at dksX4_blind_0 2 rfl rfl)
theorem dX4_blind_3 : decode cX4_blind 3 = .ok (.istore_n 2, 1) := dk_61 (dk_at dksX4_blind_0 3 rfl rfl)
theorem dX4_blind_4 : decode cX4_blind 4 = .ok (.iload_n 2, 1) := dk_28 (dk_at dksX4_blind_0 4 rfl rfl)
theorem dX4_blind_5 : decode cX4_blind 5 = .ok (.bipush 67, 2) := dk_16 67 (dk_at dksX4_blind_0 5 rfl rfl)
theorem dX4_blind_7 : decode cX4_blind 7 = .ok (.if_icmp .ge 61, 3) := dk_162 0 61 (dk_at dksX4_blind_0 7 rfl rfl)
theorem dX4_blind_10 : decode cX4_blind 10 = .ok (.aload_n 0, 1) := dk_42 (dk_at dksX4_blind_0 10 rfl rfl)
theorem dX4_blind_11 : decode cX4_blind 11 = .ok (.iload_n 2, 1) := dk_28 (dk_at dksX4_blind_0 11 rfl rfl)
theorem dX4_blind_12 : decode cX4_blind 12 = .ok (.invokevirtual 252, 3) := dk_182 0 252 (dk_at dksX4_blind_0 12 rfl rfl)
theorem dX4_blind_15 : decode cX4_blind 15 = .ok (.istore_n 3, 1) := dk_62 (dk_at dksX4_blind_0 15 rfl rfl)
theorem dX4_blind_16 : decode cX4_blind 16 = .ok (.iconst 0, 1) := dk_3 (dk_at dksX4_blind_0 16 rfl rfl)
theorem dX4_blind_17 : decode cX4_blind 17 = .ok (.istore 4, 2) := dk_54 4 (dk_at dksX4_blind_0 17 rfl rfl)
theorem dX4_blind_19 : decode cX4_blind 19 = .ok (.iload 4, 2) := dk_21 4 (dk_at dksX4_blind_0 19 rfl rfl)
theorem dX4_blind_21 : decode cX4_blind 21 = .ok (.aload_n 0, 1) := dk_42 (dk_at dksX4_blind_0 21 rfl rfl)
theorem dX4_blind_22 : decode cX4_blind 22 = .ok (.getfield 73, 3) := dk_180 0 73 (dk_at dksX4_blind_1 0 rfl rfl)
theorem dX4_blind_25 : decode cX4_blind 25 = .ok (.if_icmp .ge 30, 3) := dk_162 0 30 (dk_at dksX4_blind_1 3 rfl rfl)
theorem dX4_blind_28 : decode cX4_blind 28 = .ok (.iload_n 3, 1) := dk_29 (dk_at dksX4_blind_1 6 rfl rfl)
theorem dX4_blind_29 : decode cX4_blind 29 = .ok (.ifCond .eq 26, 3) := dk_153 0 26 (dk_at dksX4_blind_1 7 rfl rfl)
theorem dX4_blind_32 : decode cX4_blind 32 = .ok (.aload_n 0, 1) := dk_42 (dk_at dksX4_blind_1 10 rfl rfl)
theorem dX4_blind_33 : decode cX4_blind 33 = .ok (.iload 4, 2) := dk_21 4 (dk_at dksX4_blind_1 11 rfl rfl)
theorem dX4_blind_35 : decode cX4_blind 35 = .ok (.iload_n 2, 1) := dk_28 (dk_at dksX4_blind_1 13 rfl rfl)
theorem dX4_blind_36 : decode cX4_blind 36 = .ok (.invokevirtual 238, 3) := dk_182 0 238 (dk_at dksX4_blind_1 14 rfl rfl)
theorem dX4_blind_39 : decode cX4_blind 39 = .ok (.iconst (-1), 1) := dk_2 (dk_at dksX4_blind_1 17 rfl rfl)
theorem dX4_blind_40 : decode cX4_blind 40 = .ok (.if_icmp .ne 7, 3) := dk_160 0 7 (dk_at dksX4_blind_1 18 rfl rfl)
theorem dX4_blind_43 : decode cX4_blind 43 = .ok (.iconst 1, 1) := dk_4 (dk_at dksX4_blind_1 21 rfl rfl)
theorem dX4_blind_44 : decode cX4_blind 44 = .ok (.goto 4, 3) := dk_167 0 4 (dk_at dksX4_blind_2 0 rfl rfl)
theorem dX4_blind_47 : decode cX4_blind 47 = .ok (.iconst 0, 1) := dk_3 (dk_at dksX4_blind_2 3 rfl rfl)
theorem dX4_blind_48 : decode cX4_blind 48 = .ok (.istore_n 3, 1) := dk_62 (dk_at dksX4_blind_2 4 rfl rfl)
theorem dX4_blind_49 : decode cX4_blind 49 = .ok (.iinc 4 1, 3) := dk_132 4 1 (dk_at dksX4_blind_2 5 rfl rfl)
theorem dX4_blind_52 : decode cX4_blind 52 = .ok (.goto (-33), 3) := dk_167 255 223 (dk_at dksX4_blind_2 8 rfl rfl)
theorem dX4_blind_55 : decode cX4_blind 55 = .ok (.iload_n 3, 1) := dk_29 (dk_at dksX4_blind_2 11 rfl rfl)
theorem dX4_blind_56 : decode cX4_blind 56 = .ok (.ifCond .eq 6, 3) := dk_153 0 6 (dk_at dksX4_blind_2 12 rfl rfl)
theorem dX4_blind_59 : decode cX4_blind 59 = .ok (.iinc 1 1, 3) := dk_132 1 1 (dk_at dksX4_blind_2 15 rfl rfl)
theorem dX4_blind_62 : decode cX4_blind 62 = .ok (.iinc 2 1, 3) := dk_132 2 1 (dk_at dksX4_blind_2 18 rfl rfl)
theorem dX4_blind_65 : decode cX4_blind 65 = .ok (.goto (-61), 3) := dk_167 255 195 (dk_at dksX4_blind_2 21 rfl rfl)
theorem dX4_blind_68 : decode cX4_blind 68 = .ok (.iload_n 1, 1) := dk_27 (dk_at dksX4_blind_3 0 rfl rfl)
theorem dX4_blind_69 : decode cX4_blind 69 = .ok (.ireturn, 1) := dk_172 (dk_at dksX4_blind_3 1 rfl rfl)
def dkwX4_allPosts_0 : List UInt8 := [4, 42, 180, 0, 73, 120, 4, 100, 172]
abbrev dktX4_allPosts_0 : List UInt8 := dkwX4_allPosts_0 ++ []
theorem dksX4_allPosts_0 : cX4_allPosts.data.toList.drop 0 = dktX4_allPosts_0 := by decide +kernel
theorem dX4_allPosts_0 : decode cX4_allPosts 0 = .ok (.iconst 1, 1) := dk_4 (dk_at dksX4_allPosts_0 0 rfl rfl)
theorem dX4_allPosts_1 : decode cX4_allPosts 1 = .ok (.aload_n 0, 1) := dk_42 (dk_at dksX4_allPosts_0 1 rfl rfl)
theorem dX4_allPosts_2 : decode cX4_allPosts 2 = .ok (.getfield 73, 3) := dk_180 0 73 (dk_at dksX4_allPosts_0 2 rfl rfl)
theorem dX4_allPosts_5 : decode cX4_allPosts 5 = .ok (.ishl, 1) := dk_120 (dk_at dksX4_allPosts_0 5 rfl rfl)
theorem dX4_allPosts_6 : decode cX4_allPosts 6 = .ok (.iconst 1, 1) := dk_4 (dk_at dksX4_allPosts_0 6 rfl rfl)
theorem dX4_allPosts_7 : decode cX4_allPosts 7 = .ok (.isub, 1) := dk_100 (dk_at dksX4_allPosts_0 7 rfl rfl)
theorem dX4_allPosts_8 : decode cX4_allPosts 8 = .ok (.ireturn, 1) := dk_172 (dk_at dksX4_allPosts_0 8 rfl rfl)
def dkwX4_groups_3 : List UInt8 := [167, 0, 10, 42, 180, 0, 57, 21, 4, 46, 79, 132, 3, 1, 167, 255, 175, 28, 172]
abbrev dktX4_groups_3 : List UInt8 := dkwX4_groups_3 ++ []
def dkwX4_groups_2 : List UInt8 := [154, 0, 9, 132, 4, 1, 167, 255, 227, 42, 180, 0, 57, 29, 21, 4, 29, 160, 0, 10, 28, 132, 2, 1]
abbrev dktX4_groups_2 : List UInt8 := dkwX4_groups_2 ++ dktX4_groups_3
def dkwX4_groups_1 : List UInt8 := [21, 4, 29, 162, 0, 29, 42, 21, 4, 182, 0, 252, 153, 0, 14, 42, 27, 29, 21, 4, 182, 1, 21]
abbrev dktX4_groups_1 : List UInt8 := dkwX4_groups_1 ++ dktX4_groups_2
def dkwX4_groups_0 : List UInt8 := [3, 61, 3, 62, 29, 16, 67, 162, 0, 81, 42, 29, 182, 0, 252, 154, 0, 6, 167, 0, 64, 3, 54, 4]
abbrev dktX4_groups_0 : List UInt8 := dkwX4_groups_0 ++ dktX4_groups_1
theorem dksX4_groups_0 : cX4_groups.data.toList.drop 0 = dktX4_groups_0 := by decide +kernel
theorem dksX4_groups_1 : cX4_groups.data.toList.drop 24 = dktX4_groups_1 := dk_seg dksX4_groups_0 24 rfl rfl
theorem dksX4_groups_2 : cX4_groups.data.toList.drop 47 = dktX4_groups_2 := dk_seg dksX4_groups_1 23 rfl rfl
theorem dksX4_groups_3 : cX4_groups.data.toList.drop 71 = dktX4_groups_3 := dk_seg dksX4_groups_2 24 rfl rfl
theorem dX4_groups_0 : decode cX4_groups 0 = .ok (.iconst 0, 1) := dk_3 (dk_at dksX4_groups_0 0 rfl rfl)
theorem dX4_groups_1 : decode cX4_groups 1 = .ok (.istore_n 2, 1) := dk_61 (dk_at dksX4_groups_0 1 rfl rfl)
theorem dX4_groups_2 : decode cX4_groups 2 = .ok (.iconst 0, 1) := dk_3 (dk_at dksX4_groups_0 2 rfl rfl)
theorem dX4_groups_3 : decode cX4_groups 3 = .ok (.istore_n 3, 1) := dk_62 (dk_at dksX4_groups_0 3 rfl rfl)
theorem dX4_groups_4 : decode cX4_groups 4 = .ok (.iload_n 3, 1) := dk_29 (dk_at dksX4_groups_0 4 rfl rfl)
theorem dX4_groups_5 : decode cX4_groups 5 = .ok (.bipush 67, 2) := dk_16 67 (dk_at dksX4_groups_0 5 rfl rfl)
theorem dX4_groups_7 : decode cX4_groups 7 = .ok (.if_icmp .ge 81, 3) := dk_162 0 81 (dk_at dksX4_groups_0 7 rfl rfl)
theorem dX4_groups_10 : decode cX4_groups 10 = .ok (.aload_n 0, 1) := dk_42 (dk_at dksX4_groups_0 10 rfl rfl)
theorem dX4_groups_11 : decode cX4_groups 11 = .ok (.iload_n 3, 1) := dk_29 (dk_at dksX4_groups_0 11 rfl rfl)
theorem dX4_groups_12 : decode cX4_groups 12 = .ok (.invokevirtual 252, 3) := dk_182 0 252 (dk_at dksX4_groups_0 12 rfl rfl)
theorem dX4_groups_15 : decode cX4_groups 15 = .ok (.ifCond .ne 6, 3) := dk_154 0 6 (dk_at dksX4_groups_0 15 rfl rfl)
theorem dX4_groups_18 : decode cX4_groups 18 = .ok (.goto 64, 3) := dk_167 0 64 (dk_at dksX4_groups_0 18 rfl rfl)
theorem dX4_groups_21 : decode cX4_groups 21 = .ok (.iconst 0, 1) := dk_3 (dk_at dksX4_groups_0 21 rfl rfl)
theorem dX4_groups_22 : decode cX4_groups 22 = .ok (.istore 4, 2) := dk_54 4 (dk_at dksX4_groups_0 22 rfl rfl)
theorem dX4_groups_24 : decode cX4_groups 24 = .ok (.iload 4, 2) := dk_21 4 (dk_at dksX4_groups_1 0 rfl rfl)
theorem dX4_groups_26 : decode cX4_groups 26 = .ok (.iload_n 3, 1) := dk_29 (dk_at dksX4_groups_1 2 rfl rfl)
theorem dX4_groups_27 : decode cX4_groups 27 = .ok (.if_icmp .ge 29, 3) := dk_162 0 29 (dk_at dksX4_groups_1 3 rfl rfl)
theorem dX4_groups_30 : decode cX4_groups 30 = .ok (.aload_n 0, 1) := dk_42 (dk_at dksX4_groups_1 6 rfl rfl)
theorem dX4_groups_31 : decode cX4_groups 31 = .ok (.iload 4, 2) := dk_21 4 (dk_at dksX4_groups_1 7 rfl rfl)
theorem dX4_groups_33 : decode cX4_groups 33 = .ok (.invokevirtual 252, 3) := dk_182 0 252 (dk_at dksX4_groups_1 9 rfl rfl)
theorem dX4_groups_36 : decode cX4_groups 36 = .ok (.ifCond .eq 14, 3) := dk_153 0 14 (dk_at dksX4_groups_1 12 rfl rfl)
theorem dX4_groups_39 : decode cX4_groups 39 = .ok (.aload_n 0, 1) := dk_42 (dk_at dksX4_groups_1 15 rfl rfl)
theorem dX4_groups_40 : decode cX4_groups 40 = .ok (.iload_n 1, 1) := dk_27 (dk_at dksX4_groups_1 16 rfl rfl)
theorem dX4_groups_41 : decode cX4_groups 41 = .ok (.iload_n 3, 1) := dk_29 (dk_at dksX4_groups_1 17 rfl rfl)
theorem dX4_groups_42 : decode cX4_groups 42 = .ok (.iload 4, 2) := dk_21 4 (dk_at dksX4_groups_1 18 rfl rfl)
theorem dX4_groups_44 : decode cX4_groups 44 = .ok (.invokevirtual 277, 3) := dk_182 1 21 (dk_at dksX4_groups_1 20 rfl rfl)
theorem dX4_groups_47 : decode cX4_groups 47 = .ok (.ifCond .ne 9, 3) := dk_154 0 9 (dk_at dksX4_groups_2 0 rfl rfl)
theorem dX4_groups_50 : decode cX4_groups 50 = .ok (.iinc 4 1, 3) := dk_132 4 1 (dk_at dksX4_groups_2 3 rfl rfl)
theorem dX4_groups_53 : decode cX4_groups 53 = .ok (.goto (-29), 3) := dk_167 255 227 (dk_at dksX4_groups_2 6 rfl rfl)
theorem dX4_groups_56 : decode cX4_groups 56 = .ok (.aload_n 0, 1) := dk_42 (dk_at dksX4_groups_2 9 rfl rfl)
theorem dX4_groups_57 : decode cX4_groups 57 = .ok (.getfield 57, 3) := dk_180 0 57 (dk_at dksX4_groups_2 10 rfl rfl)
theorem dX4_groups_60 : decode cX4_groups 60 = .ok (.iload_n 3, 1) := dk_29 (dk_at dksX4_groups_2 13 rfl rfl)
theorem dX4_groups_61 : decode cX4_groups 61 = .ok (.iload 4, 2) := dk_21 4 (dk_at dksX4_groups_2 14 rfl rfl)
theorem dX4_groups_63 : decode cX4_groups 63 = .ok (.iload_n 3, 1) := dk_29 (dk_at dksX4_groups_2 16 rfl rfl)
theorem dX4_groups_64 : decode cX4_groups 64 = .ok (.if_icmp .ne 10, 3) := dk_160 0 10 (dk_at dksX4_groups_2 17 rfl rfl)
theorem dX4_groups_67 : decode cX4_groups 67 = .ok (.iload_n 2, 1) := dk_28 (dk_at dksX4_groups_2 20 rfl rfl)
theorem dX4_groups_68 : decode cX4_groups 68 = .ok (.iinc 2 1, 3) := dk_132 2 1 (dk_at dksX4_groups_2 21 rfl rfl)
theorem dX4_groups_71 : decode cX4_groups 71 = .ok (.goto 10, 3) := dk_167 0 10 (dk_at dksX4_groups_3 0 rfl rfl)
theorem dX4_groups_74 : decode cX4_groups 74 = .ok (.aload_n 0, 1) := dk_42 (dk_at dksX4_groups_3 3 rfl rfl)
theorem dX4_groups_75 : decode cX4_groups 75 = .ok (.getfield 57, 3) := dk_180 0 57 (dk_at dksX4_groups_3 4 rfl rfl)
theorem dX4_groups_78 : decode cX4_groups 78 = .ok (.iload 4, 2) := dk_21 4 (dk_at dksX4_groups_3 7 rfl rfl)
theorem dX4_groups_80 : decode cX4_groups 80 = .ok (.iaload, 1) := dk_46 (dk_at dksX4_groups_3 9 rfl rfl)
theorem dX4_groups_81 : decode cX4_groups 81 = .ok (.iastore, 1) := dk_79 (dk_at dksX4_groups_3 10 rfl rfl)
theorem dX4_groups_82 : decode cX4_groups 82 = .ok (.iinc 3 1, 3) := dk_132 3 1 (dk_at dksX4_groups_3 11 rfl rfl)
theorem dX4_groups_85 : decode cX4_groups 85 = .ok (.goto (-81), 3) := dk_167 255 175 (dk_at dksX4_groups_3 14 rfl rfl)
theorem dX4_groups_88 : decode cX4_groups 88 = .ok (.iload_n 2, 1) := dk_28 (dk_at dksX4_groups_3 17 rfl rfl)
theorem dX4_groups_89 : decode cX4_groups 89 = .ok (.ireturn, 1) := dk_172 (dk_at dksX4_groups_3 18 rfl rfl)
def dkwX4_isAlike_2 : List UInt8 := [4, 172]
abbrev dktX4_isAlike_2 : List UInt8 := dkwX4_isAlike_2 ++ []
def dkwX4_isAlike_1 : List UInt8 := [21, 4, 28, 182, 0, 238, 42, 21, 4, 29, 182, 0, 238, 159, 0, 5, 3, 172, 132, 4, 1, 167, 255, 215]
abbrev dktX4_isAlike_1 : List UInt8 := dkwX4_isAlike_1 ++ dktX4_isAlike_2
def dkwX4_isAlike_0 : List UInt8 := [3, 54, 4, 21, 4, 42, 180, 0, 73, 162, 0, 38, 27, 21, 4, 122, 4, 126, 4, 160, 0, 22, 42]
abbrev dktX4_isAlike_0 : List UInt8 := dkwX4_isAlike_0 ++ dktX4_isAlike_1
theorem dksX4_isAlike_0 : cX4_isAlike.data.toList.drop 0 = dktX4_isAlike_0 := by decide +kernel
theorem dksX4_isAlike_1 : cX4_isAlike.data.toList.drop 23 = dktX4_isAlike_1 := dk_seg dksX4_isAlike_0 23 rfl rfl
theorem dksX4_isAlike_2 : cX4_isAlike.data.toList.drop 47 = dktX4_isAlike_2 := dk_seg dksX4_isAlike_1 24 rfl rfl
theorem dX4_isAlike_0 : decode cX4_isAlike 0 = .ok (.iconst 0, 1) := dk_3 (dk_at dksX4_isAlike_0 0 rfl rfl)
theorem dX4_isAlike_1 : decode cX4_isAlike 1 = .ok (.istore 4, 2) := dk_54 4 (dk_at dksX4_isAlike_0 1 rfl rfl)
theorem dX4_isAlike_3 : decode cX4_isAlike 3 = .ok (.iload 4, 2) := dk_21 4 (dk_at dksX4_isAlike_0 3 rfl rfl)
theorem dX4_isAlike_5 : decode cX4_isAlike 5 = .ok (.aload_n 0, 1) := dk_42 (dk_at dksX4_isAlike_0 5 rfl rfl)
theorem dX4_isAlike_6 : decode cX4_isAlike 6 = .ok (.getfield 73, 3) := dk_180 0 73 (dk_at dksX4_isAlike_0 6 rfl rfl)
theorem dX4_isAlike_9 : decode cX4_isAlike 9 = .ok (.if_icmp .ge 38, 3) := dk_162 0 38 (dk_at dksX4_isAlike_0 9 rfl rfl)
theorem dX4_isAlike_12 : decode cX4_isAlike 12 = .ok (.iload_n 1, 1) := dk_27 (dk_at dksX4_isAlike_0 12 rfl rfl)
theorem dX4_isAlike_13 : decode cX4_isAlike 13 = .ok (.iload 4, 2) := dk_21 4 (dk_at dksX4_isAlike_0 13 rfl rfl)
theorem dX4_isAlike_15 : decode cX4_isAlike 15 = .ok (.ishr, 1) := dk_122 (dk_at dksX4_isAlike_0 15 rfl rfl)
theorem dX4_isAlike_16 : decode cX4_isAlike 16 = .ok (.iconst 1, 1) := dk_4 (dk_at dksX4_isAlike_0 16 rfl rfl)
theorem dX4_isAlike_17 : decode cX4_isAlike 17 = .ok (.iand, 1) := dk_126 (dk_at dksX4_isAlike_0 17 rfl rfl)
theorem dX4_isAlike_18 : decode cX4_isAlike 18 = .ok (.iconst 1, 1) := dk_4 (dk_at dksX4_isAlike_0 18 rfl rfl)
theorem dX4_isAlike_19 : decode cX4_isAlike 19 = .ok (.if_icmp .ne 22, 3) := dk_160 0 22 (dk_at dksX4_isAlike_0 19 rfl rfl)
theorem dX4_isAlike_22 : decode cX4_isAlike 22 = .ok (.aload_n 0, 1) := dk_42 (dk_at dksX4_isAlike_0 22 rfl rfl)
theorem dX4_isAlike_23 : decode cX4_isAlike 23 = .ok (.iload 4, 2) := dk_21 4 (dk_at dksX4_isAlike_1 0 rfl rfl)
theorem dX4_isAlike_25 : decode cX4_isAlike 25 = .ok (.iload_n 2, 1) := dk_28 (dk_at dksX4_isAlike_1 2 rfl rfl)
theorem dX4_isAlike_26 : decode cX4_isAlike 26 = .ok (.invokevirtual 238, 3) := dk_182 0 238 (dk_at dksX4_isAlike_1 3 rfl rfl)
theorem dX4_isAlike_29 : decode cX4_isAlike 29 = .ok (.aload_n 0, 1) := dk_42 (dk_at dksX4_isAlike_1 6 rfl rfl)
theorem dX4_isAlike_30 : decode cX4_isAlike 30 = .ok (.iload 4, 2) := dk_21 4 (dk_at dksX4_isAlike_1 7 rfl rfl)
theorem dX4_isAlike_32 : decode cX4_isAlike 32 = .ok (.iload_n 3, 1) := dk_29 (dk_at dksX4_isAlike_1 9 rfl rfl)
theorem dX4_isAlike_33 : decode cX4_isAlike 33 = .ok (.invokevirtual 238, 3) := dk_182 0 238 (dk_at dksX4_isAlike_1 10 rfl rfl)
theorem dX4_isAlike_36 : decode cX4_isAlike 36 = .ok (.if_icmp .eq 5, 3) := dk_159 0 5 (dk_at dksX4_isAlike_1 13 rfl rfl)
theorem dX4_isAlike_39 : decode cX4_isAlike 39 = .ok (.iconst 0, 1) := dk_3 (dk_at dksX4_isAlike_1 16 rfl rfl)
theorem dX4_isAlike_40 : decode cX4_isAlike 40 = .ok (.ireturn, 1) := dk_172 (dk_at dksX4_isAlike_1 17 rfl rfl)
theorem dX4_isAlike_41 : decode cX4_isAlike 41 = .ok (.iinc 4 1, 3) := dk_132 4 1 (dk_at dksX4_isAlike_1 18 rfl rfl)
theorem dX4_isAlike_44 : decode cX4_isAlike 44 = .ok (.goto (-41), 3) := dk_167 255 215 (dk_at dksX4_isAlike_1 21 rfl rfl)
theorem dX4_isAlike_47 : decode cX4_isAlike 47 = .ok (.iconst 1, 1) := dk_4 (dk_at dksX4_isAlike_2 0 rfl rfl)
theorem dX4_isAlike_48 : decode cX4_isAlike 48 = .ok (.ireturn, 1) := dk_172 (dk_at dksX4_isAlike_2 1 rfl rfl)
def dkwX4_sizeOf_1 : List UInt8 := [27, 160, 0, 6, 132, 2, 1, 132, 3, 1, 167, 255, 226, 28, 172]
abbrev dktX4_sizeOf_1 : List UInt8 := dkwX4_sizeOf_1 ++ []
def dkwX4_sizeOf_0 : List UInt8 := [3, 61, 3, 62, 29, 16, 67, 162, 0, 30, 42, 29, 182, 0, 252, 153, 0, 16, 42, 180, 0, 57, 29, 46]
abbrev dktX4_sizeOf_0 : List UInt8 := dkwX4_sizeOf_0 ++ dktX4_sizeOf_1
theorem dksX4_sizeOf_0 : cX4_sizeOf.data.toList.drop 0 = dktX4_sizeOf_0 := by decide +kernel
theorem dksX4_sizeOf_1 : cX4_sizeOf.data.toList.drop 24 = dktX4_sizeOf_1 := dk_seg dksX4_sizeOf_0 24 rfl rfl
theorem dX4_sizeOf_0 : decode cX4_sizeOf 0 = .ok (.iconst 0, 1) := dk_3 (dk_at dksX4_sizeOf_0 0 rfl rfl)
theorem dX4_sizeOf_1 : decode cX4_sizeOf 1 = .ok (.istore_n 2, 1) := dk_61 (dk_at dksX4_sizeOf_0 1 rfl rfl)
theorem dX4_sizeOf_2 : decode cX4_sizeOf 2 = .ok (.iconst 0, 1) := dk_3 (dk_at dksX4_sizeOf_0 2 rfl rfl)
theorem dX4_sizeOf_3 : decode cX4_sizeOf 3 = .ok (.istore_n 3, 1) := dk_62 (dk_at dksX4_sizeOf_0 3 rfl rfl)
theorem dX4_sizeOf_4 : decode cX4_sizeOf 4 = .ok (.iload_n 3, 1) := dk_29 (dk_at dksX4_sizeOf_0 4 rfl rfl)
theorem dX4_sizeOf_5 : decode cX4_sizeOf 5 = .ok (.bipush 67, 2) := dk_16 67 (dk_at dksX4_sizeOf_0 5 rfl rfl)
theorem dX4_sizeOf_7 : decode cX4_sizeOf 7 = .ok (.if_icmp .ge 30, 3) := dk_162 0 30 (dk_at dksX4_sizeOf_0 7 rfl rfl)
theorem dX4_sizeOf_10 : decode cX4_sizeOf 10 = .ok (.aload_n 0, 1) := dk_42 (dk_at dksX4_sizeOf_0 10 rfl rfl)
theorem dX4_sizeOf_11 : decode cX4_sizeOf 11 = .ok (.iload_n 3, 1) := dk_29 (dk_at dksX4_sizeOf_0 11 rfl rfl)
theorem dX4_sizeOf_12 : decode cX4_sizeOf 12 = .ok (.invokevirtual 252, 3) := dk_182 0 252 (dk_at dksX4_sizeOf_0 12 rfl rfl)
theorem dX4_sizeOf_15 : decode cX4_sizeOf 15 = .ok (.ifCond .eq 16, 3) := dk_153 0 16 (dk_at dksX4_sizeOf_0 15 rfl rfl)
theorem dX4_sizeOf_18 : decode cX4_sizeOf 18 = .ok (.aload_n 0, 1) := dk_42 (dk_at dksX4_sizeOf_0 18 rfl rfl)
theorem dX4_sizeOf_19 : decode cX4_sizeOf 19 = .ok (.getfield 57, 3) := dk_180 0 57 (dk_at dksX4_sizeOf_0 19 rfl rfl)
theorem dX4_sizeOf_22 : decode cX4_sizeOf 22 = .ok (.iload_n 3, 1) := dk_29 (dk_at dksX4_sizeOf_0 22 rfl rfl)
theorem dX4_sizeOf_23 : decode cX4_sizeOf 23 = .ok (.iaload, 1) := dk_46 (dk_at dksX4_sizeOf_0 23 rfl rfl)
theorem dX4_sizeOf_24 : decode cX4_sizeOf 24 = .ok (.iload_n 1, 1) := dk_27 (dk_at dksX4_sizeOf_1 0 rfl rfl)
theorem dX4_sizeOf_25 : decode cX4_sizeOf 25 = .ok (.if_icmp .ne 6, 3) := dk_160 0 6 (dk_at dksX4_sizeOf_1 1 rfl rfl)
theorem dX4_sizeOf_28 : decode cX4_sizeOf 28 = .ok (.iinc 2 1, 3) := dk_132 2 1 (dk_at dksX4_sizeOf_1 4 rfl rfl)
theorem dX4_sizeOf_31 : decode cX4_sizeOf 31 = .ok (.iinc 3 1, 3) := dk_132 3 1 (dk_at dksX4_sizeOf_1 7 rfl rfl)
theorem dX4_sizeOf_34 : decode cX4_sizeOf 34 = .ok (.goto (-30), 3) := dk_167 255 226 (dk_at dksX4_sizeOf_1 10 rfl rfl)
theorem dX4_sizeOf_37 : decode cX4_sizeOf 37 = .ok (.iload_n 2, 1) := dk_28 (dk_at dksX4_sizeOf_1 13 rfl rfl)
theorem dX4_sizeOf_38 : decode cX4_sizeOf 38 = .ok (.ireturn, 1) := dk_172 (dk_at dksX4_sizeOf_1 14 rfl rfl)
def dkwX4_fewest_4 : List UInt8 := [167, 255, 195, 27, 154, 0, 10, 28, 184, 1, 36, 167, 0, 4, 28, 172]
abbrev dktX4_fewest_4 : List UInt8 := dkwX4_fewest_4 ++ []
def dkwX4_fewest_3 : List UInt8 := [162, 0, 19, 42, 21, 4, 182, 1, 30, 29, 162, 0, 6, 167, 0, 6, 21, 4, 61, 132, 4, 1]
abbrev dktX4_fewest_3 : List UInt8 := dkwX4_fewest_3 ++ dktX4_fewest_4
def dkwX4_fewest_2 : List UInt8 := [184, 1, 36, 54, 6, 21, 5, 21, 6, 163, 0, 32, 21, 5, 21, 6, 160, 0, 9, 21, 4, 28]
abbrev dktX4_fewest_2 : List UInt8 := dkwX4_fewest_2 ++ dktX4_fewest_3
def dkwX4_fewest_1 : List UInt8 := [182, 1, 30, 62, 3, 54, 4, 21, 4, 42, 182, 1, 27, 163, 0, 58, 21, 4, 184, 1, 36, 54, 5, 28]
abbrev dktX4_fewest_1 : List UInt8 := dkwX4_fewest_1 ++ dktX4_fewest_2
def dkwX4_fewest_0 : List UInt8 := [27, 3, 4, 184, 0, 79, 154, 0, 10, 42, 16, 254, 182, 0, 87, 172, 42, 182, 1, 27, 61, 42, 28]
abbrev dktX4_fewest_0 : List UInt8 := dkwX4_fewest_0 ++ dktX4_fewest_1
theorem dksX4_fewest_0 : cX4_fewest.data.toList.drop 0 = dktX4_fewest_0 := by decide +kernel
theorem dksX4_fewest_1 : cX4_fewest.data.toList.drop 23 = dktX4_fewest_1 := dk_seg dksX4_fewest_0 23 rfl rfl
theorem dksX4_fewest_2 : cX4_fewest.data.toList.drop 47 = dktX4_fewest_2 := dk_seg dksX4_fewest_1 24 rfl rfl
theorem dksX4_fewest_3 : cX4_fewest.data.toList.drop 69 = dktX4_fewest_3 := dk_seg dksX4_fewest_2 22 rfl rfl
theorem dksX4_fewest_4 : cX4_fewest.data.toList.drop 91 = dktX4_fewest_4 := dk_seg dksX4_fewest_3 22 rfl rfl
theorem dX4_fewest_0 : decode cX4_fewest 0 = .ok (.iload_n 1, 1) := dk_27 (dk_at dksX4_fewest_0 0 rfl rfl)
theorem dX4_fewest_1 : decode cX4_fewest 1 = .ok (.iconst 0, 1) := dk_3 (dk_at dksX4_fewest_0 1 rfl rfl)
theorem dX4_fewest_2 : decode cX4_fewest 2 = .ok (.iconst 1, 1) := dk_4 (dk_at dksX4_fewest_0 2 rfl rfl)
theorem dX4_fewest_3 : decode cX4_fewest 3 = .ok (.invokestatic 79, 3) := dk_184 0 79 (dk_at dksX4_fewest_0 3 rfl rfl)
theorem dX4_fewest_6 : decode cX4_fewest 6 = .ok (.ifCond .ne 10, 3) := dk_154 0 10 (dk_at dksX4_fewest_0 6 rfl rfl)
theorem dX4_fewest_9 : decode cX4_fewest 9 = .ok (.aload_n 0, 1) := dk_42 (dk_at dksX4_fewest_0 9 rfl rfl)
theorem dX4_fewest_10 : decode cX4_fewest 10 = .ok (.bipush (-2), 2) := dk_16 254 (dk_at dksX4_fewest_0 10 rfl rfl)
theorem dX4_fewest_12 : decode cX4_fewest 12 = .ok (.invokevirtual 87, 3) := dk_182 0 87 (dk_at dksX4_fewest_0 12 rfl rfl)
theorem dX4_fewest_15 : decode cX4_fewest 15 = .ok (.ireturn, 1) := dk_172 (dk_at dksX4_fewest_0 15 rfl rfl)
theorem dX4_fewest_16 : decode cX4_fewest 16 = .ok (.aload_n 0, 1) := dk_42 (dk_at dksX4_fewest_0 16 rfl rfl)
theorem dX4_fewest_17 : decode cX4_fewest 17 = .ok (.invokevirtual 283, 3) := dk_182 1 27 (dk_at dksX4_fewest_0 17 rfl rfl)
theorem dX4_fewest_20 : decode cX4_fewest 20 = .ok (.istore_n 2, 1) := dk_61 (dk_at dksX4_fewest_0 20 rfl rfl)
theorem dX4_fewest_21 : decode cX4_fewest 21 = .ok (.aload_n 0, 1) := dk_42 (dk_at dksX4_fewest_0 21 rfl rfl)
theorem dX4_fewest_22 : decode cX4_fewest 22 = .ok (.iload_n 2, 1) := dk_28 (dk_at dksX4_fewest_0 22 rfl rfl)
theorem dX4_fewest_23 : decode cX4_fewest 23 = .ok (.invokevirtual 286, 3) := dk_182 1 30 (dk_at dksX4_fewest_1 0 rfl rfl)
theorem dX4_fewest_26 : decode cX4_fewest 26 = .ok (.istore_n 3, 1) := dk_62 (dk_at dksX4_fewest_1 3 rfl rfl)
theorem dX4_fewest_27 : decode cX4_fewest 27 = .ok (.iconst 0, 1) := dk_3 (dk_at dksX4_fewest_1 4 rfl rfl)
theorem dX4_fewest_28 : decode cX4_fewest 28 = .ok (.istore 4, 2) := dk_54 4 (dk_at dksX4_fewest_1 5 rfl rfl)
theorem dX4_fewest_30 : decode cX4_fewest 30 = .ok (.iload 4, 2) := dk_21 4 (dk_at dksX4_fewest_1 7 rfl rfl)
theorem dX4_fewest_32 : decode cX4_fewest 32 = .ok (.aload_n 0, 1) := dk_42 (dk_at dksX4_fewest_1 9 rfl rfl)
theorem dX4_fewest_33 : decode cX4_fewest 33 = .ok (.invokevirtual 283, 3) := dk_182 1 27 (dk_at dksX4_fewest_1 10 rfl rfl)
theorem dX4_fewest_36 : decode cX4_fewest 36 = .ok (.if_icmp .gt 58, 3) := dk_163 0 58 (dk_at dksX4_fewest_1 13 rfl rfl)
theorem dX4_fewest_39 : decode cX4_fewest 39 = .ok (.iload 4, 2) := dk_21 4 (dk_at dksX4_fewest_1 16 rfl rfl)
theorem dX4_fewest_41 : decode cX4_fewest 41 = .ok (.invokestatic 292, 3) := dk_184 1 36 (dk_at dksX4_fewest_1 18 rfl rfl)
theorem dX4_fewest_44 : decode cX4_fewest 44 = .ok (.istore 5, 2) := dk_54 5 (dk_at dksX4_fewest_1 21 rfl rfl)
theorem dX4_fewest_46 : decode cX4_fewest 46 = .ok (.iload_n 2, 1) := dk_28 (dk_at dksX4_fewest_1 23 rfl rfl)
theorem dX4_fewest_47 : decode cX4_fewest 47 = .ok (.invokestatic 292, 3) := dk_184 1 36 (dk_at dksX4_fewest_2 0 rfl rfl)
theorem dX4_fewest_50 : decode cX4_fewest 50 = .ok (.istore 6, 2) := dk_54 6 (dk_at dksX4_fewest_2 3 rfl rfl)
theorem dX4_fewest_52 : decode cX4_fewest 52 = .ok (.iload 5, 2) := dk_21 5 (dk_at dksX4_fewest_2 5 rfl rfl)
theorem dX4_fewest_54 : decode cX4_fewest 54 = .ok (.iload 6, 2) := dk_21 6 (dk_at dksX4_fewest_2 7 rfl rfl)
theorem dX4_fewest_56 : decode cX4_fewest 56 = .ok (.if_icmp .gt 32, 3) := dk_163 0 32 (dk_at dksX4_fewest_2 9 rfl rfl)
theorem dX4_fewest_59 : decode cX4_fewest 59 = .ok (.iload 5, 2) := dk_21 5 (dk_at dksX4_fewest_2 12 rfl rfl)
theorem dX4_fewest_61 : decode cX4_fewest 61 = .ok (.iload 6, 2) := dk_21 6 (dk_at dksX4_fewest_2 14 rfl rfl)
theorem dX4_fewest_63 : decode cX4_fewest 63 = .ok (.if_icmp .ne 9, 3) := dk_160 0 9 (dk_at dksX4_fewest_2 16 rfl rfl)
theorem dX4_fewest_66 : decode cX4_fewest 66 = .ok (.iload 4, 2) := dk_21 4 (dk_at dksX4_fewest_2 19 rfl rfl)
theorem dX4_fewest_68 : decode cX4_fewest 68 = .ok (.iload_n 2, 1) := dk_28 (dk_at dksX4_fewest_2 21 rfl rfl)
theorem dX4_fewest_69 : decode cX4_fewest 69 = .ok (.if_icmp .ge 19, 3) := dk_162 0 19 (dk_at dksX4_fewest_3 0 rfl rfl)
theorem dX4_fewest_72 : decode cX4_fewest 72 = .ok (.aload_n 0, 1) := dk_42 (dk_at dksX4_fewest_3 3 rfl rfl)
theorem dX4_fewest_73 : decode cX4_fewest 73 = .ok (.iload 4, 2) := dk_21 4 (dk_at dksX4_fewest_3 4 rfl rfl)
theorem dX4_fewest_75 : decode cX4_fewest 75 = .ok (.invokevirtual 286, 3) := dk_182 1 30 (dk_at dksX4_fewest_3 6 rfl rfl)
theorem dX4_fewest_78 : decode cX4_fewest 78 = .ok (.iload_n 3, 1) := dk_29 (dk_at dksX4_fewest_3 9 rfl rfl)
theorem dX4_fewest_79 : decode cX4_fewest 79 = .ok (.if_icmp .ge 6, 3) := dk_162 0 6 (dk_at dksX4_fewest_3 10 rfl rfl)
theorem dX4_fewest_82 : decode cX4_fewest 82 = .ok (.goto 6, 3) := dk_167 0 6 (dk_at dksX4_fewest_3 13 rfl rfl)
theorem dX4_fewest_85 : decode cX4_fewest 85 = .ok (.iload 4, 2) := dk_21 4 (dk_at dksX4_fewest_3 16 rfl rfl)
theorem dX4_fewest_87 : decode cX4_fewest 87 = .ok (.istore_n 2, 1) := dk_61 (dk_at dksX4_fewest_3 18 rfl rfl)
theorem dX4_fewest_88 : decode cX4_fewest 88 = .ok (.iinc 4 1, 3) := dk_132 4 1 (dk_at dksX4_fewest_3 19 rfl rfl)
theorem dX4_fewest_91 : decode cX4_fewest 91 = .ok (.goto (-61), 3) := dk_167 255 195 (dk_at dksX4_fewest_4 0 rfl rfl)
theorem dX4_fewest_94 : decode cX4_fewest 94 = .ok (.iload_n 1, 1) := dk_27 (dk_at dksX4_fewest_4 3 rfl rfl)
theorem dX4_fewest_95 : decode cX4_fewest 95 = .ok (.ifCond .ne 10, 3) := dk_154 0 10 (dk_at dksX4_fewest_4 4 rfl rfl)
theorem dX4_fewest_98 : decode cX4_fewest 98 = .ok (.iload_n 2, 1) := dk_28 (dk_at dksX4_fewest_4 7 rfl rfl)
theorem dX4_fewest_99 : decode cX4_fewest 99 = .ok (.invokestatic 292, 3) := dk_184 1 36 (dk_at dksX4_fewest_4 8 rfl rfl)
theorem dX4_fewest_102 : decode cX4_fewest 102 = .ok (.goto 4, 3) := dk_167 0 4 (dk_at dksX4_fewest_4 11 rfl rfl)
theorem dX4_fewest_105 : decode cX4_fewest 105 = .ok (.iload_n 2, 1) := dk_28 (dk_at dksX4_fewest_4 14 rfl rfl)
theorem dX4_fewest_106 : decode cX4_fewest 106 = .ok (.ireturn, 1) := dk_172 (dk_at dksX4_fewest_4 15 rfl rfl)
def dkwX4_more_3 : List UInt8 := [27, 172]
abbrev dktX4_more_3 : List UInt8 := dkwX4_more_3 ++ []
def dkwX4_more_2 : List UInt8 := [100, 181, 0, 73, 21, 4, 28, 163, 0, 6, 167, 0, 8, 21, 4, 61, 29, 60, 132, 3, 1, 167, 255, 193]
abbrev dktX4_more_2 : List UInt8 := dkwX4_more_2 ++ dktX4_more_3
def dkwX4_more_1 : List UInt8 := [42, 3, 3, 29, 182, 0, 120, 87, 42, 42, 182, 1, 27, 182, 1, 30, 54, 4, 42, 89, 180, 0, 73, 4]
abbrev dktX4_more_1 : List UInt8 := dkwX4_more_1 ++ dktX4_more_2
def dkwX4_more_0 : List UInt8 := [3, 60, 2, 61, 3, 62, 29, 16, 67, 162, 0, 63, 42, 29, 133, 182, 0, 69, 154, 0, 6, 167, 0, 45]
abbrev dktX4_more_0 : List UInt8 := dkwX4_more_0 ++ dktX4_more_1
theorem dksX4_more_0 : cX4_more.data.toList.drop 0 = dktX4_more_0 := by decide +kernel
theorem dksX4_more_1 : cX4_more.data.toList.drop 24 = dktX4_more_1 := dk_seg dksX4_more_0 24 rfl rfl
theorem dksX4_more_2 : cX4_more.data.toList.drop 48 = dktX4_more_2 := dk_seg dksX4_more_1 24 rfl rfl
theorem dksX4_more_3 : cX4_more.data.toList.drop 72 = dktX4_more_3 := dk_seg dksX4_more_2 24 rfl rfl
theorem dX4_more_0 : decode cX4_more 0 = .ok (.iconst 0, 1) := dk_3 (dk_at dksX4_more_0 0 rfl rfl)
theorem dX4_more_1 : decode cX4_more 1 = .ok (.istore_n 1, 1) := dk_60 (dk_at dksX4_more_0 1 rfl rfl)
theorem dX4_more_2 : decode cX4_more 2 = .ok (.iconst (-1), 1) := dk_2 (dk_at dksX4_more_0 2 rfl rfl)
theorem dX4_more_3 : decode cX4_more 3 = .ok (.istore_n 2, 1) := dk_61 (dk_at dksX4_more_0 3 rfl rfl)
theorem dX4_more_4 : decode cX4_more 4 = .ok (.iconst 0, 1) := dk_3 (dk_at dksX4_more_0 4 rfl rfl)
theorem dX4_more_5 : decode cX4_more 5 = .ok (.istore_n 3, 1) := dk_62 (dk_at dksX4_more_0 5 rfl rfl)
theorem dX4_more_6 : decode cX4_more 6 = .ok (.iload_n 3, 1) := dk_29 (dk_at dksX4_more_0 6 rfl rfl)
theorem dX4_more_7 : decode cX4_more 7 = .ok (.bipush 67, 2) := dk_16 67 (dk_at dksX4_more_0 7 rfl rfl)
theorem dX4_more_9 : decode cX4_more 9 = .ok (.if_icmp .ge 63, 3) := dk_162 0 63 (dk_at dksX4_more_0 9 rfl rfl)
theorem dX4_more_12 : decode cX4_more 12 = .ok (.aload_n 0, 1) := dk_42 (dk_at dksX4_more_0 12 rfl rfl)
theorem dX4_more_13 : decode cX4_more 13 = .ok (.iload_n 3, 1) := dk_29 (dk_at dksX4_more_0 13 rfl rfl)
theorem dX4_more_14 : decode cX4_more 14 = .ok (.i2l, 1) := dk_133 (dk_at dksX4_more_0 14 rfl rfl)
theorem dX4_more_15 : decode cX4_more 15 = .ok (.invokevirtual 69, 3) := dk_182 0 69 (dk_at dksX4_more_0 15 rfl rfl)
theorem dX4_more_18 : decode cX4_more 18 = .ok (.ifCond .ne 6, 3) := dk_154 0 6 (dk_at dksX4_more_0 18 rfl rfl)
theorem dX4_more_21 : decode cX4_more 21 = .ok (.goto 45, 3) := dk_167 0 45 (dk_at dksX4_more_0 21 rfl rfl)
theorem dX4_more_24 : decode cX4_more 24 = .ok (.aload_n 0, 1) := dk_42 (dk_at dksX4_more_1 0 rfl rfl)
theorem dX4_more_25 : decode cX4_more 25 = .ok (.iconst 0, 1) := dk_3 (dk_at dksX4_more_1 1 rfl rfl)
theorem dX4_more_26 : decode cX4_more 26 = .ok (.iconst 0, 1) := dk_3 (dk_at dksX4_more_1 2 rfl rfl)
theorem dX4_more_27 : decode cX4_more 27 = .ok (.iload_n 3, 1) := dk_29 (dk_at dksX4_more_1 3 rfl rfl)
theorem dX4_more_28 : decode cX4_more 28 = .ok (.invokevirtual 120, 3) := dk_182 0 120 (dk_at dksX4_more_1 4 rfl rfl)
theorem dX4_more_31 : decode cX4_more 31 = .ok (.pop, 1) := dk_87 (dk_at dksX4_more_1 7 rfl rfl)
theorem dX4_more_32 : decode cX4_more 32 = .ok (.aload_n 0, 1) := dk_42 (dk_at dksX4_more_1 8 rfl rfl)
theorem dX4_more_33 : decode cX4_more 33 = .ok (.aload_n 0, 1) := dk_42 (dk_at dksX4_more_1 9 rfl rfl)
theorem dX4_more_34 : decode cX4_more 34 = .ok (.invokevirtual 283, 3) := dk_182 1 27 (dk_at dksX4_more_1 10 rfl rfl)
theorem dX4_more_37 : decode cX4_more 37 = .ok (.invokevirtual 286, 3) := dk_182 1 30 (dk_at dksX4_more_1 13 rfl rfl)
theorem dX4_more_40 : decode cX4_more 40 = .ok (.istore 4, 2) := dk_54 4 (dk_at dksX4_more_1 16 rfl rfl)
theorem dX4_more_42 : decode cX4_more 42 = .ok (.aload_n 0, 1) := dk_42 (dk_at dksX4_more_1 18 rfl rfl)
theorem dX4_more_43 : decode cX4_more 43 = .ok (.dup, 1) := dk_89 (dk_at dksX4_more_1 19 rfl rfl)
theorem dX4_more_44 : decode cX4_more 44 = .ok (.getfield 73, 3) := dk_180 0 73 (dk_at dksX4_more_1 20 rfl rfl)
theorem dX4_more_47 : decode cX4_more 47 = .ok (.iconst 1, 1) := dk_4 (dk_at dksX4_more_1 23 rfl rfl)
theorem dX4_more_48 : decode cX4_more 48 = .ok (.isub, 1) := dk_100 (dk_at dksX4_more_2 0 rfl rfl)
theorem dX4_more_49 : decode cX4_more 49 = .ok (.putfield 73, 3) := dk_181 0 73 (dk_at dksX4_more_2 1 rfl rfl)
theorem dX4_more_52 : decode cX4_more 52 = .ok (.iload 4, 2) := dk_21 4 (dk_at dksX4_more_2 4 rfl rfl)
theorem dX4_more_54 : decode cX4_more 54 = .ok (.iload_n 2, 1) := dk_28 (dk_at dksX4_more_2 6 rfl rfl)
theorem dX4_more_55 : decode cX4_more 55 = .ok (.if_icmp .gt 6, 3) := dk_163 0 6 (dk_at dksX4_more_2 7 rfl rfl)
theorem dX4_more_58 : decode cX4_more 58 = .ok (.goto 8, 3) := dk_167 0 8 (dk_at dksX4_more_2 10 rfl rfl)
theorem dX4_more_61 : decode cX4_more 61 = .ok (.iload 4, 2) := dk_21 4 (dk_at dksX4_more_2 13 rfl rfl)
theorem dX4_more_63 : decode cX4_more 63 = .ok (.istore_n 2, 1) := dk_61 (dk_at dksX4_more_2 15 rfl rfl)
theorem dX4_more_64 : decode cX4_more 64 = .ok (.iload_n 3, 1) := dk_29 (dk_at dksX4_more_2 16 rfl rfl)
theorem dX4_more_65 : decode cX4_more 65 = .ok (.istore_n 1, 1) := dk_60 (dk_at dksX4_more_2 17 rfl rfl)
theorem dX4_more_66 : decode cX4_more 66 = .ok (.iinc 3 1, 3) := dk_132 3 1 (dk_at dksX4_more_2 18 rfl rfl)
theorem dX4_more_69 : decode cX4_more 69 = .ok (.goto (-63), 3) := dk_167 255 193 (dk_at dksX4_more_2 21 rfl rfl)
theorem dX4_more_72 : decode cX4_more 72 = .ok (.iload_n 1, 1) := dk_27 (dk_at dksX4_more_3 0 rfl rfl)
theorem dX4_more_73 : decode cX4_more 73 = .ok (.ireturn, 1) := dk_172 (dk_at dksX4_more_3 1 rfl rfl)
def dkwX4_armed_2 : List UInt8 := [182, 0, 238, 28, 160, 0, 10, 29, 4, 21, 4, 120, 128, 62, 132, 4, 1, 167, 255, 226, 29, 172]
abbrev dktX4_armed_2 : List UInt8 := dkwX4_armed_2 ++ []
def dkwX4_armed_1 : List UInt8 := [182, 0, 87, 172, 3, 62, 3, 54, 4, 21, 4, 42, 180, 0, 73, 162, 0, 27, 42, 21, 4, 27]
abbrev dktX4_armed_1 : List UInt8 := dkwX4_armed_1 ++ dktX4_armed_2
def dkwX4_armed_0 : List UInt8 := [42, 27, 133, 182, 0, 69, 153, 0, 13, 28, 2, 16, 8, 184, 0, 79, 154, 0, 10, 42, 16, 254]
abbrev dktX4_armed_0 : List UInt8 := dkwX4_armed_0 ++ dktX4_armed_1
theorem dksX4_armed_0 : cX4_armed.data.toList.drop 0 = dktX4_armed_0 := by decide +kernel
theorem dksX4_armed_1 : cX4_armed.data.toList.drop 22 = dktX4_armed_1 := dk_seg dksX4_armed_0 22 rfl rfl
theorem dksX4_armed_2 : cX4_armed.data.toList.drop 44 = dktX4_armed_2 := dk_seg dksX4_armed_1 22 rfl rfl
theorem dX4_armed_0 : decode cX4_armed 0 = .ok (.aload_n 0, 1) := dk_42 (dk_at dksX4_armed_0 0 rfl rfl)
theorem dX4_armed_1 : decode cX4_armed 1 = .ok (.iload_n 1, 1) := dk_27 (dk_at dksX4_armed_0 1 rfl rfl)
theorem dX4_armed_2 : decode cX4_armed 2 = .ok (.i2l, 1) := dk_133 (dk_at dksX4_armed_0 2 rfl rfl)
theorem dX4_armed_3 : decode cX4_armed 3 = .ok (.invokevirtual 69, 3) := dk_182 0 69 (dk_at dksX4_armed_0 3 rfl rfl)
theorem dX4_armed_6 : decode cX4_armed 6 = .ok (.ifCond .eq 13, 3) := dk_153 0 13 (dk_at dksX4_armed_0 6 rfl rfl)
theorem dX4_armed_9 : decode cX4_armed 9 = .ok (.iload_n 2, 1) := dk_28 (dk_at dksX4_armed_0 9 rfl rfl)
theorem dX4_armed_10 : decode cX4_armed 10 = .ok (.iconst (-1), 1) := dk_2 (dk_at dksX4_armed_0 10 rfl rfl)
theorem dX4_armed_11 : decode cX4_armed 11 = .ok (.bipush 8, 2) := dk_16 8 (dk_at dksX4_armed_0 11 rfl rfl)
theorem dX4_armed_13 : decode cX4_armed 13 = .ok (.invokestatic 79, 3) := dk_184 0 79 (dk_at dksX4_armed_0 13 rfl rfl)
theorem dX4_armed_16 : decode cX4_armed 16 = .ok (.ifCond .ne 10, 3) := dk_154 0 10 (dk_at dksX4_armed_0 16 rfl rfl)
theorem dX4_armed_19 : decode cX4_armed 19 = .ok (.aload_n 0, 1) := dk_42 (dk_at dksX4_armed_0 19 rfl rfl)
theorem dX4_armed_20 : decode cX4_armed 20 = .ok (.bipush (-2), 2) := dk_16 254 (dk_at dksX4_armed_0 20 rfl rfl)
theorem dX4_armed_22 : decode cX4_armed 22 = .ok (.invokevirtual 87, 3) := dk_182 0 87 (dk_at dksX4_armed_1 0 rfl rfl)
theorem dX4_armed_25 : decode cX4_armed 25 = .ok (.ireturn, 1) := dk_172 (dk_at dksX4_armed_1 3 rfl rfl)
theorem dX4_armed_26 : decode cX4_armed 26 = .ok (.iconst 0, 1) := dk_3 (dk_at dksX4_armed_1 4 rfl rfl)
theorem dX4_armed_27 : decode cX4_armed 27 = .ok (.istore_n 3, 1) := dk_62 (dk_at dksX4_armed_1 5 rfl rfl)
theorem dX4_armed_28 : decode cX4_armed 28 = .ok (.iconst 0, 1) := dk_3 (dk_at dksX4_armed_1 6 rfl rfl)
theorem dX4_armed_29 : decode cX4_armed 29 = .ok (.istore 4, 2) := dk_54 4 (dk_at dksX4_armed_1 7 rfl rfl)
theorem dX4_armed_31 : decode cX4_armed 31 = .ok (.iload 4, 2) := dk_21 4 (dk_at dksX4_armed_1 9 rfl rfl)
theorem dX4_armed_33 : decode cX4_armed 33 = .ok (.aload_n 0, 1) := dk_42 (dk_at dksX4_armed_1 11 rfl rfl)
theorem dX4_armed_34 : decode cX4_armed 34 = .ok (.getfield 73, 3) := dk_180 0 73 (dk_at dksX4_armed_1 12 rfl rfl)
theorem dX4_armed_37 : decode cX4_armed 37 = .ok (.if_icmp .ge 27, 3) := dk_162 0 27 (dk_at dksX4_armed_1 15 rfl rfl)
theorem dX4_armed_40 : decode cX4_armed 40 = .ok (.aload_n 0, 1) := dk_42 (dk_at dksX4_armed_1 18 rfl rfl)
theorem dX4_armed_41 : decode cX4_armed 41 = .ok (.iload 4, 2) := dk_21 4 (dk_at dksX4_armed_1 19 rfl rfl)
theorem dX4_armed_43 : decode cX4_armed 43 = .ok (.iload_n 1, 1) := dk_27 (dk_at dksX4_armed_1 21 rfl rfl)
theorem dX4_armed_44 : decode cX4_armed 44 = .ok (.invokevirtual 238, 3) := dk_182 0 238 (dk_at dksX4_armed_2 0 rfl rfl)
theorem dX4_armed_47 : decode cX4_armed 47 = .ok (.iload_n 2, 1) := dk_28 (dk_at dksX4_armed_2 3 rfl rfl)
theorem dX4_armed_48 : decode cX4_armed 48 = .ok (.if_icmp .ne 10, 3) := dk_160 0 10 (dk_at dksX4_armed_2 4 rfl rfl)
theorem dX4_armed_51 : decode cX4_armed 51 = .ok (.iload_n 3, 1) := dk_29 (dk_at dksX4_armed_2 7 rfl rfl)
theorem dX4_armed_52 : decode cX4_armed 52 = .ok (.iconst 1, 1) := dk_4 (dk_at dksX4_armed_2 8 rfl rfl)
theorem dX4_armed_53 : decode cX4_armed 53 = .ok (.iload 4, 2) := dk_21 4 (dk_at dksX4_armed_2 9 rfl rfl)
theorem dX4_armed_55 : decode cX4_armed 55 = .ok (.ishl, 1) := dk_120 (dk_at dksX4_armed_2 11 rfl rfl)
theorem dX4_armed_56 : decode cX4_armed 56 = .ok (.ior, 1) := dk_128 (dk_at dksX4_armed_2 12 rfl rfl)
theorem dX4_armed_57 : decode cX4_armed 57 = .ok (.istore_n 3, 1) := dk_62 (dk_at dksX4_armed_2 13 rfl rfl)
theorem dX4_armed_58 : decode cX4_armed 58 = .ok (.iinc 4 1, 3) := dk_132 4 1 (dk_at dksX4_armed_2 14 rfl rfl)
theorem dX4_armed_61 : decode cX4_armed 61 = .ok (.goto (-30), 3) := dk_167 255 226 (dk_at dksX4_armed_2 17 rfl rfl)
theorem dX4_armed_64 : decode cX4_armed 64 = .ok (.iload_n 3, 1) := dk_29 (dk_at dksX4_armed_2 20 rfl rfl)
theorem dX4_armed_65 : decode cX4_armed 65 = .ok (.ireturn, 1) := dk_172 (dk_at dksX4_armed_2 21 rfl rfl)
def dkwX4_alike_1 : List UInt8 := [42, 42, 180, 0, 57, 27, 46, 182, 1, 33, 172]
abbrev dktX4_alike_1 : List UInt8 := dkwX4_alike_1 ++ []
def dkwX4_alike_0 : List UInt8 := [42, 27, 182, 0, 252, 154, 0, 10, 42, 16, 254, 182, 0, 87, 172, 42, 42, 182, 1, 27, 182, 1, 30, 87]
abbrev dktX4_alike_0 : List UInt8 := dkwX4_alike_0 ++ dktX4_alike_1
theorem dksX4_alike_0 : cX4_alike.data.toList.drop 0 = dktX4_alike_0 := by decide +kernel
theorem dksX4_alike_1 : cX4_alike.data.toList.drop 24 = dktX4_alike_1 := dk_seg dksX4_alike_0 24 rfl rfl
theorem dX4_alike_0 : decode cX4_alike 0 = .ok (.aload_n 0, 1) := dk_42 (dk_at dksX4_alike_0 0 rfl rfl)
theorem dX4_alike_1 : decode cX4_alike 1 = .ok (.iload_n 1, 1) := dk_27 (dk_at dksX4_alike_0 1 rfl rfl)
theorem dX4_alike_2 : decode cX4_alike 2 = .ok (.invokevirtual 252, 3) := dk_182 0 252 (dk_at dksX4_alike_0 2 rfl rfl)
theorem dX4_alike_5 : decode cX4_alike 5 = .ok (.ifCond .ne 10, 3) := dk_154 0 10 (dk_at dksX4_alike_0 5 rfl rfl)
theorem dX4_alike_8 : decode cX4_alike 8 = .ok (.aload_n 0, 1) := dk_42 (dk_at dksX4_alike_0 8 rfl rfl)
theorem dX4_alike_9 : decode cX4_alike 9 = .ok (.bipush (-2), 2) := dk_16 254 (dk_at dksX4_alike_0 9 rfl rfl)
theorem dX4_alike_11 : decode cX4_alike 11 = .ok (.invokevirtual 87, 3) := dk_182 0 87 (dk_at dksX4_alike_0 11 rfl rfl)
theorem dX4_alike_14 : decode cX4_alike 14 = .ok (.ireturn, 1) := dk_172 (dk_at dksX4_alike_0 14 rfl rfl)
theorem dX4_alike_15 : decode cX4_alike 15 = .ok (.aload_n 0, 1) := dk_42 (dk_at dksX4_alike_0 15 rfl rfl)
theorem dX4_alike_16 : decode cX4_alike 16 = .ok (.aload_n 0, 1) := dk_42 (dk_at dksX4_alike_0 16 rfl rfl)
theorem dX4_alike_17 : decode cX4_alike 17 = .ok (.invokevirtual 283, 3) := dk_182 1 27 (dk_at dksX4_alike_0 17 rfl rfl)
theorem dX4_alike_20 : decode cX4_alike 20 = .ok (.invokevirtual 286, 3) := dk_182 1 30 (dk_at dksX4_alike_0 20 rfl rfl)
theorem dX4_alike_23 : decode cX4_alike 23 = .ok (.pop, 1) := dk_87 (dk_at dksX4_alike_0 23 rfl rfl)
theorem dX4_alike_24 : decode cX4_alike 24 = .ok (.aload_n 0, 1) := dk_42 (dk_at dksX4_alike_1 0 rfl rfl)
theorem dX4_alike_25 : decode cX4_alike 25 = .ok (.aload_n 0, 1) := dk_42 (dk_at dksX4_alike_1 1 rfl rfl)
theorem dX4_alike_26 : decode cX4_alike 26 = .ok (.getfield 57, 3) := dk_180 0 57 (dk_at dksX4_alike_1 2 rfl rfl)
theorem dX4_alike_29 : decode cX4_alike 29 = .ok (.iload_n 1, 1) := dk_27 (dk_at dksX4_alike_1 5 rfl rfl)
theorem dX4_alike_30 : decode cX4_alike 30 = .ok (.iaload, 1) := dk_46 (dk_at dksX4_alike_1 6 rfl rfl)
theorem dX4_alike_31 : decode cX4_alike 31 = .ok (.invokevirtual 289, 3) := dk_182 1 33 (dk_at dksX4_alike_1 7 rfl rfl)
theorem dX4_alike_34 : decode cX4_alike 34 = .ok (.ireturn, 1) := dk_172 (dk_at dksX4_alike_1 10 rfl rfl)
def dkwX4_right_2 : List UInt8 := [184, 0, 213, 160, 0, 6, 132, 2, 1, 132, 3, 1, 167, 255, 217, 28, 172]
abbrev dktX4_right_2 : List UInt8 := dkwX4_right_2 ++ []
def dkwX4_right_1 : List UInt8 := [162, 0, 39, 42, 29, 182, 0, 252, 153, 0, 25, 42, 27, 29, 182, 0, 238, 42, 180, 0, 20, 27, 46, 29]
abbrev dktX4_right_1 : List UInt8 := dkwX4_right_1 ++ dktX4_right_2
def dkwX4_right_0 : List UInt8 := [42, 27, 133, 182, 0, 101, 154, 0, 10, 42, 16, 254, 182, 0, 87, 172, 3, 61, 3, 62, 29, 16, 67]
abbrev dktX4_right_0 : List UInt8 := dkwX4_right_0 ++ dktX4_right_1
theorem dksX4_right_0 : cX4_right.data.toList.drop 0 = dktX4_right_0 := by decide +kernel
theorem dksX4_right_1 : cX4_right.data.toList.drop 23 = dktX4_right_1 := dk_seg dksX4_right_0 23 rfl rfl
theorem dksX4_right_2 : cX4_right.data.toList.drop 47 = dktX4_right_2 := dk_seg dksX4_right_1 24 rfl rfl
theorem dX4_right_0 : decode cX4_right 0 = .ok (.aload_n 0, 1) := dk_42 (dk_at dksX4_right_0 0 rfl rfl)
theorem dX4_right_1 : decode cX4_right 1 = .ok (.iload_n 1, 1) := dk_27 (dk_at dksX4_right_0 1 rfl rfl)
theorem dX4_right_2 : decode cX4_right 2 = .ok (.i2l, 1) := dk_133 (dk_at dksX4_right_0 2 rfl rfl)
theorem dX4_right_3 : decode cX4_right 3 = .ok (.invokevirtual 101, 3) := dk_182 0 101 (dk_at dksX4_right_0 3 rfl rfl)
theorem dX4_right_6 : decode cX4_right 6 = .ok (.ifCond .ne 10, 3) := dk_154 0 10 (dk_at dksX4_right_0 6 rfl rfl)
theorem dX4_right_9 : decode cX4_right 9 = .ok (.aload_n 0, 1) := dk_42 (dk_at dksX4_right_0 9 rfl rfl)
theorem dX4_right_10 : decode cX4_right 10 = .ok (.bipush (-2), 2) := dk_16 254 (dk_at dksX4_right_0 10 rfl rfl)
theorem dX4_right_12 : decode cX4_right 12 = .ok (.invokevirtual 87, 3) := dk_182 0 87 (dk_at dksX4_right_0 12 rfl rfl)
theorem dX4_right_15 : decode cX4_right 15 = .ok (.ireturn, 1) := dk_172 (dk_at dksX4_right_0 15 rfl rfl)
theorem dX4_right_16 : decode cX4_right 16 = .ok (.iconst 0, 1) := dk_3 (dk_at dksX4_right_0 16 rfl rfl)
theorem dX4_right_17 : decode cX4_right 17 = .ok (.istore_n 2, 1) := dk_61 (dk_at dksX4_right_0 17 rfl rfl)
theorem dX4_right_18 : decode cX4_right 18 = .ok (.iconst 0, 1) := dk_3 (dk_at dksX4_right_0 18 rfl rfl)
theorem dX4_right_19 : decode cX4_right 19 = .ok (.istore_n 3, 1) := dk_62 (dk_at dksX4_right_0 19 rfl rfl)
theorem dX4_right_20 : decode cX4_right 20 = .ok (.iload_n 3, 1) := dk_29 (dk_at dksX4_right_0 20 rfl rfl)
theorem dX4_right_21 : decode cX4_right 21 = .ok (.bipush 67, 2) := dk_16 67 (dk_at dksX4_right_0 21 rfl rfl)
theorem dX4_right_23 : decode cX4_right 23 = .ok (.if_icmp .ge 39, 3) := dk_162 0 39 (dk_at dksX4_right_1 0 rfl rfl)
theorem dX4_right_26 : decode cX4_right 26 = .ok (.aload_n 0, 1) := dk_42 (dk_at dksX4_right_1 3 rfl rfl)
theorem dX4_right_27 : decode cX4_right 27 = .ok (.iload_n 3, 1) := dk_29 (dk_at dksX4_right_1 4 rfl rfl)
theorem dX4_right_28 : decode cX4_right 28 = .ok (.invokevirtual 252, 3) := dk_182 0 252 (dk_at dksX4_right_1 5 rfl rfl)
theorem dX4_right_31 : decode cX4_right 31 = .ok (.ifCond .eq 25, 3) := dk_153 0 25 (dk_at dksX4_right_1 8 rfl rfl)
theorem dX4_right_34 : decode cX4_right 34 = .ok (.aload_n 0, 1) := dk_42 (dk_at dksX4_right_1 11 rfl rfl)
theorem dX4_right_35 : decode cX4_right 35 = .ok (.iload_n 1, 1) := dk_27 (dk_at dksX4_right_1 12 rfl rfl)
theorem dX4_right_36 : decode cX4_right 36 = .ok (.iload_n 3, 1) := dk_29 (dk_at dksX4_right_1 13 rfl rfl)
theorem dX4_right_37 : decode cX4_right 37 = .ok (.invokevirtual 238, 3) := dk_182 0 238 (dk_at dksX4_right_1 14 rfl rfl)
theorem dX4_right_40 : decode cX4_right 40 = .ok (.aload_n 0, 1) := dk_42 (dk_at dksX4_right_1 17 rfl rfl)
theorem dX4_right_41 : decode cX4_right 41 = .ok (.getfield 20, 3) := dk_180 0 20 (dk_at dksX4_right_1 18 rfl rfl)
theorem dX4_right_44 : decode cX4_right 44 = .ok (.iload_n 1, 1) := dk_27 (dk_at dksX4_right_1 21 rfl rfl)
theorem dX4_right_45 : decode cX4_right 45 = .ok (.iaload, 1) := dk_46 (dk_at dksX4_right_1 22 rfl rfl)
theorem dX4_right_46 : decode cX4_right 46 = .ok (.iload_n 3, 1) := dk_29 (dk_at dksX4_right_1 23 rfl rfl)
theorem dX4_right_47 : decode cX4_right 47 = .ok (.invokestatic 213, 3) := dk_184 0 213 (dk_at dksX4_right_2 0 rfl rfl)
theorem dX4_right_50 : decode cX4_right 50 = .ok (.if_icmp .ne 6, 3) := dk_160 0 6 (dk_at dksX4_right_2 3 rfl rfl)
theorem dX4_right_53 : decode cX4_right 53 = .ok (.iinc 2 1, 3) := dk_132 2 1 (dk_at dksX4_right_2 6 rfl rfl)
theorem dX4_right_56 : decode cX4_right 56 = .ok (.iinc 3 1, 3) := dk_132 3 1 (dk_at dksX4_right_2 9 rfl rfl)
theorem dX4_right_59 : decode cX4_right 59 = .ok (.goto (-39), 3) := dk_167 255 217 (dk_at dksX4_right_2 12 rfl rfl)
theorem dX4_right_62 : decode cX4_right 62 = .ok (.iload_n 2, 1) := dk_28 (dk_at dksX4_right_2 15 rfl rfl)
theorem dX4_right_63 : decode cX4_right 63 = .ok (.ireturn, 1) := dk_172 (dk_at dksX4_right_2 16 rfl rfl)
def dkwX4_pointing_2 : List UInt8 := [184, 0, 213, 160, 0, 9, 28, 4, 29, 120, 128, 61, 132, 3, 1, 167, 255, 216, 28, 172]
abbrev dktX4_pointing_2 : List UInt8 := dkwX4_pointing_2 ++ []
def dkwX4_pointing_1 : List UInt8 := [42, 180, 0, 73, 162, 0, 38, 42, 29, 182, 0, 111, 42, 180, 0, 20, 29, 46, 42, 180, 0, 23, 27, 46]
abbrev dktX4_pointing_1 : List UInt8 := dkwX4_pointing_1 ++ dktX4_pointing_2
def dkwX4_pointing_0 : List UInt8 := [42, 27, 182, 0, 128, 154, 0, 10, 42, 16, 254, 182, 0, 87, 172, 42, 182, 0, 108, 3, 61, 3, 62, 29]
abbrev dktX4_pointing_0 : List UInt8 := dkwX4_pointing_0 ++ dktX4_pointing_1
theorem dksX4_pointing_0 : cX4_pointing.data.toList.drop 0 = dktX4_pointing_0 := by decide +kernel
theorem dksX4_pointing_1 : cX4_pointing.data.toList.drop 24 = dktX4_pointing_1 := dk_seg dksX4_pointing_0 24 rfl rfl
theorem dksX4_pointing_2 : cX4_pointing.data.toList.drop 48 = dktX4_pointing_2 := dk_seg dksX4_pointing_1 24 rfl rfl
theorem dX4_pointing_0 : decode cX4_pointing 0 = .ok (.aload_n 0, 1) := dk_42 (dk_at dksX4_pointing_0 0 rfl rfl)
theorem dX4_pointing_1 : decode cX4_pointing 1 = .ok (.iload_n 1, 1) := dk_27 (dk_at dksX4_pointing_0 1 rfl rfl)
theorem dX4_pointing_2 : decode cX4_pointing 2 = .ok (.invokevirtual 128, 3) := dk_182 0 128 (dk_at dksX4_pointing_0 2 rfl rfl)
theorem dX4_pointing_5 : decode cX4_pointing 5 = .ok (.ifCond .ne 10, 3) := dk_154 0 10 (dk_at dksX4_pointing_0 5 rfl rfl)
theorem dX4_pointing_8 : decode cX4_pointing 8 = .ok (.aload_n 0, 1) := dk_42 (dk_at dksX4_pointing_0 8 rfl rfl)
theorem dX4_pointing_9 : decode cX4_pointing 9 = .ok (.bipush (-2), 2) := dk_16 254 (dk_at dksX4_pointing_0 9 rfl rfl)
theorem dX4_pointing_11 : decode cX4_pointing 11 = .ok (.invokevirtual 87, 3) := dk_182 0 87 (dk_at dksX4_pointing_0 11 rfl rfl)
theorem dX4_pointing_14 : decode cX4_pointing 14 = .ok (.ireturn, 1) := dk_172 (dk_at dksX4_pointing_0 14 rfl rfl)
theorem dX4_pointing_15 : decode cX4_pointing 15 = .ok (.aload_n 0, 1) := dk_42 (dk_at dksX4_pointing_0 15 rfl rfl)
theorem dX4_pointing_16 : decode cX4_pointing 16 = .ok (.invokevirtual 108, 3) := dk_182 0 108 (dk_at dksX4_pointing_0 16 rfl rfl)
theorem dX4_pointing_19 : decode cX4_pointing 19 = .ok (.iconst 0, 1) := dk_3 (dk_at dksX4_pointing_0 19 rfl rfl)
theorem dX4_pointing_20 : decode cX4_pointing 20 = .ok (.istore_n 2, 1) := dk_61 (dk_at dksX4_pointing_0 20 rfl rfl)
theorem dX4_pointing_21 : decode cX4_pointing 21 = .ok (.iconst 0, 1) := dk_3 (dk_at dksX4_pointing_0 21 rfl rfl)
theorem dX4_pointing_22 : decode cX4_pointing 22 = .ok (.istore_n 3, 1) := dk_62 (dk_at dksX4_pointing_0 22 rfl rfl)
theorem dX4_pointing_23 : decode cX4_pointing 23 = .ok (.iload_n 3, 1) := dk_29 (dk_at dksX4_pointing_0 23 rfl rfl)
theorem dX4_pointing_24 : decode cX4_pointing 24 = .ok (.aload_n 0, 1) := dk_42 (dk_at dksX4_pointing_1 0 rfl rfl)
theorem dX4_pointing_25 : decode cX4_pointing 25 = .ok (.getfield 73, 3) := dk_180 0 73 (dk_at dksX4_pointing_1 1 rfl rfl)
theorem dX4_pointing_28 : decode cX4_pointing 28 = .ok (.if_icmp .ge 38, 3) := dk_162 0 38 (dk_at dksX4_pointing_1 4 rfl rfl)
theorem dX4_pointing_31 : decode cX4_pointing 31 = .ok (.aload_n 0, 1) := dk_42 (dk_at dksX4_pointing_1 7 rfl rfl)
theorem dX4_pointing_32 : decode cX4_pointing 32 = .ok (.iload_n 3, 1) := dk_29 (dk_at dksX4_pointing_1 8 rfl rfl)
theorem dX4_pointing_33 : decode cX4_pointing 33 = .ok (.invokevirtual 111, 3) := dk_182 0 111 (dk_at dksX4_pointing_1 9 rfl rfl)
theorem dX4_pointing_36 : decode cX4_pointing 36 = .ok (.aload_n 0, 1) := dk_42 (dk_at dksX4_pointing_1 12 rfl rfl)
theorem dX4_pointing_37 : decode cX4_pointing 37 = .ok (.getfield 20, 3) := dk_180 0 20 (dk_at dksX4_pointing_1 13 rfl rfl)
theorem dX4_pointing_40 : decode cX4_pointing 40 = .ok (.iload_n 3, 1) := dk_29 (dk_at dksX4_pointing_1 16 rfl rfl)
theorem dX4_pointing_41 : decode cX4_pointing 41 = .ok (.iaload, 1) := dk_46 (dk_at dksX4_pointing_1 17 rfl rfl)
theorem dX4_pointing_42 : decode cX4_pointing 42 = .ok (.aload_n 0, 1) := dk_42 (dk_at dksX4_pointing_1 18 rfl rfl)
theorem dX4_pointing_43 : decode cX4_pointing 43 = .ok (.getfield 23, 3) := dk_180 0 23 (dk_at dksX4_pointing_1 19 rfl rfl)
theorem dX4_pointing_46 : decode cX4_pointing 46 = .ok (.iload_n 1, 1) := dk_27 (dk_at dksX4_pointing_1 22 rfl rfl)
theorem dX4_pointing_47 : decode cX4_pointing 47 = .ok (.iaload, 1) := dk_46 (dk_at dksX4_pointing_1 23 rfl rfl)
theorem dX4_pointing_48 : decode cX4_pointing 48 = .ok (.invokestatic 213, 3) := dk_184 0 213 (dk_at dksX4_pointing_2 0 rfl rfl)
theorem dX4_pointing_51 : decode cX4_pointing 51 = .ok (.if_icmp .ne 9, 3) := dk_160 0 9 (dk_at dksX4_pointing_2 3 rfl rfl)
theorem dX4_pointing_54 : decode cX4_pointing 54 = .ok (.iload_n 2, 1) := dk_28 (dk_at dksX4_pointing_2 6 rfl rfl)
theorem dX4_pointing_55 : decode cX4_pointing 55 = .ok (.iconst 1, 1) := dk_4 (dk_at dksX4_pointing_2 7 rfl rfl)
theorem dX4_pointing_56 : decode cX4_pointing 56 = .ok (.iload_n 3, 1) := dk_29 (dk_at dksX4_pointing_2 8 rfl rfl)
theorem dX4_pointing_57 : decode cX4_pointing 57 = .ok (.ishl, 1) := dk_120 (dk_at dksX4_pointing_2 9 rfl rfl)
theorem dX4_pointing_58 : decode cX4_pointing 58 = .ok (.ior, 1) := dk_128 (dk_at dksX4_pointing_2 10 rfl rfl)
theorem dX4_pointing_59 : decode cX4_pointing 59 = .ok (.istore_n 2, 1) := dk_61 (dk_at dksX4_pointing_2 11 rfl rfl)
theorem dX4_pointing_60 : decode cX4_pointing 60 = .ok (.iinc 3 1, 3) := dk_132 3 1 (dk_at dksX4_pointing_2 12 rfl rfl)
theorem dX4_pointing_63 : decode cX4_pointing 63 = .ok (.goto (-40), 3) := dk_167 255 216 (dk_at dksX4_pointing_2 15 rfl rfl)
theorem dX4_pointing_66 : decode cX4_pointing 66 = .ok (.iload_n 2, 1) := dk_28 (dk_at dksX4_pointing_2 18 rfl rfl)
theorem dX4_pointing_67 : decode cX4_pointing 67 = .ok (.ireturn, 1) := dk_172 (dk_at dksX4_pointing_2 19 rfl rfl)
def dkwX4_trembling_1 : List UInt8 := [160, 0, 9, 27, 4, 28, 120, 128, 60, 132, 2, 1, 167, 255, 230, 27, 172]
abbrev dktX4_trembling_1 : List UInt8 := dkwX4_trembling_1 ++ []
def dkwX4_trembling_0 : List UInt8 := [42, 182, 0, 108, 3, 60, 3, 61, 28, 42, 180, 0, 73, 162, 0, 24, 42, 28, 182, 0, 111, 2]
abbrev dktX4_trembling_0 : List UInt8 := dkwX4_trembling_0 ++ dktX4_trembling_1
theorem dksX4_trembling_0 : cX4_trembling.data.toList.drop 0 = dktX4_trembling_0 := by decide +kernel
theorem dksX4_trembling_1 : cX4_trembling.data.toList.drop 22 = dktX4_trembling_1 := dk_seg dksX4_trembling_0 22 rfl rfl
theorem dX4_trembling_0 : decode cX4_trembling 0 = .ok (.aload_n 0, 1) := dk_42 (dk_at dksX4_trembling_0 0 rfl rfl)
theorem dX4_trembling_1 : decode cX4_trembling 1 = .ok (.invokevirtual 108, 3) := dk_182 0 108 (dk_at dksX4_trembling_0 1 rfl rfl)
theorem dX4_trembling_4 : decode cX4_trembling 4 = .ok (.iconst 0, 1) := dk_3 (dk_at dksX4_trembling_0 4 rfl rfl)
theorem dX4_trembling_5 : decode cX4_trembling 5 = .ok (.istore_n 1, 1) := dk_60 (dk_at dksX4_trembling_0 5 rfl rfl)
theorem dX4_trembling_6 : decode cX4_trembling 6 = .ok (.iconst 0, 1) := dk_3 (dk_at dksX4_trembling_0 6 rfl rfl)
theorem dX4_trembling_7 : decode cX4_trembling 7 = .ok (.istore_n 2, 1) := dk_61 (dk_at dksX4_trembling_0 7 rfl rfl)
theorem dX4_trembling_8 : decode cX4_trembling 8 = .ok (.iload_n 2, 1) := dk_28 (dk_at dksX4_trembling_0 8 rfl rfl)
theorem dX4_trembling_9 : decode cX4_trembling 9 = .ok (.aload_n 0, 1) := dk_42 (dk_at dksX4_trembling_0 9 rfl rfl)
theorem dX4_trembling_10 : decode cX4_trembling 10 = .ok (.getfield 73, 3) := dk_180 0 73 (dk_at dksX4_trembling_0 10 rfl rfl)
theorem dX4_trembling_13 : decode cX4_trembling 13 = .ok (.if_icmp .ge 24, 3) := dk_162 0 24 (dk_at dksX4_trembling_0 13 rfl rfl)
theorem dX4_trembling_16 : decode cX4_trembling 16 = .ok (.aload_n 0, 1) := dk_42 (dk_at dksX4_trembling_0 16 rfl rfl)
theorem dX4_trembling_17 : decode cX4_trembling 17 = .ok (.iload_n 2, 1) := dk_28 (dk_at dksX4_trembling_0 17 rfl rfl)
theorem dX4_trembling_18 : decode cX4_trembling 18 = .ok (.invokevirtual 111, 3) := dk_182 0 111 (dk_at dksX4_trembling_0 18 rfl rfl)
theorem dX4_trembling_21 : decode cX4_trembling 21 = .ok (.iconst (-1), 1) := dk_2 (dk_at dksX4_trembling_0 21 rfl rfl)
theorem dX4_trembling_22 : decode cX4_trembling 22 = .ok (.if_icmp .ne 9, 3) := dk_160 0 9 (dk_at dksX4_trembling_1 0 rfl rfl)
theorem dX4_trembling_25 : decode cX4_trembling 25 = .ok (.iload_n 1, 1) := dk_27 (dk_at dksX4_trembling_1 3 rfl rfl)
theorem dX4_trembling_26 : decode cX4_trembling 26 = .ok (.iconst 1, 1) := dk_4 (dk_at dksX4_trembling_1 4 rfl rfl)
theorem dX4_trembling_27 : decode cX4_trembling 27 = .ok (.iload_n 2, 1) := dk_28 (dk_at dksX4_trembling_1 5 rfl rfl)
theorem dX4_trembling_28 : decode cX4_trembling 28 = .ok (.ishl, 1) := dk_120 (dk_at dksX4_trembling_1 6 rfl rfl)
theorem dX4_trembling_29 : decode cX4_trembling 29 = .ok (.ior, 1) := dk_128 (dk_at dksX4_trembling_1 7 rfl rfl)
theorem dX4_trembling_30 : decode cX4_trembling 30 = .ok (.istore_n 1, 1) := dk_60 (dk_at dksX4_trembling_1 8 rfl rfl)
theorem dX4_trembling_31 : decode cX4_trembling 31 = .ok (.iinc 2 1, 3) := dk_132 2 1 (dk_at dksX4_trembling_1 9 rfl rfl)
theorem dX4_trembling_34 : decode cX4_trembling 34 = .ok (.goto (-26), 3) := dk_167 255 230 (dk_at dksX4_trembling_1 12 rfl rfl)
theorem dX4_trembling_37 : decode cX4_trembling 37 = .ok (.iload_n 1, 1) := dk_27 (dk_at dksX4_trembling_1 15 rfl rfl)
theorem dX4_trembling_38 : decode cX4_trembling 38 = .ok (.ireturn, 1) := dk_172 (dk_at dksX4_trembling_1 16 rfl rfl)
def dkwX4_bestPair_3 : List UInt8 := [132, 3, 1, 167, 255, 191, 27, 172]
abbrev dktX4_bestPair_3 : List UInt8 := dkwX4_bestPair_3 ++ []
def dkwX4_bestPair_2 : List UInt8 := [163, 0, 6, 167, 0, 14, 21, 5, 61, 16, 10, 29, 104, 21, 4, 96, 60, 132, 4, 1, 167, 255, 210]
abbrev dktX4_bestPair_2 : List UInt8 := dkwX4_bestPair_2 ++ dktX4_bestPair_3
def dkwX4_bestPair_1 : List UInt8 := [180, 0, 73, 162, 0, 43, 42, 4, 29, 120, 4, 21, 4, 120, 128, 182, 1, 30, 54, 5, 21, 5, 28]
abbrev dktX4_bestPair_1 : List UInt8 := dkwX4_bestPair_1 ++ dktX4_bestPair_2
def dkwX4_bestPair_0 : List UInt8 := [2, 60, 2, 61, 3, 62, 29, 42, 180, 0, 73, 162, 0, 63, 29, 4, 96, 54, 4, 21, 4, 42]
abbrev dktX4_bestPair_0 : List UInt8 := dkwX4_bestPair_0 ++ dktX4_bestPair_1
theorem dksX4_bestPair_0 : cX4_bestPair.data.toList.drop 0 = dktX4_bestPair_0 := by decide +kernel
theorem dksX4_bestPair_1 : cX4_bestPair.data.toList.drop 22 = dktX4_bestPair_1 := dk_seg dksX4_bestPair_0 22 rfl rfl
theorem dksX4_bestPair_2 : cX4_bestPair.data.toList.drop 45 = dktX4_bestPair_2 := dk_seg dksX4_bestPair_1 23 rfl rfl
theorem dksX4_bestPair_3 : cX4_bestPair.data.toList.drop 68 = dktX4_bestPair_3 := dk_seg dksX4_bestPair_2 23 rfl rfl
theorem dX4_bestPair_0 : decode cX4_bestPair 0 = .ok (.iconst (-1), 1) := dk_2 (dk_at dksX4_bestPair_0 0 rfl rfl)
theorem dX4_bestPair_1 : decode cX4_bestPair 1 = .ok (.istore_n 1, 1) := dk_60 (dk_at dksX4_bestPair_0 1 rfl rfl)
theorem dX4_bestPair_2 : decode cX4_bestPair 2 = .ok (.iconst (-1), 1) := dk_2 (dk_at dksX4_bestPair_0 2 rfl rfl)
theorem dX4_bestPair_3 : decode cX4_bestPair 3 = .ok (.istore_n 2, 1) := dk_61 (dk_at dksX4_bestPair_0 3 rfl rfl)
theorem dX4_bestPair_4 : decode cX4_bestPair 4 = .ok (.iconst 0, 1) := dk_3 (dk_at dksX4_bestPair_0 4 rfl rfl)
theorem dX4_bestPair_5 : decode cX4_bestPair 5 = .ok (.istore_n 3, 1) := dk_62 (dk_at dksX4_bestPair_0 5 rfl rfl)
theorem dX4_bestPair_6 : decode cX4_bestPair 6 = .ok (.iload_n 3, 1) := dk_29 (dk_at dksX4_bestPair_0 6 rfl rfl)
theorem dX4_bestPair_7 : decode cX4_bestPair 7 = .ok (.aload_n 0, 1) := dk_42 (dk_at dksX4_bestPair_0 7 rfl rfl)
theorem dX4_bestPair_8 : decode cX4_bestPair 8 = .ok (.getfield 73, 3) := dk_180 0 73 (dk_at dksX4_bestPair_0 8 rfl rfl)
theorem dX4_bestPair_11 : decode cX4_bestPair 11 = .ok (.if_icmp .ge 63, 3) := dk_162 0 63 (dk_at dksX4_bestPair_0 11 rfl rfl)
theorem dX4_bestPair_14 : decode cX4_bestPair 14 = .ok (.iload_n 3, 1) := dk_29 (dk_at dksX4_bestPair_0 14 rfl rfl)
theorem dX4_bestPair_15 : decode cX4_bestPair 15 = .ok (.iconst 1, 1) := dk_4 (dk_at dksX4_bestPair_0 15 rfl rfl)
theorem dX4_bestPair_16 : decode cX4_bestPair 16 = .ok (.iadd, 1) := dk_96 (dk_at dksX4_bestPair_0 16 rfl rfl)
theorem dX4_bestPair_17 : decode cX4_bestPair 17 = .ok (.istore 4, 2) := dk_54 4 (dk_at dksX4_bestPair_0 17 rfl rfl)
theorem dX4_bestPair_19 : decode cX4_bestPair 19 = .ok (.iload 4, 2) := dk_21 4 (dk_at dksX4_bestPair_0 19 rfl rfl)
theorem dX4_bestPair_21 : decode cX4_bestPair 21 = .ok (.aload_n 0, 1) := dk_42 (dk_at dksX4_bestPair_0 21 rfl rfl)
theorem dX4_bestPair_22 : decode cX4_bestPair 22 = .ok (.getfield 73, 3) := dk_180 0 73 (dk_at dksX4_bestPair_1 0 rfl rfl)
theorem dX4_bestPair_25 : decode cX4_bestPair 25 = .ok (.if_icmp .ge 43, 3) := dk_162 0 43 (dk_at dksX4_bestPair_1 3 rfl rfl)
theorem dX4_bestPair_28 : decode cX4_bestPair 28 = .ok (.aload_n 0, 1) := dk_42 (dk_at dksX4_bestPair_1 6 rfl rfl)
theorem dX4_bestPair_29 : decode cX4_bestPair 29 = .ok (.iconst 1, 1) := dk_4 (dk_at dksX4_bestPair_1 7 rfl rfl)
theorem dX4_bestPair_30 : decode cX4_bestPair 30 = .ok (.iload_n 3, 1) := dk_29 (dk_at dksX4_bestPair_1 8 rfl rfl)
theorem dX4_bestPair_31 : decode cX4_bestPair 31 = .ok (.ishl, 1) := dk_120 (dk_at dksX4_bestPair_1 9 rfl rfl)
theorem dX4_bestPair_32 : decode cX4_bestPair 32 = .ok (.iconst 1, 1) := dk_4 (dk_at dksX4_bestPair_1 10 rfl rfl)
theorem dX4_bestPair_33 : decode cX4_bestPair 33 = .ok (.iload 4, 2) := dk_21 4 (dk_at dksX4_bestPair_1 11 rfl rfl)
theorem dX4_bestPair_35 : decode cX4_bestPair 35 = .ok (.ishl, 1) := dk_120 (dk_at dksX4_bestPair_1 13 rfl rfl)
theorem dX4_bestPair_36 : decode cX4_bestPair 36 = .ok (.ior, 1) := dk_128 (dk_at dksX4_bestPair_1 14 rfl rfl)
theorem dX4_bestPair_37 : decode cX4_bestPair 37 = .ok (.invokevirtual 286, 3) := dk_182 1 30 (dk_at dksX4_bestPair_1 15 rfl rfl)
theorem dX4_bestPair_40 : decode cX4_bestPair 40 = .ok (.istore 5, 2) := dk_54 5 (dk_at dksX4_bestPair_1 18 rfl rfl)
theorem dX4_bestPair_42 : decode cX4_bestPair 42 = .ok (.iload 5, 2) := dk_21 5 (dk_at dksX4_bestPair_1 20 rfl rfl)
theorem dX4_bestPair_44 : decode cX4_bestPair 44 = .ok (.iload_n 2, 1) := dk_28 (dk_at dksX4_bestPair_1 22 rfl rfl)
theorem dX4_bestPair_45 : decode cX4_bestPair 45 = .ok (.if_icmp .gt 6, 3) := dk_163 0 6 (dk_at dksX4_bestPair_2 0 rfl rfl)
theorem dX4_bestPair_48 : decode cX4_bestPair 48 = .ok (.goto 14, 3) := dk_167 0 14 (dk_at dksX4_bestPair_2 3 rfl rfl)
theorem dX4_bestPair_51 : decode cX4_bestPair 51 = .ok (.iload 5, 2) := dk_21 5 (dk_at dksX4_bestPair_2 6 rfl rfl)
theorem dX4_bestPair_53 : decode cX4_bestPair 53 = .ok (.istore_n 2, 1) := dk_61 (dk_at dksX4_bestPair_2 8 rfl rfl)
theorem dX4_bestPair_54 : decode cX4_bestPair 54 = .ok (.bipush 10, 2) := dk_16 10 (dk_at dksX4_bestPair_2 9 rfl rfl)
theorem dX4_bestPair_56 : decode cX4_bestPair 56 = .ok (.iload_n 3, 1) := dk_29 (dk_at dksX4_bestPair_2 11 rfl rfl)
theorem dX4_bestPair_57 : decode cX4_bestPair 57 = .ok (.imul, 1) := dk_104 (dk_at dksX4_bestPair_2 12 rfl rfl)
theorem dX4_bestPair_58 : decode cX4_bestPair 58 = .ok (.iload 4, 2) := dk_21 4 (dk_at dksX4_bestPair_2 13 rfl rfl)
theorem dX4_bestPair_60 : decode cX4_bestPair 60 = .ok (.iadd, 1) := dk_96 (dk_at dksX4_bestPair_2 15 rfl rfl)
theorem dX4_bestPair_61 : decode cX4_bestPair 61 = .ok (.istore_n 1, 1) := dk_60 (dk_at dksX4_bestPair_2 16 rfl rfl)
theorem dX4_bestPair_62 : decode cX4_bestPair 62 = .ok (.iinc 4 1, 3) := dk_132 4 1 (dk_at dksX4_bestPair_2 17 rfl rfl)
theorem dX4_bestPair_65 : decode cX4_bestPair 65 = .ok (.goto (-46), 3) := dk_167 255 210 (dk_at dksX4_bestPair_2 20 rfl rfl)
theorem dX4_bestPair_68 : decode cX4_bestPair 68 = .ok (.iinc 3 1, 3) := dk_132 3 1 (dk_at dksX4_bestPair_3 0 rfl rfl)
theorem dX4_bestPair_71 : decode cX4_bestPair 71 = .ok (.goto (-65), 3) := dk_167 255 191 (dk_at dksX4_bestPair_3 3 rfl rfl)
theorem dX4_bestPair_74 : decode cX4_bestPair 74 = .ok (.iload_n 1, 1) := dk_27 (dk_at dksX4_bestPair_3 6 rfl rfl)
theorem dX4_bestPair_75 : decode cX4_bestPair 75 = .ok (.ireturn, 1) := dk_172 (dk_at dksX4_bestPair_3 7 rfl rfl)
def dkwX4_idlest_2 : List UInt8 := [167, 255, 215, 27, 2, 160, 0, 12, 42, 16, 251, 182, 0, 87, 167, 0, 4, 27, 172]
abbrev dktX4_idlest_2 : List UInt8 := dkwX4_idlest_2 ++ []
def dkwX4_idlest_1 : List UInt8 := [126, 182, 1, 30, 54, 4, 21, 4, 28, 163, 0, 6, 167, 0, 8, 21, 4, 61, 29, 60, 132, 3, 1]
abbrev dktX4_idlest_1 : List UInt8 := dkwX4_idlest_1 ++ dktX4_idlest_2
def dkwX4_idlest_0 : List UInt8 := [2, 60, 2, 61, 3, 62, 29, 42, 180, 0, 73, 162, 0, 39, 42, 42, 182, 1, 27, 4, 29, 120, 2, 130]
abbrev dktX4_idlest_0 : List UInt8 := dkwX4_idlest_0 ++ dktX4_idlest_1
theorem dksX4_idlest_0 : cX4_idlest.data.toList.drop 0 = dktX4_idlest_0 := by decide +kernel
theorem dksX4_idlest_1 : cX4_idlest.data.toList.drop 24 = dktX4_idlest_1 := dk_seg dksX4_idlest_0 24 rfl rfl
theorem dksX4_idlest_2 : cX4_idlest.data.toList.drop 47 = dktX4_idlest_2 := dk_seg dksX4_idlest_1 23 rfl rfl
theorem dX4_idlest_0 : decode cX4_idlest 0 = .ok (.iconst (-1), 1) := dk_2 (dk_at dksX4_idlest_0 0 rfl rfl)
theorem dX4_idlest_1 : decode cX4_idlest 1 = .ok (.istore_n 1, 1) := dk_60 (dk_at dksX4_idlest_0 1 rfl rfl)
theorem dX4_idlest_2 : decode cX4_idlest 2 = .ok (.iconst (-1), 1) := dk_2 (dk_at dksX4_idlest_0 2 rfl rfl)
theorem dX4_idlest_3 : decode cX4_idlest 3 = .ok (.istore_n 2, 1) := dk_61 (dk_at dksX4_idlest_0 3 rfl rfl)
theorem dX4_idlest_4 : decode cX4_idlest 4 = .ok (.iconst 0, 1) := dk_3 (dk_at dksX4_idlest_0 4 rfl rfl)
theorem dX4_idlest_5 : decode cX4_idlest 5 = .ok (.istore_n 3, 1) := dk_62 (dk_at dksX4_idlest_0 5 rfl rfl)
theorem dX4_idlest_6 : decode cX4_idlest 6 = .ok (.iload_n 3, 1) := dk_29 (dk_at dksX4_idlest_0 6 rfl rfl)
theorem dX4_idlest_7 : decode cX4_idlest 7 = .ok (.aload_n 0, 1) := dk_42 (dk_at dksX4_idlest_0 7 rfl rfl)
theorem dX4_idlest_8 : decode cX4_idlest 8 = .ok (.getfield 73, 3) := dk_180 0 73 (dk_at dksX4_idlest_0 8 rfl rfl)
theorem dX4_idlest_11 : decode cX4_idlest 11 = .ok (.if_icmp .ge 39, 3) := dk_162 0 39 (dk_at dksX4_idlest_0 11 rfl rfl)
theorem dX4_idlest_14 : decode cX4_idlest 14 = .ok (.aload_n 0, 1) := dk_42 (dk_at dksX4_idlest_0 14 rfl rfl)
theorem dX4_idlest_15 : decode cX4_idlest 15 = .ok (.aload_n 0, 1) := dk_42 (dk_at dksX4_idlest_0 15 rfl rfl)
theorem dX4_idlest_16 : decode cX4_idlest 16 = .ok (.invokevirtual 283, 3) := dk_182 1 27 (dk_at dksX4_idlest_0 16 rfl rfl)
theorem dX4_idlest_19 : decode cX4_idlest 19 = .ok (.iconst 1, 1) := dk_4 (dk_at dksX4_idlest_0 19 rfl rfl)
theorem dX4_idlest_20 : decode cX4_idlest 20 = .ok (.iload_n 3, 1) := dk_29 (dk_at dksX4_idlest_0 20 rfl rfl)
theorem dX4_idlest_21 : decode cX4_idlest 21 = .ok (.ishl, 1) := dk_120 (dk_at dksX4_idlest_0 21 rfl rfl)
theorem dX4_idlest_22 : decode cX4_idlest 22 = .ok (.iconst (-1), 1) := dk_2 (dk_at dksX4_idlest_0 22 rfl rfl)
theorem dX4_idlest_23 : decode cX4_idlest 23 = .ok (.ixor, 1) := dk_130 (dk_at dksX4_idlest_0 23 rfl rfl)
theorem dX4_idlest_24 : decode cX4_idlest 24 = .ok (.iand, 1) := dk_126 (dk_at dksX4_idlest_1 0 rfl rfl)
theorem dX4_idlest_25 : decode cX4_idlest 25 = .ok (.invokevirtual 286, 3) := dk_182 1 30 (dk_at dksX4_idlest_1 1 rfl rfl)
theorem dX4_idlest_28 : decode cX4_idlest 28 = .ok (.istore 4, 2) := dk_54 4 (dk_at dksX4_idlest_1 4 rfl rfl)
theorem dX4_idlest_30 : decode cX4_idlest 30 = .ok (.iload 4, 2) := dk_21 4 (dk_at dksX4_idlest_1 6 rfl rfl)
theorem dX4_idlest_32 : decode cX4_idlest 32 = .ok (.iload_n 2, 1) := dk_28 (dk_at dksX4_idlest_1 8 rfl rfl)
theorem dX4_idlest_33 : decode cX4_idlest 33 = .ok (.if_icmp .gt 6, 3) := dk_163 0 6 (dk_at dksX4_idlest_1 9 rfl rfl)
theorem dX4_idlest_36 : decode cX4_idlest 36 = .ok (.goto 8, 3) := dk_167 0 8 (dk_at dksX4_idlest_1 12 rfl rfl)
theorem dX4_idlest_39 : decode cX4_idlest 39 = .ok (.iload 4, 2) := dk_21 4 (dk_at dksX4_idlest_1 15 rfl rfl)
theorem dX4_idlest_41 : decode cX4_idlest 41 = .ok (.istore_n 2, 1) := dk_61 (dk_at dksX4_idlest_1 17 rfl rfl)
theorem dX4_idlest_42 : decode cX4_idlest 42 = .ok (.iload_n 3, 1) := dk_29 (dk_at dksX4_idlest_1 18 rfl rfl)
theorem dX4_idlest_43 : decode cX4_idlest 43 = .ok (.istore_n 1, 1) := dk_60 (dk_at dksX4_idlest_1 19 rfl rfl)
theorem dX4_idlest_44 : decode cX4_idlest 44 = .ok (.iinc 3 1, 3) := dk_132 3 1 (dk_at dksX4_idlest_1 20 rfl rfl)
theorem dX4_idlest_47 : decode cX4_idlest 47 = .ok (.goto (-41), 3) := dk_167 255 215 (dk_at dksX4_idlest_2 0 rfl rfl)
theorem dX4_idlest_50 : decode cX4_idlest 50 = .ok (.iload_n 1, 1) := dk_27 (dk_at dksX4_idlest_2 3 rfl rfl)
theorem dX4_idlest_51 : decode cX4_idlest 51 = .ok (.iconst (-1), 1) := dk_2 (dk_at dksX4_idlest_2 4 rfl rfl)
theorem dX4_idlest_52 : decode cX4_idlest 52 = .ok (.if_icmp .ne 12, 3) := dk_160 0 12 (dk_at dksX4_idlest_2 5 rfl rfl)
theorem dX4_idlest_55 : decode cX4_idlest 55 = .ok (.aload_n 0, 1) := dk_42 (dk_at dksX4_idlest_2 8 rfl rfl)
theorem dX4_idlest_56 : decode cX4_idlest 56 = .ok (.bipush (-5), 2) := dk_16 251 (dk_at dksX4_idlest_2 9 rfl rfl)
theorem dX4_idlest_58 : decode cX4_idlest 58 = .ok (.invokevirtual 87, 3) := dk_182 0 87 (dk_at dksX4_idlest_2 11 rfl rfl)
theorem dX4_idlest_61 : decode cX4_idlest 61 = .ok (.goto 4, 3) := dk_167 0 4 (dk_at dksX4_idlest_2 14 rfl rfl)
theorem dX4_idlest_64 : decode cX4_idlest 64 = .ok (.iload_n 1, 1) := dk_27 (dk_at dksX4_idlest_2 17 rfl rfl)
theorem dX4_idlest_65 : decode cX4_idlest 65 = .ok (.ireturn, 1) := dk_172 (dk_at dksX4_idlest_2 18 rfl rfl)
def dkwX4_leads_1 : List UInt8 := [42, 42, 180, 0, 23, 27, 46, 28, 182, 1, 50, 172]
abbrev dktX4_leads_1 : List UInt8 := dkwX4_leads_1 ++ []
def dkwX4_leads_0 : List UInt8 := [42, 27, 182, 0, 128, 153, 0, 12, 42, 28, 133, 182, 0, 69, 154, 0, 10, 42, 16, 254, 182, 0, 87, 172]
abbrev dktX4_leads_0 : List UInt8 := dkwX4_leads_0 ++ dktX4_leads_1
theorem dksX4_leads_0 : cX4_leads.data.toList.drop 0 = dktX4_leads_0 := by decide +kernel
theorem dksX4_leads_1 : cX4_leads.data.toList.drop 24 = dktX4_leads_1 := dk_seg dksX4_leads_0 24 rfl rfl
theorem dX4_leads_0 : decode cX4_leads 0 = .ok (.aload_n 0, 1) := dk_42 (dk_at dksX4_leads_0 0 rfl rfl)
theorem dX4_leads_1 : decode cX4_leads 1 = .ok (.iload_n 1, 1) := dk_27 (dk_at dksX4_leads_0 1 rfl rfl)
theorem dX4_leads_2 : decode cX4_leads 2 = .ok (.invokevirtual 128, 3) := dk_182 0 128 (dk_at dksX4_leads_0 2 rfl rfl)
theorem dX4_leads_5 : decode cX4_leads 5 = .ok (.ifCond .eq 12, 3) := dk_153 0 12 (dk_at dksX4_leads_0 5 rfl rfl)
theorem dX4_leads_8 : decode cX4_leads 8 = .ok (.aload_n 0, 1) := dk_42 (dk_at dksX4_leads_0 8 rfl rfl)
theorem dX4_leads_9 : decode cX4_leads 9 = .ok (.iload_n 2, 1) := dk_28 (dk_at dksX4_leads_0 9 rfl rfl)
theorem dX4_leads_10 : decode cX4_leads 10 = .ok (.i2l, 1) := dk_133 (dk_at dksX4_leads_0 10 rfl rfl)
theorem dX4_leads_11 : decode cX4_leads 11 = .ok (.invokevirtual 69, 3) := dk_182 0 69 (dk_at dksX4_leads_0 11 rfl rfl)
theorem dX4_leads_14 : decode cX4_leads 14 = .ok (.ifCond .ne 10, 3) := dk_154 0 10 (dk_at dksX4_leads_0 14 rfl rfl)
theorem dX4_leads_17 : decode cX4_leads 17 = .ok (.aload_n 0, 1) := dk_42 (dk_at dksX4_leads_0 17 rfl rfl)
theorem dX4_leads_18 : decode cX4_leads 18 = .ok (.bipush (-2), 2) := dk_16 254 (dk_at dksX4_leads_0 18 rfl rfl)
theorem dX4_leads_20 : decode cX4_leads 20 = .ok (.invokevirtual 87, 3) := dk_182 0 87 (dk_at dksX4_leads_0 20 rfl rfl)
theorem dX4_leads_23 : decode cX4_leads 23 = .ok (.ireturn, 1) := dk_172 (dk_at dksX4_leads_0 23 rfl rfl)
theorem dX4_leads_24 : decode cX4_leads 24 = .ok (.aload_n 0, 1) := dk_42 (dk_at dksX4_leads_1 0 rfl rfl)
theorem dX4_leads_25 : decode cX4_leads 25 = .ok (.aload_n 0, 1) := dk_42 (dk_at dksX4_leads_1 1 rfl rfl)
theorem dX4_leads_26 : decode cX4_leads 26 = .ok (.getfield 23, 3) := dk_180 0 23 (dk_at dksX4_leads_1 2 rfl rfl)
theorem dX4_leads_29 : decode cX4_leads 29 = .ok (.iload_n 1, 1) := dk_27 (dk_at dksX4_leads_1 5 rfl rfl)
theorem dX4_leads_30 : decode cX4_leads 30 = .ok (.iaload, 1) := dk_46 (dk_at dksX4_leads_1 6 rfl rfl)
theorem dX4_leads_31 : decode cX4_leads 31 = .ok (.iload_n 2, 1) := dk_28 (dk_at dksX4_leads_1 7 rfl rfl)
theorem dX4_leads_32 : decode cX4_leads 32 = .ok (.invokevirtual 306, 3) := dk_182 1 50 (dk_at dksX4_leads_1 8 rfl rfl)
theorem dX4_leads_35 : decode cX4_leads 35 = .ok (.ireturn, 1) := dk_172 (dk_at dksX4_leads_1 11 rfl rfl)
def dkwX4_commandTo_2 : List UInt8 := [182, 0, 235, 29, 4, 100, 160, 0, 6, 21, 4, 172, 132, 4, 1, 167, 255, 211, 2, 172]
abbrev dktX4_commandTo_2 : List UInt8 := dkwX4_commandTo_2 ++ []
def dkwX4_commandTo_1 : List UInt8 := [2, 159, 0, 34, 42, 27, 21, 4, 182, 1, 44, 153, 0, 24, 42, 42, 27, 21, 4, 182, 1, 41, 28]
abbrev dktX4_commandTo_1 : List UInt8 := dkwX4_commandTo_1 ++ dktX4_commandTo_2
def dkwX4_commandTo_0 : List UInt8 := [27, 28, 160, 0, 5, 3, 172, 42, 27, 28, 182, 0, 235, 62, 4, 54, 4, 21, 4, 8, 162, 0, 45, 29]
abbrev dktX4_commandTo_0 : List UInt8 := dkwX4_commandTo_0 ++ dktX4_commandTo_1
theorem dksX4_commandTo_0 : cX4_commandTo.data.toList.drop 0 = dktX4_commandTo_0 := by decide +kernel
theorem dksX4_commandTo_1 : cX4_commandTo.data.toList.drop 24 = dktX4_commandTo_1 := dk_seg dksX4_commandTo_0 24 rfl rfl
theorem dksX4_commandTo_2 : cX4_commandTo.data.toList.drop 47 = dktX4_commandTo_2 := dk_seg dksX4_commandTo_1 23 rfl rfl
theorem dX4_commandTo_0 : decode cX4_commandTo 0 = .ok (.iload_n 1, 1) := dk_27 (dk_at dksX4_commandTo_0 0 rfl rfl)
theorem dX4_commandTo_1 : decode cX4_commandTo 1 = .ok (.iload_n 2, 1) := dk_28 (dk_at dksX4_commandTo_0 1 rfl rfl)
theorem dX4_commandTo_2 : decode cX4_commandTo 2 = .ok (.if_icmp .ne 5, 3) := dk_160 0 5 (dk_at dksX4_commandTo_0 2 rfl rfl)
theorem dX4_commandTo_5 : decode cX4_commandTo 5 = .ok (.iconst 0, 1) := dk_3 (dk_at dksX4_commandTo_0 5 rfl rfl)
theorem dX4_commandTo_6 : decode cX4_commandTo 6 = .ok (.ireturn, 1) := dk_172 (dk_at dksX4_commandTo_0 6 rfl rfl)
theorem dX4_commandTo_7 : decode cX4_commandTo 7 = .ok (.aload_n 0, 1) := dk_42 (dk_at dksX4_commandTo_0 7 rfl rfl)
theorem dX4_commandTo_8 : decode cX4_commandTo 8 = .ok (.iload_n 1, 1) := dk_27 (dk_at dksX4_commandTo_0 8 rfl rfl)
theorem dX4_commandTo_9 : decode cX4_commandTo 9 = .ok (.iload_n 2, 1) := dk_28 (dk_at dksX4_commandTo_0 9 rfl rfl)
theorem dX4_commandTo_10 : decode cX4_commandTo 10 = .ok (.invokevirtual 235, 3) := dk_182 0 235 (dk_at dksX4_commandTo_0 10 rfl rfl)
theorem dX4_commandTo_13 : decode cX4_commandTo 13 = .ok (.istore_n 3, 1) := dk_62 (dk_at dksX4_commandTo_0 13 rfl rfl)
theorem dX4_commandTo_14 : decode cX4_commandTo 14 = .ok (.iconst 1, 1) := dk_4 (dk_at dksX4_commandTo_0 14 rfl rfl)
theorem dX4_commandTo_15 : decode cX4_commandTo 15 = .ok (.istore 4, 2) := dk_54 4 (dk_at dksX4_commandTo_0 15 rfl rfl)
theorem dX4_commandTo_17 : decode cX4_commandTo 17 = .ok (.iload 4, 2) := dk_21 4 (dk_at dksX4_commandTo_0 17 rfl rfl)
theorem dX4_commandTo_19 : decode cX4_commandTo 19 = .ok (.iconst 5, 1) := dk_8 (dk_at dksX4_commandTo_0 19 rfl rfl)
theorem dX4_commandTo_20 : decode cX4_commandTo 20 = .ok (.if_icmp .ge 45, 3) := dk_162 0 45 (dk_at dksX4_commandTo_0 20 rfl rfl)
theorem dX4_commandTo_23 : decode cX4_commandTo 23 = .ok (.iload_n 3, 1) := dk_29 (dk_at dksX4_commandTo_0 23 rfl rfl)
theorem dX4_commandTo_24 : decode cX4_commandTo 24 = .ok (.iconst (-1), 1) := dk_2 (dk_at dksX4_commandTo_1 0 rfl rfl)
theorem dX4_commandTo_25 : decode cX4_commandTo 25 = .ok (.if_icmp .eq 34, 3) := dk_159 0 34 (dk_at dksX4_commandTo_1 1 rfl rfl)
theorem dX4_commandTo_28 : decode cX4_commandTo 28 = .ok (.aload_n 0, 1) := dk_42 (dk_at dksX4_commandTo_1 4 rfl rfl)
theorem dX4_commandTo_29 : decode cX4_commandTo 29 = .ok (.iload_n 1, 1) := dk_27 (dk_at dksX4_commandTo_1 5 rfl rfl)
theorem dX4_commandTo_30 : decode cX4_commandTo 30 = .ok (.iload 4, 2) := dk_21 4 (dk_at dksX4_commandTo_1 6 rfl rfl)
theorem dX4_commandTo_32 : decode cX4_commandTo 32 = .ok (.invokevirtual 300, 3) := dk_182 1 44 (dk_at dksX4_commandTo_1 8 rfl rfl)
theorem dX4_commandTo_35 : decode cX4_commandTo 35 = .ok (.ifCond .eq 24, 3) := dk_153 0 24 (dk_at dksX4_commandTo_1 11 rfl rfl)
theorem dX4_commandTo_38 : decode cX4_commandTo 38 = .ok (.aload_n 0, 1) := dk_42 (dk_at dksX4_commandTo_1 14 rfl rfl)
theorem dX4_commandTo_39 : decode cX4_commandTo 39 = .ok (.aload_n 0, 1) := dk_42 (dk_at dksX4_commandTo_1 15 rfl rfl)
theorem dX4_commandTo_40 : decode cX4_commandTo 40 = .ok (.iload_n 1, 1) := dk_27 (dk_at dksX4_commandTo_1 16 rfl rfl)
theorem dX4_commandTo_41 : decode cX4_commandTo 41 = .ok (.iload 4, 2) := dk_21 4 (dk_at dksX4_commandTo_1 17 rfl rfl)
theorem dX4_commandTo_43 : decode cX4_commandTo 43 = .ok (.invokevirtual 297, 3) := dk_182 1 41 (dk_at dksX4_commandTo_1 19 rfl rfl)
theorem dX4_commandTo_46 : decode cX4_commandTo 46 = .ok (.iload_n 2, 1) := dk_28 (dk_at dksX4_commandTo_1 22 rfl rfl)
theorem dX4_commandTo_47 : decode cX4_commandTo 47 = .ok (.invokevirtual 235, 3) := dk_182 0 235 (dk_at dksX4_commandTo_2 0 rfl rfl)
theorem dX4_commandTo_50 : decode cX4_commandTo 50 = .ok (.iload_n 3, 1) := dk_29 (dk_at dksX4_commandTo_2 3 rfl rfl)
theorem dX4_commandTo_51 : decode cX4_commandTo 51 = .ok (.iconst 1, 1) := dk_4 (dk_at dksX4_commandTo_2 4 rfl rfl)
theorem dX4_commandTo_52 : decode cX4_commandTo 52 = .ok (.isub, 1) := dk_100 (dk_at dksX4_commandTo_2 5 rfl rfl)
theorem dX4_commandTo_53 : decode cX4_commandTo 53 = .ok (.if_icmp .ne 6, 3) := dk_160 0 6 (dk_at dksX4_commandTo_2 6 rfl rfl)
theorem dX4_commandTo_56 : decode cX4_commandTo 56 = .ok (.iload 4, 2) := dk_21 4 (dk_at dksX4_commandTo_2 9 rfl rfl)
theorem dX4_commandTo_58 : decode cX4_commandTo 58 = .ok (.ireturn, 1) := dk_172 (dk_at dksX4_commandTo_2 11 rfl rfl)
theorem dX4_commandTo_59 : decode cX4_commandTo 59 = .ok (.iinc 4 1, 3) := dk_132 4 1 (dk_at dksX4_commandTo_2 12 rfl rfl)
theorem dX4_commandTo_62 : decode cX4_commandTo 62 = .ok (.goto (-45), 3) := dk_167 255 211 (dk_at dksX4_commandTo_2 15 rfl rfl)
theorem dX4_commandTo_65 : decode cX4_commandTo 65 = .ok (.iconst (-1), 1) := dk_2 (dk_at dksX4_commandTo_2 18 rfl rfl)
theorem dX4_commandTo_66 : decode cX4_commandTo 66 = .ok (.ireturn, 1) := dk_172 (dk_at dksX4_commandTo_2 19 rfl rfl)
def dkwX4_reach_3 : List UInt8 := [132, 3, 1, 132, 4, 1, 167, 255, 220, 29, 172]
abbrev dktX4_reach_3 : List UInt8 := dkwX4_reach_3 ++ []
def dkwX4_reach_2 : List UInt8 := [180, 0, 54, 21, 4, 46, 158, 0, 19, 42, 180, 0, 54, 21, 4, 46, 4, 100, 28, 163, 0, 6]
abbrev dktX4_reach_2 : List UInt8 := dkwX4_reach_2 ++ dktX4_reach_3
def dkwX4_reach_1 : List UInt8 := [182, 0, 87, 172, 42, 27, 182, 1, 47, 3, 62, 3, 54, 4, 21, 4, 16, 67, 162, 0, 35, 42]
abbrev dktX4_reach_1 : List UInt8 := dkwX4_reach_1 ++ dktX4_reach_2
def dkwX4_reach_0 : List UInt8 := [42, 27, 133, 182, 0, 69, 153, 0, 13, 28, 3, 16, 70, 184, 0, 79, 154, 0, 10, 42, 16, 254]
abbrev dktX4_reach_0 : List UInt8 := dkwX4_reach_0 ++ dktX4_reach_1
theorem dksX4_reach_0 : cX4_reach.data.toList.drop 0 = dktX4_reach_0 := by decide +kernel
theorem dksX4_reach_1 : cX4_reach.data.toList.drop 22 = dktX4_reach_1 := dk_seg dksX4_reach_0 22 rfl rfl
theorem dksX4_reach_2 : cX4_reach.data.toList.drop 44 = dktX4_reach_2 := dk_seg dksX4_reach_1 22 rfl rfl
theorem dksX4_reach_3 : cX4_reach.data.toList.drop 66 = dktX4_reach_3 := dk_seg dksX4_reach_2 22 rfl rfl
theorem dX4_reach_0 : decode cX4_reach 0 = .ok (.aload_n 0, 1) := dk_42 (dk_at dksX4_reach_0 0 rfl rfl)
theorem dX4_reach_1 : decode cX4_reach 1 = .ok (.iload_n 1, 1) := dk_27 (dk_at dksX4_reach_0 1 rfl rfl)
theorem dX4_reach_2 : decode cX4_reach 2 = .ok (.i2l, 1) := dk_133 (dk_at dksX4_reach_0 2 rfl rfl)
theorem dX4_reach_3 : decode cX4_reach 3 = .ok (.invokevirtual 69, 3) := dk_182 0 69 (dk_at dksX4_reach_0 3 rfl rfl)
theorem dX4_reach_6 : decode cX4_reach 6 = .ok (.ifCond .eq 13, 3) := dk_153 0 13 (dk_at dksX4_reach_0 6 rfl rfl)
theorem dX4_reach_9 : decode cX4_reach 9 = .ok (.iload_n 2, 1) := dk_28 (dk_at dksX4_reach_0 9 rfl rfl)
theorem dX4_reach_10 : decode cX4_reach 10 = .ok (.iconst 0, 1) := dk_3 (dk_at dksX4_reach_0 10 rfl rfl)
theorem dX4_reach_11 : decode cX4_reach 11 = .ok (.bipush 70, 2) := dk_16 70 (dk_at dksX4_reach_0 11 rfl rfl)
theorem dX4_reach_13 : decode cX4_reach 13 = .ok (.invokestatic 79, 3) := dk_184 0 79 (dk_at dksX4_reach_0 13 rfl rfl)
theorem dX4_reach_16 : decode cX4_reach 16 = .ok (.ifCond .ne 10, 3) := dk_154 0 10 (dk_at dksX4_reach_0 16 rfl rfl)
theorem dX4_reach_19 : decode cX4_reach 19 = .ok (.aload_n 0, 1) := dk_42 (dk_at dksX4_reach_0 19 rfl rfl)
theorem dX4_reach_20 : decode cX4_reach 20 = .ok (.bipush (-2), 2) := dk_16 254 (dk_at dksX4_reach_0 20 rfl rfl)
theorem dX4_reach_22 : decode cX4_reach 22 = .ok (.invokevirtual 87, 3) := dk_182 0 87 (dk_at dksX4_reach_1 0 rfl rfl)
theorem dX4_reach_25 : decode cX4_reach 25 = .ok (.ireturn, 1) := dk_172 (dk_at dksX4_reach_1 3 rfl rfl)
theorem dX4_reach_26 : decode cX4_reach 26 = .ok (.aload_n 0, 1) := dk_42 (dk_at dksX4_reach_1 4 rfl rfl)
theorem dX4_reach_27 : decode cX4_reach 27 = .ok (.iload_n 1, 1) := dk_27 (dk_at dksX4_reach_1 5 rfl rfl)
theorem dX4_reach_28 : decode cX4_reach 28 = .ok (.invokevirtual 303, 3) := dk_182 1 47 (dk_at dksX4_reach_1 6 rfl rfl)
theorem dX4_reach_31 : decode cX4_reach 31 = .ok (.iconst 0, 1) := dk_3 (dk_at dksX4_reach_1 9 rfl rfl)
theorem dX4_reach_32 : decode cX4_reach 32 = .ok (.istore_n 3, 1) := dk_62 (dk_at dksX4_reach_1 10 rfl rfl)
theorem dX4_reach_33 : decode cX4_reach 33 = .ok (.iconst 0, 1) := dk_3 (dk_at dksX4_reach_1 11 rfl rfl)
theorem dX4_reach_34 : decode cX4_reach 34 = .ok (.istore 4, 2) := dk_54 4 (dk_at dksX4_reach_1 12 rfl rfl)
theorem dX4_reach_36 : decode cX4_reach 36 = .ok (.iload 4, 2) := dk_21 4 (dk_at dksX4_reach_1 14 rfl rfl)
theorem dX4_reach_38 : decode cX4_reach 38 = .ok (.bipush 67, 2) := dk_16 67 (dk_at dksX4_reach_1 16 rfl rfl)
theorem dX4_reach_40 : decode cX4_reach 40 = .ok (.if_icmp .ge 35, 3) := dk_162 0 35 (dk_at dksX4_reach_1 18 rfl rfl)
theorem dX4_reach_43 : decode cX4_reach 43 = .ok (.aload_n 0, 1) := dk_42 (dk_at dksX4_reach_1 21 rfl rfl)
theorem dX4_reach_44 : decode cX4_reach 44 = .ok (.getfield 54, 3) := dk_180 0 54 (dk_at dksX4_reach_2 0 rfl rfl)
theorem dX4_reach_47 : decode cX4_reach 47 = .ok (.iload 4, 2) := dk_21 4 (dk_at dksX4_reach_2 3 rfl rfl)
theorem dX4_reach_49 : decode cX4_reach 49 = .ok (.iaload, 1) := dk_46 (dk_at dksX4_reach_2 5 rfl rfl)
theorem dX4_reach_50 : decode cX4_reach 50 = .ok (.ifCond .le 19, 3) := dk_158 0 19 (dk_at dksX4_reach_2 6 rfl rfl)
theorem dX4_reach_53 : decode cX4_reach 53 = .ok (.aload_n 0, 1) := dk_42 (dk_at dksX4_reach_2 9 rfl rfl)
theorem dX4_reach_54 : decode cX4_reach 54 = .ok (.getfield 54, 3) := dk_180 0 54 (dk_at dksX4_reach_2 10 rfl rfl)
theorem dX4_reach_57 : decode cX4_reach 57 = .ok (.iload 4, 2) := dk_21 4 (dk_at dksX4_reach_2 13 rfl rfl)
theorem dX4_reach_59 : decode cX4_reach 59 = .ok (.iaload, 1) := dk_46 (dk_at dksX4_reach_2 15 rfl rfl)
theorem dX4_reach_60 : decode cX4_reach 60 = .ok (.iconst 1, 1) := dk_4 (dk_at dksX4_reach_2 16 rfl rfl)
theorem dX4_reach_61 : decode cX4_reach 61 = .ok (.isub, 1) := dk_100 (dk_at dksX4_reach_2 17 rfl rfl)
theorem dX4_reach_62 : decode cX4_reach 62 = .ok (.iload_n 2, 1) := dk_28 (dk_at dksX4_reach_2 18 rfl rfl)
theorem dX4_reach_63 : decode cX4_reach 63 = .ok (.if_icmp .gt 6, 3) := dk_163 0 6 (dk_at dksX4_reach_2 19 rfl rfl)
theorem dX4_reach_66 : decode cX4_reach 66 = .ok (.iinc 3 1, 3) := dk_132 3 1 (dk_at dksX4_reach_3 0 rfl rfl)
theorem dX4_reach_69 : decode cX4_reach 69 = .ok (.iinc 4 1, 3) := dk_132 4 1 (dk_at dksX4_reach_3 3 rfl rfl)
theorem dX4_reach_72 : decode cX4_reach 72 = .ok (.goto (-36), 3) := dk_167 255 220 (dk_at dksX4_reach_3 6 rfl rfl)
theorem dX4_reach_75 : decode cX4_reach 75 = .ok (.iload_n 3, 1) := dk_29 (dk_at dksX4_reach_3 9 rfl rfl)
theorem dX4_reach_76 : decode cX4_reach 76 = .ok (.ireturn, 1) := dk_172 (dk_at dksX4_reach_3 10 rfl rfl)
def dkwX4_open_1 : List UInt8 := [162, 0, 21, 42, 27, 29, 182, 1, 44, 153, 0, 6, 132, 2, 1, 132, 3, 1, 167, 255, 236, 28, 172]
abbrev dktX4_open_1 : List UInt8 := dkwX4_open_1 ++ []
def dkwX4_open_0 : List UInt8 := [42, 27, 133, 182, 0, 69, 154, 0, 10, 42, 16, 254, 182, 0, 87, 172, 3, 61, 4, 62, 29, 8]
abbrev dktX4_open_0 : List UInt8 := dkwX4_open_0 ++ dktX4_open_1
theorem dksX4_open_0 : cX4_open.data.toList.drop 0 = dktX4_open_0 := by decide +kernel
theorem dksX4_open_1 : cX4_open.data.toList.drop 22 = dktX4_open_1 := dk_seg dksX4_open_0 22 rfl rfl
theorem dX4_open_0 : decode cX4_open 0 = .ok (.aload_n 0, 1) := dk_42 (dk_at dksX4_open_0 0 rfl rfl)
theorem dX4_open_1 : decode cX4_open 1 = .ok (.iload_n 1, 1) := dk_27 (dk_at dksX4_open_0 1 rfl rfl)
theorem dX4_open_2 : decode cX4_open 2 = .ok (.i2l, 1) := dk_133 (dk_at dksX4_open_0 2 rfl rfl)
theorem dX4_open_3 : decode cX4_open 3 = .ok (.invokevirtual 69, 3) := dk_182 0 69 (dk_at dksX4_open_0 3 rfl rfl)
theorem dX4_open_6 : decode cX4_open 6 = .ok (.ifCond .ne 10, 3) := dk_154 0 10 (dk_at dksX4_open_0 6 rfl rfl)
theorem dX4_open_9 : decode cX4_open 9 = .ok (.aload_n 0, 1) := dk_42 (dk_at dksX4_open_0 9 rfl rfl)
theorem dX4_open_10 : decode cX4_open 10 = .ok (.bipush (-2), 2) := dk_16 254 (dk_at dksX4_open_0 10 rfl rfl)
theorem dX4_open_12 : decode cX4_open 12 = .ok (.invokevirtual 87, 3) := dk_182 0 87 (dk_at dksX4_open_0 12 rfl rfl)
theorem dX4_open_15 : decode cX4_open 15 = .ok (.ireturn, 1) := dk_172 (dk_at dksX4_open_0 15 rfl rfl)
theorem dX4_open_16 : decode cX4_open 16 = .ok (.iconst 0, 1) := dk_3 (dk_at dksX4_open_0 16 rfl rfl)
theorem dX4_open_17 : decode cX4_open 17 = .ok (.istore_n 2, 1) := dk_61 (dk_at dksX4_open_0 17 rfl rfl)
theorem dX4_open_18 : decode cX4_open 18 = .ok (.iconst 1, 1) := dk_4 (dk_at dksX4_open_0 18 rfl rfl)
theorem dX4_open_19 : decode cX4_open 19 = .ok (.istore_n 3, 1) := dk_62 (dk_at dksX4_open_0 19 rfl rfl)
theorem dX4_open_20 : decode cX4_open 20 = .ok (.iload_n 3, 1) := dk_29 (dk_at dksX4_open_0 20 rfl rfl)
theorem dX4_open_21 : decode cX4_open 21 = .ok (.iconst 5, 1) := dk_8 (dk_at dksX4_open_0 21 rfl rfl)
theorem dX4_open_22 : decode cX4_open 22 = .ok (.if_icmp .ge 21, 3) := dk_162 0 21 (dk_at dksX4_open_1 0 rfl rfl)
theorem dX4_open_25 : decode cX4_open 25 = .ok (.aload_n 0, 1) := dk_42 (dk_at dksX4_open_1 3 rfl rfl)
theorem dX4_open_26 : decode cX4_open 26 = .ok (.iload_n 1, 1) := dk_27 (dk_at dksX4_open_1 4 rfl rfl)
theorem dX4_open_27 : decode cX4_open 27 = .ok (.iload_n 3, 1) := dk_29 (dk_at dksX4_open_1 5 rfl rfl)
theorem dX4_open_28 : decode cX4_open 28 = .ok (.invokevirtual 300, 3) := dk_182 1 44 (dk_at dksX4_open_1 6 rfl rfl)
theorem dX4_open_31 : decode cX4_open 31 = .ok (.ifCond .eq 6, 3) := dk_153 0 6 (dk_at dksX4_open_1 9 rfl rfl)
theorem dX4_open_34 : decode cX4_open 34 = .ok (.iinc 2 1, 3) := dk_132 2 1 (dk_at dksX4_open_1 12 rfl rfl)
theorem dX4_open_37 : decode cX4_open 37 = .ok (.iinc 3 1, 3) := dk_132 3 1 (dk_at dksX4_open_1 15 rfl rfl)
theorem dX4_open_40 : decode cX4_open 40 = .ok (.goto (-20), 3) := dk_167 255 236 (dk_at dksX4_open_1 18 rfl rfl)
theorem dX4_open_43 : decode cX4_open 43 = .ok (.iload_n 2, 1) := dk_28 (dk_at dksX4_open_1 21 rfl rfl)
theorem dX4_open_44 : decode cX4_open 44 = .ok (.ireturn, 1) := dk_172 (dk_at dksX4_open_1 22 rfl rfl)
def dkwX4_parts_3 : List UInt8 := [132, 2, 1, 167, 255, 186, 27, 172]
abbrev dktX4_parts_3 : List UInt8 := dkwX4_parts_3 ++ []
def dkwX4_parts_2 : List UInt8 := [180, 0, 54, 21, 4, 46, 158, 0, 5, 3, 62, 132, 4, 1, 167, 255, 226, 29, 153, 0, 6, 132, 1, 1]
abbrev dktX4_parts_2 : List UInt8 := dkwX4_parts_2 ++ dktX4_parts_3
def dkwX4_parts_1 : List UInt8 := [182, 1, 47, 4, 62, 3, 54, 4, 21, 4, 28, 162, 0, 30, 42, 21, 4, 182, 0, 252, 153, 0, 15, 42]
abbrev dktX4_parts_1 : List UInt8 := dkwX4_parts_1 ++ dktX4_parts_2
def dkwX4_parts_0 : List UInt8 := [3, 60, 3, 61, 28, 16, 67, 162, 0, 70, 42, 28, 182, 0, 252, 154, 0, 6, 167, 0, 53, 42, 28]
abbrev dktX4_parts_0 : List UInt8 := dkwX4_parts_0 ++ dktX4_parts_1
theorem dksX4_parts_0 : cX4_parts.data.toList.drop 0 = dktX4_parts_0 := by decide +kernel
theorem dksX4_parts_1 : cX4_parts.data.toList.drop 23 = dktX4_parts_1 := dk_seg dksX4_parts_0 23 rfl rfl
theorem dksX4_parts_2 : cX4_parts.data.toList.drop 47 = dktX4_parts_2 := dk_seg dksX4_parts_1 24 rfl rfl
theorem dksX4_parts_3 : cX4_parts.data.toList.drop 71 = dktX4_parts_3 := dk_seg dksX4_parts_2 24 rfl rfl
theorem dX4_parts_0 : decode cX4_parts 0 = .ok (.iconst 0, 1) := dk_3 (dk_at dksX4_parts_0 0 rfl rfl)
theorem dX4_parts_1 : decode cX4_parts 1 = .ok (.istore_n 1, 1) := dk_60 (dk_at dksX4_parts_0 1 rfl rfl)
theorem dX4_parts_2 : decode cX4_parts 2 = .ok (.iconst 0, 1) := dk_3 (dk_at dksX4_parts_0 2 rfl rfl)
theorem dX4_parts_3 : decode cX4_parts 3 = .ok (.istore_n 2, 1) := dk_61 (dk_at dksX4_parts_0 3 rfl rfl)
theorem dX4_parts_4 : decode cX4_parts 4 = .ok (.iload_n 2, 1) := dk_28 (dk_at dksX4_parts_0 4 rfl rfl)
theorem dX4_parts_5 : decode cX4_parts 5 = .ok (.bipush 67, 2) := dk_16 67 (dk_at dksX4_parts_0 5 rfl rfl)
theorem dX4_parts_7 : decode cX4_parts 7 = .ok (.if_icmp .ge 70, 3) := dk_162 0 70 (dk_at dksX4_parts_0 7 rfl rfl)
theorem dX4_parts_10 : decode cX4_parts 10 = .ok (.aload_n 0, 1) := dk_42 (dk_at dksX4_parts_0 10 rfl rfl)
theorem dX4_parts_11 : decode cX4_parts 11 = .ok (.iload_n 2, 1) := dk_28 (dk_at dksX4_parts_0 11 rfl rfl)
theorem dX4_parts_12 : decode cX4_parts 12 = .ok (.invokevirtual 252, 3) := dk_182 0 252 (dk_at dksX4_parts_0 12 rfl rfl)
theorem dX4_parts_15 : decode cX4_parts 15 = .ok (.ifCond .ne 6, 3) := dk_154 0 6 (dk_at dksX4_parts_0 15 rfl rfl)
theorem dX4_parts_18 : decode cX4_parts 18 = .ok (.goto 53, 3) := dk_167 0 53 (dk_at dksX4_parts_0 18 rfl rfl)
theorem dX4_parts_21 : decode cX4_parts 21 = .ok (.aload_n 0, 1) := dk_42 (dk_at dksX4_parts_0 21 rfl rfl)
theorem dX4_parts_22 : decode cX4_parts 22 = .ok (.iload_n 2, 1) := dk_28 (dk_at dksX4_parts_0 22 rfl rfl)
theorem dX4_parts_23 : decode cX4_parts 23 = .ok (.invokevirtual 303, 3) := dk_182 1 47 (dk_at dksX4_parts_1 0 rfl rfl)
theorem dX4_parts_26 : decode cX4_parts 26 = .ok (.iconst 1, 1) := dk_4 (dk_at dksX4_parts_1 3 rfl rfl)
theorem dX4_parts_27 : decode cX4_parts 27 = .ok (.istore_n 3, 1) := dk_62 (dk_at dksX4_parts_1 4 rfl rfl)
theorem dX4_parts_28 : decode cX4_parts 28 = .ok (.iconst 0, 1) := dk_3 (dk_at dksX4_parts_1 5 rfl rfl)
theorem dX4_parts_29 : decode cX4_parts 29 = .ok (.istore 4, 2) := dk_54 4 (dk_at dksX4_parts_1 6 rfl rfl)
theorem dX4_parts_31 : decode cX4_parts 31 = .ok (.iload 4, 2) := dk_21 4 (dk_at dksX4_parts_1 8 rfl rfl)
theorem dX4_parts_33 : decode cX4_parts 33 = .ok (.iload_n 2, 1) := dk_28 (dk_at dksX4_parts_1 10 rfl rfl)
theorem dX4_parts_34 : decode cX4_parts 34 = .ok (.if_icmp .ge 30, 3) := dk_162 0 30 (dk_at dksX4_parts_1 11 rfl rfl)
theorem dX4_parts_37 : decode cX4_parts 37 = .ok (.aload_n 0, 1) := dk_42 (dk_at dksX4_parts_1 14 rfl rfl)
theorem dX4_parts_38 : decode cX4_parts 38 = .ok (.iload 4, 2) := dk_21 4 (dk_at dksX4_parts_1 15 rfl rfl)
theorem dX4_parts_40 : decode cX4_parts 40 = .ok (.invokevirtual 252, 3) := dk_182 0 252 (dk_at dksX4_parts_1 17 rfl rfl)
theorem dX4_parts_43 : decode cX4_parts 43 = .ok (.ifCond .eq 15, 3) := dk_153 0 15 (dk_at dksX4_parts_1 20 rfl rfl)
theorem dX4_parts_46 : decode cX4_parts 46 = .ok (.aload_n 0, 1) := dk_42 (dk_at dksX4_parts_1 23 rfl rfl)
theorem dX4_parts_47 : decode cX4_parts 47 = .ok (.getfield 54, 3) := dk_180 0 54 (dk_at dksX4_parts_2 0 rfl rfl)
theorem dX4_parts_50 : decode cX4_parts 50 = .ok (.iload 4, 2) := dk_21 4 (dk_at dksX4_parts_2 3 rfl rfl)
theorem dX4_parts_52 : decode cX4_parts 52 = .ok (.iaload, 1) := dk_46 (dk_at dksX4_parts_2 5 rfl rfl)
theorem dX4_parts_53 : decode cX4_parts 53 = .ok (.ifCond .le 5, 3) := dk_158 0 5 (dk_at dksX4_parts_2 6 rfl rfl)
theorem dX4_parts_56 : decode cX4_parts 56 = .ok (.iconst 0, 1) := dk_3 (dk_at dksX4_parts_2 9 rfl rfl)
theorem dX4_parts_57 : decode cX4_parts 57 = .ok (.istore_n 3, 1) := dk_62 (dk_at dksX4_parts_2 10 rfl rfl)
theorem dX4_parts_58 : decode cX4_parts 58 = .ok (.iinc 4 1, 3) := dk_132 4 1 (dk_at dksX4_parts_2 11 rfl rfl)
theorem dX4_parts_61 : decode cX4_parts 61 = .ok (.goto (-30), 3) := dk_167 255 226 (dk_at dksX4_parts_2 14 rfl rfl)
theorem dX4_parts_64 : decode cX4_parts 64 = .ok (.iload_n 3, 1) := dk_29 (dk_at dksX4_parts_2 17 rfl rfl)
theorem dX4_parts_65 : decode cX4_parts 65 = .ok (.ifCond .eq 6, 3) := dk_153 0 6 (dk_at dksX4_parts_2 18 rfl rfl)
theorem dX4_parts_68 : decode cX4_parts 68 = .ok (.iinc 1 1, 3) := dk_132 1 1 (dk_at dksX4_parts_2 21 rfl rfl)
theorem dX4_parts_71 : decode cX4_parts 71 = .ok (.iinc 2 1, 3) := dk_132 2 1 (dk_at dksX4_parts_3 0 rfl rfl)
theorem dX4_parts_74 : decode cX4_parts 74 = .ok (.goto (-70), 3) := dk_167 255 186 (dk_at dksX4_parts_3 3 rfl rfl)
theorem dX4_parts_77 : decode cX4_parts 77 = .ok (.iload_n 1, 1) := dk_27 (dk_at dksX4_parts_3 6 rfl rfl)
theorem dX4_parts_78 : decode cX4_parts 78 = .ok (.ireturn, 1) := dk_172 (dk_at dksX4_parts_3 7 rfl rfl)
def dkwX4_worst_3 : List UInt8 := [182, 1, 53, 164, 0, 5, 29, 61, 132, 3, 1, 167, 255, 208, 28, 172]
abbrev dktX4_worst_3 : List UInt8 := dkwX4_worst_3 ++ []
def dkwX4_worst_2 : List UInt8 := [180, 0, 26, 29, 46, 42, 180, 0, 26, 28, 46, 162, 0, 21, 167, 0, 16, 42, 29, 182, 1, 53, 42, 28]
abbrev dktX4_worst_2 : List UInt8 := dkwX4_worst_2 ++ dktX4_worst_3
def dkwX4_worst_1 : List UInt8 := [16, 251, 182, 0, 87, 172, 3, 61, 4, 62, 29, 42, 180, 0, 76, 162, 0, 46, 27, 154, 0, 21, 42]
abbrev dktX4_worst_1 : List UInt8 := dkwX4_worst_1 ++ dktX4_worst_2
def dkwX4_worst_0 : List UInt8 := [27, 3, 4, 184, 0, 79, 154, 0, 10, 42, 16, 254, 182, 0, 87, 172, 42, 180, 0, 76, 154, 0, 10, 42]
abbrev dktX4_worst_0 : List UInt8 := dkwX4_worst_0 ++ dktX4_worst_1
theorem dksX4_worst_0 : cX4_worst.data.toList.drop 0 = dktX4_worst_0 := by decide +kernel
theorem dksX4_worst_1 : cX4_worst.data.toList.drop 24 = dktX4_worst_1 := dk_seg dksX4_worst_0 24 rfl rfl
theorem dksX4_worst_2 : cX4_worst.data.toList.drop 47 = dktX4_worst_2 := dk_seg dksX4_worst_1 23 rfl rfl
theorem dksX4_worst_3 : cX4_worst.data.toList.drop 71 = dktX4_worst_3 := dk_seg dksX4_worst_2 24 rfl rfl
theorem dX4_worst_0 : decode cX4_worst 0 = .ok (.iload_n 1, 1) := dk_27 (dk_at dksX4_worst_0 0 rfl rfl)
theorem dX4_worst_1 : decode cX4_worst 1 = .ok (.iconst 0, 1) := dk_3 (dk_at dksX4_worst_0 1 rfl rfl)
theorem dX4_worst_2 : decode cX4_worst 2 = .ok (.iconst 1, 1) := dk_4 (dk_at dksX4_worst_0 2 rfl rfl)
theorem dX4_worst_3 : decode cX4_worst 3 = .ok (.invokestatic 79, 3) := dk_184 0 79 (dk_at dksX4_worst_0 3 rfl rfl)
theorem dX4_worst_6 : decode cX4_worst 6 = .ok (.ifCond .ne 10, 3) := dk_154 0 10 (dk_at dksX4_worst_0 6 rfl rfl)
theorem dX4_worst_9 : decode cX4_worst 9 = .ok (.aload_n 0, 1) := dk_42 (dk_at dksX4_worst_0 9 rfl rfl)
theorem dX4_worst_10 : decode cX4_worst 10 = .ok (.bipush (-2), 2) := dk_16 254 (dk_at dksX4_worst_0 10 rfl rfl)
theorem dX4_worst_12 : decode cX4_worst 12 = .ok (.invokevirtual 87, 3) := dk_182 0 87 (dk_at dksX4_worst_0 12 rfl rfl)
theorem dX4_worst_15 : decode cX4_worst 15 = .ok (.ireturn, 1) := dk_172 (dk_at dksX4_worst_0 15 rfl rfl)
theorem dX4_worst_16 : decode cX4_worst 16 = .ok (.aload_n 0, 1) := dk_42 (dk_at dksX4_worst_0 16 rfl rfl)
theorem dX4_worst_17 : decode cX4_worst 17 = .ok (.getfield 76, 3) := dk_180 0 76 (dk_at dksX4_worst_0 17 rfl rfl)
theorem dX4_worst_20 : decode cX4_worst 20 = .ok (.ifCond .ne 10, 3) := dk_154 0 10 (dk_at dksX4_worst_0 20 rfl rfl)
theorem dX4_worst_23 : decode cX4_worst 23 = .ok (.aload_n 0, 1) := dk_42 (dk_at dksX4_worst_0 23 rfl rfl)
theorem dX4_worst_24 : decode cX4_worst 24 = .ok (.bipush (-5), 2) := dk_16 251 (dk_at dksX4_worst_1 0 rfl rfl)
theorem dX4_worst_26 : decode cX4_worst 26 = .ok (.invokevirtual 87, 3) := dk_182 0 87 (dk_at dksX4_worst_1 2 rfl rfl)
theorem dX4_worst_29 : decode cX4_worst 29 = .ok (.ireturn, 1) := dk_172 (dk_at dksX4_worst_1 5 rfl rfl)
theorem dX4_worst_30 : decode cX4_worst 30 = .ok (.iconst 0, 1) := dk_3 (dk_at dksX4_worst_1 6 rfl rfl)
theorem dX4_worst_31 : decode cX4_worst 31 = .ok (.istore_n 2, 1) := dk_61 (dk_at dksX4_worst_1 7 rfl rfl)
theorem dX4_worst_32 : decode cX4_worst 32 = .ok (.iconst 1, 1) := dk_4 (dk_at dksX4_worst_1 8 rfl rfl)
theorem dX4_worst_33 : decode cX4_worst 33 = .ok (.istore_n 3, 1) := dk_62 (dk_at dksX4_worst_1 9 rfl rfl)
theorem dX4_worst_34 : decode cX4_worst 34 = .ok (.iload_n 3, 1) := dk_29 (dk_at dksX4_worst_1 10 rfl rfl)
theorem dX4_worst_35 : decode cX4_worst 35 = .ok (.aload_n 0, 1) := dk_42 (dk_at dksX4_worst_1 11 rfl rfl)
theorem dX4_worst_36 : decode cX4_worst 36 = .ok (.getfield 76, 3) := dk_180 0 76 (dk_at dksX4_worst_1 12 rfl rfl)
theorem dX4_worst_39 : decode cX4_worst 39 = .ok (.if_icmp .ge 46, 3) := dk_162 0 46 (dk_at dksX4_worst_1 15 rfl rfl)
theorem dX4_worst_42 : decode cX4_worst 42 = .ok (.iload_n 1, 1) := dk_27 (dk_at dksX4_worst_1 18 rfl rfl)
theorem dX4_worst_43 : decode cX4_worst 43 = .ok (.ifCond .ne 21, 3) := dk_154 0 21 (dk_at dksX4_worst_1 19 rfl rfl)
theorem dX4_worst_46 : decode cX4_worst 46 = .ok (.aload_n 0, 1) := dk_42 (dk_at dksX4_worst_1 22 rfl rfl)
theorem dX4_worst_47 : decode cX4_worst 47 = .ok (.getfield 26, 3) := dk_180 0 26 (dk_at dksX4_worst_2 0 rfl rfl)
theorem dX4_worst_50 : decode cX4_worst 50 = .ok (.iload_n 3, 1) := dk_29 (dk_at dksX4_worst_2 3 rfl rfl)
theorem dX4_worst_51 : decode cX4_worst 51 = .ok (.iaload, 1) := dk_46 (dk_at dksX4_worst_2 4 rfl rfl)
theorem dX4_worst_52 : decode cX4_worst 52 = .ok (.aload_n 0, 1) := dk_42 (dk_at dksX4_worst_2 5 rfl rfl)
theorem dX4_worst_53 : decode cX4_worst 53 = .ok (.getfield 26, 3) := dk_180 0 26 (dk_at dksX4_worst_2 6 rfl rfl)
theorem dX4_worst_56 : decode cX4_worst 56 = .ok (.iload_n 2, 1) := dk_28 (dk_at dksX4_worst_2 9 rfl rfl)
theorem dX4_worst_57 : decode cX4_worst 57 = .ok (.iaload, 1) := dk_46 (dk_at dksX4_worst_2 10 rfl rfl)
theorem dX4_worst_58 : decode cX4_worst 58 = .ok (.if_icmp .ge 21, 3) := dk_162 0 21 (dk_at dksX4_worst_2 11 rfl rfl)
theorem dX4_worst_61 : decode cX4_worst 61 = .ok (.goto 16, 3) := dk_167 0 16 (dk_at dksX4_worst_2 14 rfl rfl)
theorem dX4_worst_64 : decode cX4_worst 64 = .ok (.aload_n 0, 1) := dk_42 (dk_at dksX4_worst_2 17 rfl rfl)
theorem dX4_worst_65 : decode cX4_worst 65 = .ok (.iload_n 3, 1) := dk_29 (dk_at dksX4_worst_2 18 rfl rfl)
theorem dX4_worst_66 : decode cX4_worst 66 = .ok (.invokevirtual 309, 3) := dk_182 1 53 (dk_at dksX4_worst_2 19 rfl rfl)
theorem dX4_worst_69 : decode cX4_worst 69 = .ok (.aload_n 0, 1) := dk_42 (dk_at dksX4_worst_2 22 rfl rfl)
theorem dX4_worst_70 : decode cX4_worst 70 = .ok (.iload_n 2, 1) := dk_28 (dk_at dksX4_worst_2 23 rfl rfl)
theorem dX4_worst_71 : decode cX4_worst 71 = .ok (.invokevirtual 309, 3) := dk_182 1 53 (dk_at dksX4_worst_3 0 rfl rfl)
theorem dX4_worst_74 : decode cX4_worst 74 = .ok (.if_icmp .le 5, 3) := dk_164 0 5 (dk_at dksX4_worst_3 3 rfl rfl)
theorem dX4_worst_77 : decode cX4_worst 77 = .ok (.iload_n 3, 1) := dk_29 (dk_at dksX4_worst_3 6 rfl rfl)
theorem dX4_worst_78 : decode cX4_worst 78 = .ok (.istore_n 2, 1) := dk_61 (dk_at dksX4_worst_3 7 rfl rfl)
theorem dX4_worst_79 : decode cX4_worst 79 = .ok (.iinc 3 1, 3) := dk_132 3 1 (dk_at dksX4_worst_3 8 rfl rfl)
theorem dX4_worst_82 : decode cX4_worst 82 = .ok (.goto (-48), 3) := dk_167 255 208 (dk_at dksX4_worst_3 11 rfl rfl)
theorem dX4_worst_85 : decode cX4_worst 85 = .ok (.iload_n 2, 1) := dk_28 (dk_at dksX4_worst_3 14 rfl rfl)
theorem dX4_worst_86 : decode cX4_worst 86 = .ok (.ireturn, 1) := dk_172 (dk_at dksX4_worst_3 15 rfl rfl)
def dkwX4_out_1 : List UInt8 := [167, 0, 4, 28, 172]
abbrev dktX4_out_1 : List UInt8 := dkwX4_out_1 ++ []
def dkwX4_out_0 : List UInt8 := [42, 42, 180, 0, 23, 27, 46, 42, 180, 0, 114, 182, 0, 235, 61, 28, 2, 160, 0, 8, 16, 99]
abbrev dktX4_out_0 : List UInt8 := dkwX4_out_0 ++ dktX4_out_1
theorem dksX4_out_0 : cX4_out.data.toList.drop 0 = dktX4_out_0 := by decide +kernel
theorem dksX4_out_1 : cX4_out.data.toList.drop 22 = dktX4_out_1 := dk_seg dksX4_out_0 22 rfl rfl
theorem dX4_out_0 : decode cX4_out 0 = .ok (.aload_n 0, 1) := dk_42 (dk_at dksX4_out_0 0 rfl rfl)
theorem dX4_out_1 : decode cX4_out 1 = .ok (.aload_n 0, 1) := dk_42 (dk_at dksX4_out_0 1 rfl rfl)
theorem dX4_out_2 : decode cX4_out 2 = .ok (.getfield 23, 3) := dk_180 0 23 (dk_at dksX4_out_0 2 rfl rfl)
theorem dX4_out_5 : decode cX4_out 5 = .ok (.iload_n 1, 1) := dk_27 (dk_at dksX4_out_0 5 rfl rfl)
theorem dX4_out_6 : decode cX4_out 6 = .ok (.iaload, 1) := dk_46 (dk_at dksX4_out_0 6 rfl rfl)
theorem dX4_out_7 : decode cX4_out 7 = .ok (.aload_n 0, 1) := dk_42 (dk_at dksX4_out_0 7 rfl rfl)
theorem dX4_out_8 : decode cX4_out 8 = .ok (.getfield 114, 3) := dk_180 0 114 (dk_at dksX4_out_0 8 rfl rfl)
theorem dX4_out_11 : decode cX4_out 11 = .ok (.invokevirtual 235, 3) := dk_182 0 235 (dk_at dksX4_out_0 11 rfl rfl)
theorem dX4_out_14 : decode cX4_out 14 = .ok (.istore_n 2, 1) := dk_61 (dk_at dksX4_out_0 14 rfl rfl)
theorem dX4_out_15 : decode cX4_out 15 = .ok (.iload_n 2, 1) := dk_28 (dk_at dksX4_out_0 15 rfl rfl)
theorem dX4_out_16 : decode cX4_out 16 = .ok (.iconst (-1), 1) := dk_2 (dk_at dksX4_out_0 16 rfl rfl)
theorem dX4_out_17 : decode cX4_out 17 = .ok (.if_icmp .ne 8, 3) := dk_160 0 8 (dk_at dksX4_out_0 17 rfl rfl)
theorem dX4_out_20 : decode cX4_out 20 = .ok (.bipush 99, 2) := dk_16 99 (dk_at dksX4_out_0 20 rfl rfl)
theorem dX4_out_22 : decode cX4_out 22 = .ok (.goto 4, 3) := dk_167 0 4 (dk_at dksX4_out_1 0 rfl rfl)
theorem dX4_out_25 : decode cX4_out 25 = .ok (.iload_n 2, 1) := dk_28 (dk_at dksX4_out_1 3 rfl rfl)
theorem dX4_out_26 : decode cX4_out 26 = .ok (.ireturn, 1) := dk_172 (dk_at dksX4_out_1 4 rfl rfl)
def dkwX4_path_1 : List UInt8 := [167, 0, 9, 42, 16, 254, 182, 0, 87, 172]
abbrev dktX4_path_1 : List UInt8 := dkwX4_path_1 ++ []
def dkwX4_path_0 : List UInt8 := [42, 27, 133, 182, 0, 69, 153, 0, 21, 42, 28, 133, 182, 0, 69, 153, 0, 12, 42, 27, 28, 182, 0, 235]
abbrev dktX4_path_0 : List UInt8 := dkwX4_path_0 ++ dktX4_path_1
theorem dksX4_path_0 : cX4_path.data.toList.drop 0 = dktX4_path_0 := by decide +kernel
theorem dksX4_path_1 : cX4_path.data.toList.drop 24 = dktX4_path_1 := dk_seg dksX4_path_0 24 rfl rfl
theorem dX4_path_0 : decode cX4_path 0 = .ok (.aload_n 0, 1) := dk_42 (dk_at dksX4_path_0 0 rfl rfl)
theorem dX4_path_1 : decode cX4_path 1 = .ok (.iload_n 1, 1) := dk_27 (dk_at dksX4_path_0 1 rfl rfl)
theorem dX4_path_2 : decode cX4_path 2 = .ok (.i2l, 1) := dk_133 (dk_at dksX4_path_0 2 rfl rfl)
theorem dX4_path_3 : decode cX4_path 3 = .ok (.invokevirtual 69, 3) := dk_182 0 69 (dk_at dksX4_path_0 3 rfl rfl)
theorem dX4_path_6 : decode cX4_path 6 = .ok (.ifCond .eq 21, 3) := dk_153 0 21 (dk_at dksX4_path_0 6 rfl rfl)
theorem dX4_path_9 : decode cX4_path 9 = .ok (.aload_n 0, 1) := dk_42 (dk_at dksX4_path_0 9 rfl rfl)
theorem dX4_path_10 : decode cX4_path 10 = .ok (.iload_n 2, 1) := dk_28 (dk_at dksX4_path_0 10 rfl rfl)
theorem dX4_path_11 : decode cX4_path 11 = .ok (.i2l, 1) := dk_133 (dk_at dksX4_path_0 11 rfl rfl)
theorem dX4_path_12 : decode cX4_path 12 = .ok (.invokevirtual 69, 3) := dk_182 0 69 (dk_at dksX4_path_0 12 rfl rfl)
theorem dX4_path_15 : decode cX4_path 15 = .ok (.ifCond .eq 12, 3) := dk_153 0 12 (dk_at dksX4_path_0 15 rfl rfl)
theorem dX4_path_18 : decode cX4_path 18 = .ok (.aload_n 0, 1) := dk_42 (dk_at dksX4_path_0 18 rfl rfl)
theorem dX4_path_19 : decode cX4_path 19 = .ok (.iload_n 1, 1) := dk_27 (dk_at dksX4_path_0 19 rfl rfl)
theorem dX4_path_20 : decode cX4_path 20 = .ok (.iload_n 2, 1) := dk_28 (dk_at dksX4_path_0 20 rfl rfl)
theorem dX4_path_21 : decode cX4_path 21 = .ok (.invokevirtual 235, 3) := dk_182 0 235 (dk_at dksX4_path_0 21 rfl rfl)
theorem dX4_path_24 : decode cX4_path 24 = .ok (.goto 9, 3) := dk_167 0 9 (dk_at dksX4_path_1 0 rfl rfl)
theorem dX4_path_27 : decode cX4_path 27 = .ok (.aload_n 0, 1) := dk_42 (dk_at dksX4_path_1 3 rfl rfl)
theorem dX4_path_28 : decode cX4_path 28 = .ok (.bipush (-2), 2) := dk_16 254 (dk_at dksX4_path_1 4 rfl rfl)
theorem dX4_path_30 : decode cX4_path 30 = .ok (.invokevirtual 87, 3) := dk_182 0 87 (dk_at dksX4_path_1 6 rfl rfl)
theorem dX4_path_33 : decode cX4_path 33 = .ok (.ireturn, 1) := dk_172 (dk_at dksX4_path_1 9 rfl rfl)
def dkwX4_found_4 : List UInt8 := [60, 132, 4, 1, 167, 255, 174, 132, 3, 1, 167, 255, 157, 27, 172]
abbrev dktX4_found_4 : List UInt8 := dkwX4_found_4 ++ []
def dkwX4_found_3 : List UInt8 := [27, 2, 159, 0, 12, 21, 5, 28, 161, 0, 6, 167, 0, 14, 21, 5, 61, 16, 10, 29, 104, 21, 4, 96]
abbrev dktX4_found_3 : List UInt8 := dkwX4_found_3 ++ dktX4_found_4
def dkwX4_found_2 : List UInt8 := [42, 180, 0, 23, 29, 46, 42, 180, 0, 23, 21, 4, 46, 182, 0, 235, 54, 5, 21, 5, 2, 159, 0, 28]
abbrev dktX4_found_2 : List UInt8 := dkwX4_found_2 ++ dktX4_found_3
def dkwX4_found_1 : List UInt8 := [162, 0, 79, 42, 29, 182, 0, 207, 154, 0, 65, 42, 21, 4, 182, 0, 207, 154, 0, 6, 167, 0, 53, 42]
abbrev dktX4_found_1 : List UInt8 := dkwX4_found_1 ++ dktX4_found_2
def dkwX4_found_0 : List UInt8 := [2, 60, 3, 61, 3, 62, 29, 42, 180, 0, 76, 162, 0, 97, 3, 54, 4, 21, 4, 42, 180, 0, 76]
abbrev dktX4_found_0 : List UInt8 := dkwX4_found_0 ++ dktX4_found_1
theorem dksX4_found_0 : cX4_found.data.toList.drop 0 = dktX4_found_0 := by decide +kernel
theorem dksX4_found_1 : cX4_found.data.toList.drop 23 = dktX4_found_1 := dk_seg dksX4_found_0 23 rfl rfl
theorem dksX4_found_2 : cX4_found.data.toList.drop 47 = dktX4_found_2 := dk_seg dksX4_found_1 24 rfl rfl
theorem dksX4_found_3 : cX4_found.data.toList.drop 71 = dktX4_found_3 := dk_seg dksX4_found_2 24 rfl rfl
theorem dksX4_found_4 : cX4_found.data.toList.drop 95 = dktX4_found_4 := dk_seg dksX4_found_3 24 rfl rfl
theorem dX4_found_0 : decode cX4_found 0 = .ok (.iconst (-1), 1) := dk_2 (dk_at dksX4_found_0 0 rfl rfl)
theorem dX4_found_1 : decode cX4_found 1 = .ok (.istore_n 1, 1) := dk_60 (dk_at dksX4_found_0 1 rfl rfl)
theorem dX4_found_2 : decode cX4_found 2 = .ok (.iconst 0, 1) := dk_3 (dk_at dksX4_found_0 2 rfl rfl)
theorem dX4_found_3 : decode cX4_found 3 = .ok (.istore_n 2, 1) := dk_61 (dk_at dksX4_found_0 3 rfl rfl)
theorem dX4_found_4 : decode cX4_found 4 = .ok (.iconst 0, 1) := dk_3 (dk_at dksX4_found_0 4 rfl rfl)
theorem dX4_found_5 : decode cX4_found 5 = .ok (.istore_n 3, 1) := dk_62 (dk_at dksX4_found_0 5 rfl rfl)
theorem dX4_found_6 : decode cX4_found 6 = .ok (.iload_n 3, 1) := dk_29 (dk_at dksX4_found_0 6 rfl rfl)
theorem dX4_found_7 : decode cX4_found 7 = .ok (.aload_n 0, 1) := dk_42 (dk_at dksX4_found_0 7 rfl rfl)
theorem dX4_found_8 : decode cX4_found 8 = .ok (.getfield 76, 3) := dk_180 0 76 (dk_at dksX4_found_0 8 rfl rfl)
theorem dX4_found_11 : decode cX4_found 11 = .ok (.if_icmp .ge 97, 3) := dk_162 0 97 (dk_at dksX4_found_0 11 rfl rfl)
theorem dX4_found_14 : decode cX4_found 14 = .ok (.iconst 0, 1) := dk_3 (dk_at dksX4_found_0 14 rfl rfl)
theorem dX4_found_15 : decode cX4_found 15 = .ok (.istore 4, 2) := dk_54 4 (dk_at dksX4_found_0 15 rfl rfl)
theorem dX4_found_17 : decode cX4_found 17 = .ok (.iload 4, 2) := dk_21 4 (dk_at dksX4_found_0 17 rfl rfl)
theorem dX4_found_19 : decode cX4_found 19 = .ok (.aload_n 0, 1) := dk_42 (dk_at dksX4_found_0 19 rfl rfl)
theorem dX4_found_20 : decode cX4_found 20 = .ok (.getfield 76, 3) := dk_180 0 76 (dk_at dksX4_found_0 20 rfl rfl)
theorem dX4_found_23 : decode cX4_found 23 = .ok (.if_icmp .ge 79, 3) := dk_162 0 79 (dk_at dksX4_found_1 0 rfl rfl)
theorem dX4_found_26 : decode cX4_found 26 = .ok (.aload_n 0, 1) := dk_42 (dk_at dksX4_found_1 3 rfl rfl)
theorem dX4_found_27 : decode cX4_found 27 = .ok (.iload_n 3, 1) := dk_29 (dk_at dksX4_found_1 4 rfl rfl)
theorem dX4_found_28 : decode cX4_found 28 = .ok (.invokevirtual 207, 3) := dk_182 0 207 (dk_at dksX4_found_1 5 rfl rfl)
theorem dX4_found_31 : decode cX4_found 31 = .ok (.ifCond .ne 65, 3) := dk_154 0 65 (dk_at dksX4_found_1 8 rfl rfl)
theorem dX4_found_34 : decode cX4_found 34 = .ok (.aload_n 0, 1) := dk_42 (dk_at dksX4_found_1 11 rfl rfl)
theorem dX4_found_35 : decode cX4_found 35 = .ok (.iload 4, 2) := dk_21 4 (dk_at dksX4_found_1 12 rfl rfl)
theorem dX4_found_37 : decode cX4_found 37 = .ok (.invokevirtual 207, 3) := dk_182 0 207 (dk_at dksX4_found_1 14 rfl rfl)
theorem dX4_found_40 : decode cX4_found 40 = .ok (.ifCond .ne 6, 3) := dk_154 0 6 (dk_at dksX4_found_1 17 rfl rfl)
theorem dX4_found_43 : decode cX4_found 43 = .ok (.goto 53, 3) := dk_167 0 53 (dk_at dksX4_found_1 20 rfl rfl)
theorem dX4_found_46 : decode cX4_found 46 = .ok (.aload_n 0, 1) := dk_42 (dk_at dksX4_found_1 23 rfl rfl)
theorem dX4_found_47 : decode cX4_found 47 = .ok (.aload_n 0, 1) := dk_42 (dk_at dksX4_found_2 0 rfl rfl)
theorem dX4_found_48 : decode cX4_found 48 = .ok (.getfield 23, 3) := dk_180 0 23 (dk_at dksX4_found_2 1 rfl rfl)
theorem dX4_found_51 : decode cX4_found 51 = .ok (.iload_n 3, 1) := dk_29 (dk_at dksX4_found_2 4 rfl rfl)
theorem dX4_found_52 : decode cX4_found 52 = .ok (.iaload, 1) := dk_46 (dk_at dksX4_found_2 5 rfl rfl)
theorem dX4_found_53 : decode cX4_found 53 = .ok (.aload_n 0, 1) := dk_42 (dk_at dksX4_found_2 6 rfl rfl)
theorem dX4_found_54 : decode cX4_found 54 = .ok (.getfield 23, 3) := dk_180 0 23 (dk_at dksX4_found_2 7 rfl rfl)
theorem dX4_found_57 : decode cX4_found 57 = .ok (.iload 4, 2) := dk_21 4 (dk_at dksX4_found_2 10 rfl rfl)
theorem dX4_found_59 : decode cX4_found 59 = .ok (.iaload, 1) := dk_46 (dk_at dksX4_found_2 12 rfl rfl)
theorem dX4_found_60 : decode cX4_found 60 = .ok (.invokevirtual 235, 3) := dk_182 0 235 (dk_at dksX4_found_2 13 rfl rfl)
theorem dX4_found_63 : decode cX4_found 63 = .ok (.istore 5, 2) := dk_54 5 (dk_at dksX4_found_2 16 rfl rfl)
theorem dX4_found_65 : decode cX4_found 65 = .ok (.iload 5, 2) := dk_21 5 (dk_at dksX4_found_2 18 rfl rfl)
theorem dX4_found_67 : decode cX4_found 67 = .ok (.iconst (-1), 1) := dk_2 (dk_at dksX4_found_2 20 rfl rfl)
theorem dX4_found_68 : decode cX4_found 68 = .ok (.if_icmp .eq 28, 3) := dk_159 0 28 (dk_at dksX4_found_2 21 rfl rfl)
theorem dX4_found_71 : decode cX4_found 71 = .ok (.iload_n 1, 1) := dk_27 (dk_at dksX4_found_3 0 rfl rfl)
theorem dX4_found_72 : decode cX4_found 72 = .ok (.iconst (-1), 1) := dk_2 (dk_at dksX4_found_3 1 rfl rfl)
theorem dX4_found_73 : decode cX4_found 73 = .ok (.if_icmp .eq 12, 3) := dk_159 0 12 (dk_at dksX4_found_3 2 rfl rfl)
theorem dX4_found_76 : decode cX4_found 76 = .ok (.iload 5, 2) := dk_21 5 (dk_at dksX4_found_3 5 rfl rfl)
theorem dX4_found_78 : decode cX4_found 78 = .ok (.iload_n 2, 1) := dk_28 (dk_at dksX4_found_3 7 rfl rfl)
theorem dX4_found_79 : decode cX4_found 79 = .ok (.if_icmp .lt 6, 3) := dk_161 0 6 (dk_at dksX4_found_3 8 rfl rfl)
theorem dX4_found_82 : decode cX4_found 82 = .ok (.goto 14, 3) := dk_167 0 14 (dk_at dksX4_found_3 11 rfl rfl)
theorem dX4_found_85 : decode cX4_found 85 = .ok (.iload 5, 2) := dk_21 5 (dk_at dksX4_found_3 14 rfl rfl)
theorem dX4_found_87 : decode cX4_found 87 = .ok (.istore_n 2, 1) := dk_61 (dk_at dksX4_found_3 16 rfl rfl)
theorem dX4_found_88 : decode cX4_found 88 = .ok (.bipush 10, 2) := dk_16 10 (dk_at dksX4_found_3 17 rfl rfl)
theorem dX4_found_90 : decode cX4_found 90 = .ok (.iload_n 3, 1) := dk_29 (dk_at dksX4_found_3 19 rfl rfl)
theorem dX4_found_91 : decode cX4_found 91 = .ok (.imul, 1) := dk_104 (dk_at dksX4_found_3 20 rfl rfl)
theorem dX4_found_92 : decode cX4_found 92 = .ok (.iload 4, 2) := dk_21 4 (dk_at dksX4_found_3 21 rfl rfl)
theorem dX4_found_94 : decode cX4_found 94 = .ok (.iadd, 1) := dk_96 (dk_at dksX4_found_3 23 rfl rfl)
theorem dX4_found_95 : decode cX4_found 95 = .ok (.istore_n 1, 1) := dk_60 (dk_at dksX4_found_4 0 rfl rfl)
theorem dX4_found_96 : decode cX4_found 96 = .ok (.iinc 4 1, 3) := dk_132 4 1 (dk_at dksX4_found_4 1 rfl rfl)
theorem dX4_found_99 : decode cX4_found 99 = .ok (.goto (-82), 3) := dk_167 255 174 (dk_at dksX4_found_4 4 rfl rfl)
theorem dX4_found_102 : decode cX4_found 102 = .ok (.iinc 3 1, 3) := dk_132 3 1 (dk_at dksX4_found_4 7 rfl rfl)
theorem dX4_found_105 : decode cX4_found 105 = .ok (.goto (-99), 3) := dk_167 255 157 (dk_at dksX4_found_4 10 rfl rfl)
theorem dX4_found_108 : decode cX4_found 108 = .ok (.iload_n 1, 1) := dk_27 (dk_at dksX4_found_4 13 rfl rfl)
theorem dX4_found_109 : decode cX4_found 109 = .ok (.ireturn, 1) := dk_172 (dk_at dksX4_found_4 14 rfl rfl)
def dkwX4_meet_5 : List UInt8 := [29, 60, 132, 3, 1, 167, 255, 148, 27, 172]
abbrev dktX4_meet_5 : List UInt8 := dkwX4_meet_5 ++ []
def dkwX4_meet_4 : List UInt8 := [21, 4, 16, 99, 159, 0, 22, 27, 2, 159, 0, 12, 21, 4, 28, 161, 0, 6, 167, 0, 8, 21, 4, 61]
abbrev dktX4_meet_4 : List UInt8 := dkwX4_meet_4 ++ dktX4_meet_5
def dkwX4_meet_3 : List UInt8 := [160, 0, 8, 16, 99, 167, 0, 10, 21, 4, 21, 6, 184, 1, 9, 54, 4, 132, 5, 1, 167, 255, 203]
abbrev dktX4_meet_3 : List UInt8 := dkwX4_meet_3 ++ dktX4_meet_4
def dkwX4_meet_2 : List UInt8 := [42, 42, 180, 0, 23, 21, 5, 46, 29, 182, 0, 235, 54, 6, 21, 6, 2, 159, 0, 10, 21, 4, 16, 99]
abbrev dktX4_meet_2 : List UInt8 := dkwX4_meet_2 ++ dktX4_meet_3
def dkwX4_meet_1 : List UInt8 := [182, 0, 252, 154, 0, 6, 167, 0, 91, 3, 54, 4, 3, 54, 5, 21, 5, 42, 180, 0, 76, 162, 0, 50]
abbrev dktX4_meet_1 : List UInt8 := dkwX4_meet_1 ++ dktX4_meet_2
def dkwX4_meet_0 : List UInt8 := [42, 180, 0, 76, 154, 0, 5, 3, 172, 2, 60, 3, 61, 3, 62, 29, 16, 67, 162, 0, 108, 42, 29]
abbrev dktX4_meet_0 : List UInt8 := dkwX4_meet_0 ++ dktX4_meet_1
theorem dksX4_meet_0 : cX4_meet.data.toList.drop 0 = dktX4_meet_0 := by decide +kernel
theorem dksX4_meet_1 : cX4_meet.data.toList.drop 23 = dktX4_meet_1 := dk_seg dksX4_meet_0 23 rfl rfl
theorem dksX4_meet_2 : cX4_meet.data.toList.drop 47 = dktX4_meet_2 := dk_seg dksX4_meet_1 24 rfl rfl
theorem dksX4_meet_3 : cX4_meet.data.toList.drop 71 = dktX4_meet_3 := dk_seg dksX4_meet_2 24 rfl rfl
theorem dksX4_meet_4 : cX4_meet.data.toList.drop 94 = dktX4_meet_4 := dk_seg dksX4_meet_3 23 rfl rfl
theorem dksX4_meet_5 : cX4_meet.data.toList.drop 118 = dktX4_meet_5 := dk_seg dksX4_meet_4 24 rfl rfl
theorem dX4_meet_0 : decode cX4_meet 0 = .ok (.aload_n 0, 1) := dk_42 (dk_at dksX4_meet_0 0 rfl rfl)
theorem dX4_meet_1 : decode cX4_meet 1 = .ok (.getfield 76, 3) := dk_180 0 76 (dk_at dksX4_meet_0 1 rfl rfl)
theorem dX4_meet_4 : decode cX4_meet 4 = .ok (.ifCond .ne 5, 3) := dk_154 0 5 (dk_at dksX4_meet_0 4 rfl rfl)
theorem dX4_meet_7 : decode cX4_meet 7 = .ok (.iconst 0, 1) := dk_3 (dk_at dksX4_meet_0 7 rfl rfl)
theorem dX4_meet_8 : decode cX4_meet 8 = .ok (.ireturn, 1) := dk_172 (dk_at dksX4_meet_0 8 rfl rfl)
theorem dX4_meet_9 : decode cX4_meet 9 = .ok (.iconst (-1), 1) := dk_2 (dk_at dksX4_meet_0 9 rfl rfl)
theorem dX4_meet_10 : decode cX4_meet 10 = .ok (.istore_n 1, 1) := dk_60 (dk_at dksX4_meet_0 10 rfl rfl)
theorem dX4_meet_11 : decode cX4_meet 11 = .ok (.iconst 0, 1) := dk_3 (dk_at dksX4_meet_0 11 rfl rfl)
theorem dX4_meet_12 : decode cX4_meet 12 = .ok (.istore_n 2, 1) := dk_61 (dk_at dksX4_meet_0 12 rfl rfl)
theorem dX4_meet_13 : decode cX4_meet 13 = .ok (.iconst 0, 1) := dk_3 (dk_at dksX4_meet_0 13 rfl rfl)
theorem dX4_meet_14 : decode cX4_meet 14 = .ok (.istore_n 3, 1) := dk_62 (dk_at dksX4_meet_0 14 rfl rfl)
theorem dX4_meet_15 : decode cX4_meet 15 = .ok (.iload_n 3, 1) := dk_29 (dk_at dksX4_meet_0 15 rfl rfl)
theorem dX4_meet_16 : decode cX4_meet 16 = .ok (.bipush 67, 2) := dk_16 67 (dk_at dksX4_meet_0 16 rfl rfl)
theorem dX4_meet_18 : decode cX4_meet 18 = .ok (.if_icmp .ge 108, 3) := dk_162 0 108 (dk_at dksX4_meet_0 18 rfl rfl)
theorem dX4_meet_21 : decode cX4_meet 21 = .ok (.aload_n 0, 1) := dk_42 (dk_at dksX4_meet_0 21 rfl rfl)
theorem dX4_meet_22 : decode cX4_meet 22 = .ok (.iload_n 3, 1) := dk_29 (dk_at dksX4_meet_0 22 rfl rfl)
theorem dX4_meet_23 : decode cX4_meet 23 = .ok (.invokevirtual 252, 3) := dk_182 0 252 (dk_at dksX4_meet_1 0 rfl rfl)
theorem dX4_meet_26 : decode cX4_meet 26 = .ok (.ifCond .ne 6, 3) := dk_154 0 6 (dk_at dksX4_meet_1 3 rfl rfl)
theorem dX4_meet_29 : decode cX4_meet 29 = .ok (.goto 91, 3) := dk_167 0 91 (dk_at dksX4_meet_1 6 rfl rfl)
theorem dX4_meet_32 : decode cX4_meet 32 = .ok (.iconst 0, 1) := dk_3 (dk_at dksX4_meet_1 9 rfl rfl)
theorem dX4_meet_33 : decode cX4_meet 33 = .ok (.istore 4, 2) := dk_54 4 (dk_at dksX4_meet_1 10 rfl rfl)
theorem dX4_meet_35 : decode cX4_meet 35 = .ok (.iconst 0, 1) := dk_3 (dk_at dksX4_meet_1 12 rfl rfl)
theorem dX4_meet_36 : decode cX4_meet 36 = .ok (.istore 5, 2) := dk_54 5 (dk_at dksX4_meet_1 13 rfl rfl)
theorem dX4_meet_38 : decode cX4_meet 38 = .ok (.iload 5, 2) := dk_21 5 (dk_at dksX4_meet_1 15 rfl rfl)
theorem dX4_meet_40 : decode cX4_meet 40 = .ok (.aload_n 0, 1) := dk_42 (dk_at dksX4_meet_1 17 rfl rfl)
theorem dX4_meet_41 : decode cX4_meet 41 = .ok (.getfield 76, 3) := dk_180 0 76 (dk_at dksX4_meet_1 18 rfl rfl)
theorem dX4_meet_44 : decode cX4_meet 44 = .ok (.if_icmp .ge 50, 3) := dk_162 0 50 (dk_at dksX4_meet_1 21 rfl rfl)
theorem dX4_meet_47 : decode cX4_meet 47 = .ok (.aload_n 0, 1) := dk_42 (dk_at dksX4_meet_2 0 rfl rfl)
theorem dX4_meet_48 : decode cX4_meet 48 = .ok (.aload_n 0, 1) := dk_42 (dk_at dksX4_meet_2 1 rfl rfl)
theorem dX4_meet_49 : decode cX4_meet 49 = .ok (.getfield 23, 3) := dk_180 0 23 (dk_at dksX4_meet_2 2 rfl rfl)
theorem dX4_meet_52 : decode cX4_meet 52 = .ok (.iload 5, 2) := dk_21 5 (dk_at dksX4_meet_2 5 rfl rfl)
theorem dX4_meet_54 : decode cX4_meet 54 = .ok (.iaload, 1) := dk_46 (dk_at dksX4_meet_2 7 rfl rfl)
theorem dX4_meet_55 : decode cX4_meet 55 = .ok (.iload_n 3, 1) := dk_29 (dk_at dksX4_meet_2 8 rfl rfl)
theorem dX4_meet_56 : decode cX4_meet 56 = .ok (.invokevirtual 235, 3) := dk_182 0 235 (dk_at dksX4_meet_2 9 rfl rfl)
theorem dX4_meet_59 : decode cX4_meet 59 = .ok (.istore 6, 2) := dk_54 6 (dk_at dksX4_meet_2 12 rfl rfl)
theorem dX4_meet_61 : decode cX4_meet 61 = .ok (.iload 6, 2) := dk_21 6 (dk_at dksX4_meet_2 14 rfl rfl)
theorem dX4_meet_63 : decode cX4_meet 63 = .ok (.iconst (-1), 1) := dk_2 (dk_at dksX4_meet_2 16 rfl rfl)
theorem dX4_meet_64 : decode cX4_meet 64 = .ok (.if_icmp .eq 10, 3) := dk_159 0 10 (dk_at dksX4_meet_2 17 rfl rfl)
theorem dX4_meet_67 : decode cX4_meet 67 = .ok (.iload 4, 2) := dk_21 4 (dk_at dksX4_meet_2 20 rfl rfl)
theorem dX4_meet_69 : decode cX4_meet 69 = .ok (.bipush 99, 2) := dk_16 99 (dk_at dksX4_meet_2 22 rfl rfl)
theorem dX4_meet_71 : decode cX4_meet 71 = .ok (.if_icmp .ne 8, 3) := dk_160 0 8 (dk_at dksX4_meet_3 0 rfl rfl)
theorem dX4_meet_74 : decode cX4_meet 74 = .ok (.bipush 99, 2) := dk_16 99 (dk_at dksX4_meet_3 3 rfl rfl)
theorem dX4_meet_76 : decode cX4_meet 76 = .ok (.goto 10, 3) := dk_167 0 10 (dk_at dksX4_meet_3 5 rfl rfl)
theorem dX4_meet_79 : decode cX4_meet 79 = .ok (.iload 4, 2) := dk_21 4 (dk_at dksX4_meet_3 8 rfl rfl)
theorem dX4_meet_81 : decode cX4_meet 81 = .ok (.iload 6, 2) := dk_21 6 (dk_at dksX4_meet_3 10 rfl rfl)
theorem dX4_meet_83 : decode cX4_meet 83 = .ok (.invokestatic 265, 3) := dk_184 1 9 (dk_at dksX4_meet_3 12 rfl rfl)
theorem dX4_meet_86 : decode cX4_meet 86 = .ok (.istore 4, 2) := dk_54 4 (dk_at dksX4_meet_3 15 rfl rfl)
theorem dX4_meet_88 : decode cX4_meet 88 = .ok (.iinc 5 1, 3) := dk_132 5 1 (dk_at dksX4_meet_3 17 rfl rfl)
theorem dX4_meet_91 : decode cX4_meet 91 = .ok (.goto (-53), 3) := dk_167 255 203 (dk_at dksX4_meet_3 20 rfl rfl)
theorem dX4_meet_94 : decode cX4_meet 94 = .ok (.iload 4, 2) := dk_21 4 (dk_at dksX4_meet_4 0 rfl rfl)
theorem dX4_meet_96 : decode cX4_meet 96 = .ok (.bipush 99, 2) := dk_16 99 (dk_at dksX4_meet_4 2 rfl rfl)
theorem dX4_meet_98 : decode cX4_meet 98 = .ok (.if_icmp .eq 22, 3) := dk_159 0 22 (dk_at dksX4_meet_4 4 rfl rfl)
theorem dX4_meet_101 : decode cX4_meet 101 = .ok (.iload_n 1, 1) := dk_27 (dk_at dksX4_meet_4 7 rfl rfl)
theorem dX4_meet_102 : decode cX4_meet 102 = .ok (.iconst (-1), 1) := dk_2 (dk_at dksX4_meet_4 8 rfl rfl)
theorem dX4_meet_103 : decode cX4_meet 103 = .ok (.if_icmp .eq 12, 3) := dk_159 0 12 (dk_at dksX4_meet_4 9 rfl rfl)
theorem dX4_meet_106 : decode cX4_meet 106 = .ok (.iload 4, 2) := dk_21 4 (dk_at dksX4_meet_4 12 rfl rfl)
theorem dX4_meet_108 : decode cX4_meet 108 = .ok (.iload_n 2, 1) := dk_28 (dk_at dksX4_meet_4 14 rfl rfl)
theorem dX4_meet_109 : decode cX4_meet 109 = .ok (.if_icmp .lt 6, 3) := dk_161 0 6 (dk_at dksX4_meet_4 15 rfl rfl)
theorem dX4_meet_112 : decode cX4_meet 112 = .ok (.goto 8, 3) := dk_167 0 8 (dk_at dksX4_meet_4 18 rfl rfl)
theorem dX4_meet_115 : decode cX4_meet 115 = .ok (.iload 4, 2) := dk_21 4 (dk_at dksX4_meet_4 21 rfl rfl)
theorem dX4_meet_117 : decode cX4_meet 117 = .ok (.istore_n 2, 1) := dk_61 (dk_at dksX4_meet_4 23 rfl rfl)
theorem dX4_meet_118 : decode cX4_meet 118 = .ok (.iload_n 3, 1) := dk_29 (dk_at dksX4_meet_5 0 rfl rfl)
theorem dX4_meet_119 : decode cX4_meet 119 = .ok (.istore_n 1, 1) := dk_60 (dk_at dksX4_meet_5 1 rfl rfl)
theorem dX4_meet_120 : decode cX4_meet 120 = .ok (.iinc 3 1, 3) := dk_132 3 1 (dk_at dksX4_meet_5 2 rfl rfl)
theorem dX4_meet_123 : decode cX4_meet 123 = .ok (.goto (-108), 3) := dk_167 255 148 (dk_at dksX4_meet_5 5 rfl rfl)
theorem dX4_meet_126 : decode cX4_meet 126 = .ok (.iload_n 1, 1) := dk_27 (dk_at dksX4_meet_5 8 rfl rfl)
theorem dX4_meet_127 : decode cX4_meet 127 = .ok (.ireturn, 1) := dk_172 (dk_at dksX4_meet_5 9 rfl rfl)
def dkwX4_judge_2 : List UInt8 := [21, 4, 182, 0, 87, 167, 0, 10, 42, 27, 28, 29, 182, 1, 56, 172]
abbrev dktX4_judge_2 : List UInt8 := dkwX4_judge_2 ++ []
def dkwX4_judge_1 : List UInt8 := [154, 0, 10, 42, 16, 254, 182, 0, 87, 172, 42, 27, 28, 182, 0, 241, 54, 4, 21, 4, 156, 0, 12, 42]
abbrev dktX4_judge_1 : List UInt8 := dkwX4_judge_1 ++ dktX4_judge_2
def dkwX4_judge_0 : List UInt8 := [27, 184, 0, 83, 153, 0, 21, 28, 3, 16, 40, 184, 0, 79, 153, 0, 11, 42, 29, 182, 0, 128]
abbrev dktX4_judge_0 : List UInt8 := dkwX4_judge_0 ++ dktX4_judge_1
theorem dksX4_judge_0 : cX4_judge.data.toList.drop 0 = dktX4_judge_0 := by decide +kernel
theorem dksX4_judge_1 : cX4_judge.data.toList.drop 22 = dktX4_judge_1 := dk_seg dksX4_judge_0 22 rfl rfl
theorem dksX4_judge_2 : cX4_judge.data.toList.drop 46 = dktX4_judge_2 := dk_seg dksX4_judge_1 24 rfl rfl
theorem dX4_judge_0 : decode cX4_judge 0 = .ok (.iload_n 1, 1) := dk_27 (dk_at dksX4_judge_0 0 rfl rfl)
theorem dX4_judge_1 : decode cX4_judge 1 = .ok (.invokestatic 83, 3) := dk_184 0 83 (dk_at dksX4_judge_0 1 rfl rfl)
theorem dX4_judge_4 : decode cX4_judge 4 = .ok (.ifCond .eq 21, 3) := dk_153 0 21 (dk_at dksX4_judge_0 4 rfl rfl)
theorem dX4_judge_7 : decode cX4_judge 7 = .ok (.iload_n 2, 1) := dk_28 (dk_at dksX4_judge_0 7 rfl rfl)
theorem dX4_judge_8 : decode cX4_judge 8 = .ok (.iconst 0, 1) := dk_3 (dk_at dksX4_judge_0 8 rfl rfl)
theorem dX4_judge_9 : decode cX4_judge 9 = .ok (.bipush 40, 2) := dk_16 40 (dk_at dksX4_judge_0 9 rfl rfl)
theorem dX4_judge_11 : decode cX4_judge 11 = .ok (.invokestatic 79, 3) := dk_184 0 79 (dk_at dksX4_judge_0 11 rfl rfl)
theorem dX4_judge_14 : decode cX4_judge 14 = .ok (.ifCond .eq 11, 3) := dk_153 0 11 (dk_at dksX4_judge_0 14 rfl rfl)
theorem dX4_judge_17 : decode cX4_judge 17 = .ok (.aload_n 0, 1) := dk_42 (dk_at dksX4_judge_0 17 rfl rfl)
theorem dX4_judge_18 : decode cX4_judge 18 = .ok (.iload_n 3, 1) := dk_29 (dk_at dksX4_judge_0 18 rfl rfl)
theorem dX4_judge_19 : decode cX4_judge 19 = .ok (.invokevirtual 128, 3) := dk_182 0 128 (dk_at dksX4_judge_0 19 rfl rfl)
theorem dX4_judge_22 : decode cX4_judge 22 = .ok (.ifCond .ne 10, 3) := dk_154 0 10 (dk_at dksX4_judge_1 0 rfl rfl)
theorem dX4_judge_25 : decode cX4_judge 25 = .ok (.aload_n 0, 1) := dk_42 (dk_at dksX4_judge_1 3 rfl rfl)
theorem dX4_judge_26 : decode cX4_judge 26 = .ok (.bipush (-2), 2) := dk_16 254 (dk_at dksX4_judge_1 4 rfl rfl)
theorem dX4_judge_28 : decode cX4_judge 28 = .ok (.invokevirtual 87, 3) := dk_182 0 87 (dk_at dksX4_judge_1 6 rfl rfl)
theorem dX4_judge_31 : decode cX4_judge 31 = .ok (.ireturn, 1) := dk_172 (dk_at dksX4_judge_1 9 rfl rfl)
theorem dX4_judge_32 : decode cX4_judge 32 = .ok (.aload_n 0, 1) := dk_42 (dk_at dksX4_judge_1 10 rfl rfl)
theorem dX4_judge_33 : decode cX4_judge 33 = .ok (.iload_n 1, 1) := dk_27 (dk_at dksX4_judge_1 11 rfl rfl)
theorem dX4_judge_34 : decode cX4_judge 34 = .ok (.iload_n 2, 1) := dk_28 (dk_at dksX4_judge_1 12 rfl rfl)
theorem dX4_judge_35 : decode cX4_judge 35 = .ok (.invokevirtual 241, 3) := dk_182 0 241 (dk_at dksX4_judge_1 13 rfl rfl)
theorem dX4_judge_38 : decode cX4_judge 38 = .ok (.istore 4, 2) := dk_54 4 (dk_at dksX4_judge_1 16 rfl rfl)
theorem dX4_judge_40 : decode cX4_judge 40 = .ok (.iload 4, 2) := dk_21 4 (dk_at dksX4_judge_1 18 rfl rfl)
theorem dX4_judge_42 : decode cX4_judge 42 = .ok (.ifCond .ge 12, 3) := dk_156 0 12 (dk_at dksX4_judge_1 20 rfl rfl)
theorem dX4_judge_45 : decode cX4_judge 45 = .ok (.aload_n 0, 1) := dk_42 (dk_at dksX4_judge_1 23 rfl rfl)
theorem dX4_judge_46 : decode cX4_judge 46 = .ok (.iload 4, 2) := dk_21 4 (dk_at dksX4_judge_2 0 rfl rfl)
theorem dX4_judge_48 : decode cX4_judge 48 = .ok (.invokevirtual 87, 3) := dk_182 0 87 (dk_at dksX4_judge_2 2 rfl rfl)
theorem dX4_judge_51 : decode cX4_judge 51 = .ok (.goto 10, 3) := dk_167 0 10 (dk_at dksX4_judge_2 5 rfl rfl)
theorem dX4_judge_54 : decode cX4_judge 54 = .ok (.aload_n 0, 1) := dk_42 (dk_at dksX4_judge_2 8 rfl rfl)
theorem dX4_judge_55 : decode cX4_judge 55 = .ok (.iload_n 1, 1) := dk_27 (dk_at dksX4_judge_2 9 rfl rfl)
theorem dX4_judge_56 : decode cX4_judge 56 = .ok (.iload_n 2, 1) := dk_28 (dk_at dksX4_judge_2 10 rfl rfl)
theorem dX4_judge_57 : decode cX4_judge 57 = .ok (.iload_n 3, 1) := dk_29 (dk_at dksX4_judge_2 11 rfl rfl)
theorem dX4_judge_58 : decode cX4_judge 58 = .ok (.invokevirtual 312, 3) := dk_182 1 56 (dk_at dksX4_judge_2 12 rfl rfl)
theorem dX4_judge_61 : decode cX4_judge 61 = .ok (.ireturn, 1) := dk_172 (dk_at dksX4_judge_2 15 rfl rfl)
def dkwX4_wrong_3 : List UInt8 := [2, 172]
abbrev dktX4_wrong_3 : List UInt8 := dkwX4_wrong_3 ++ []
def dkwX4_wrong_2 : List UInt8 := [22, 6, 136, 184, 0, 210, 4, 159, 0, 6, 21, 5, 172, 22, 6, 136, 54, 4, 132, 5, 1, 167, 255, 198]
abbrev dktX4_wrong_2 : List UInt8 := dkwX4_wrong_2 ++ dktX4_wrong_3
def dkwX4_wrong_1 : List UInt8 := [55, 6, 42, 22, 6, 182, 0, 69, 153, 0, 26, 42, 180, 0, 7, 22, 6, 136, 51, 154, 0, 15, 21, 4]
abbrev dktX4_wrong_1 : List UInt8 := dkwX4_wrong_1 ++ dktX4_wrong_2
def dkwX4_wrong_0 : List UInt8 := [42, 180, 0, 23, 29, 46, 54, 4, 3, 54, 5, 21, 5, 28, 162, 0, 58, 42, 27, 21, 5, 182, 0, 244]
abbrev dktX4_wrong_0 : List UInt8 := dkwX4_wrong_0 ++ dktX4_wrong_1
theorem dksX4_wrong_0 : cX4_wrong.data.toList.drop 0 = dktX4_wrong_0 := by decide +kernel
theorem dksX4_wrong_1 : cX4_wrong.data.toList.drop 24 = dktX4_wrong_1 := dk_seg dksX4_wrong_0 24 rfl rfl
theorem dksX4_wrong_2 : cX4_wrong.data.toList.drop 48 = dktX4_wrong_2 := dk_seg dksX4_wrong_1 24 rfl rfl
theorem dksX4_wrong_3 : cX4_wrong.data.toList.drop 72 = dktX4_wrong_3 := dk_seg dksX4_wrong_2 24 rfl rfl
theorem dX4_wrong_0 : decode cX4_wrong 0 = .ok (.aload_n 0, 1) := dk_42 (dk_at dksX4_wrong_0 0 rfl rfl)
theorem dX4_wrong_1 : decode cX4_wrong 1 = .ok (.getfield 23, 3) := dk_180 0 23 (dk_at dksX4_wrong_0 1 rfl rfl)
theorem dX4_wrong_4 : decode cX4_wrong 4 = .ok (.iload_n 3, 1) := dk_29 (dk_at dksX4_wrong_0 4 rfl rfl)
theorem dX4_wrong_5 : decode cX4_wrong 5 = .ok (.iaload, 1) := dk_46 (dk_at dksX4_wrong_0 5 rfl rfl)
theorem dX4_wrong_6 : decode cX4_wrong 6 = .ok (.istore 4, 2) := dk_54 4 (dk_at dksX4_wrong_0 6 rfl rfl)
theorem dX4_wrong_8 : decode cX4_wrong 8 = .ok (.iconst 0, 1) := dk_3 (dk_at dksX4_wrong_0 8 rfl rfl)
theorem dX4_wrong_9 : decode cX4_wrong 9 = .ok (.istore 5, 2) := dk_54 5 (dk_at dksX4_wrong_0 9 rfl rfl)
theorem dX4_wrong_11 : decode cX4_wrong 11 = .ok (.iload 5, 2) := dk_21 5 (dk_at dksX4_wrong_0 11 rfl rfl)
theorem dX4_wrong_13 : decode cX4_wrong 13 = .ok (.iload_n 2, 1) := dk_28 (dk_at dksX4_wrong_0 13 rfl rfl)
theorem dX4_wrong_14 : decode cX4_wrong 14 = .ok (.if_icmp .ge 58, 3) := dk_162 0 58 (dk_at dksX4_wrong_0 14 rfl rfl)
theorem dX4_wrong_17 : decode cX4_wrong 17 = .ok (.aload_n 0, 1) := dk_42 (dk_at dksX4_wrong_0 17 rfl rfl)
theorem dX4_wrong_18 : decode cX4_wrong 18 = .ok (.iload_n 1, 1) := dk_27 (dk_at dksX4_wrong_0 18 rfl rfl)
theorem dX4_wrong_19 : decode cX4_wrong 19 = .ok (.iload 5, 2) := dk_21 5 (dk_at dksX4_wrong_0 19 rfl rfl)
theorem dX4_wrong_21 : decode cX4_wrong 21 = .ok (.invokevirtual 244, 3) := dk_182 0 244 (dk_at dksX4_wrong_0 21 rfl rfl)
theorem dX4_wrong_24 : decode cX4_wrong 24 = .ok (.lstore 6, 2) := dk_55 6 (dk_at dksX4_wrong_1 0 rfl rfl)
theorem dX4_wrong_26 : decode cX4_wrong 26 = .ok (.aload_n 0, 1) := dk_42 (dk_at dksX4_wrong_1 2 rfl rfl)
theorem dX4_wrong_27 : decode cX4_wrong 27 = .ok (.lload 6, 2) := dk_22 6 (dk_at dksX4_wrong_1 3 rfl rfl)
theorem dX4_wrong_29 : decode cX4_wrong 29 = .ok (.invokevirtual 69, 3) := dk_182 0 69 (dk_at dksX4_wrong_1 5 rfl rfl)
theorem dX4_wrong_32 : decode cX4_wrong 32 = .ok (.ifCond .eq 26, 3) := dk_153 0 26 (dk_at dksX4_wrong_1 8 rfl rfl)
theorem dX4_wrong_35 : decode cX4_wrong 35 = .ok (.aload_n 0, 1) := dk_42 (dk_at dksX4_wrong_1 11 rfl rfl)
theorem dX4_wrong_36 : decode cX4_wrong 36 = .ok (.getfield 7, 3) := dk_180 0 7 (dk_at dksX4_wrong_1 12 rfl rfl)
theorem dX4_wrong_39 : decode cX4_wrong 39 = .ok (.lload 6, 2) := dk_22 6 (dk_at dksX4_wrong_1 15 rfl rfl)
theorem dX4_wrong_41 : decode cX4_wrong 41 = .ok (.l2i, 1) := dk_136 (dk_at dksX4_wrong_1 17 rfl rfl)
theorem dX4_wrong_42 : decode cX4_wrong 42 = .ok (.baload, 1) := dk_51 (dk_at dksX4_wrong_1 18 rfl rfl)
theorem dX4_wrong_43 : decode cX4_wrong 43 = .ok (.ifCond .ne 15, 3) := dk_154 0 15 (dk_at dksX4_wrong_1 19 rfl rfl)
theorem dX4_wrong_46 : decode cX4_wrong 46 = .ok (.iload 4, 2) := dk_21 4 (dk_at dksX4_wrong_1 22 rfl rfl)
theorem dX4_wrong_48 : decode cX4_wrong 48 = .ok (.lload 6, 2) := dk_22 6 (dk_at dksX4_wrong_2 0 rfl rfl)
theorem dX4_wrong_50 : decode cX4_wrong 50 = .ok (.l2i, 1) := dk_136 (dk_at dksX4_wrong_2 2 rfl rfl)
theorem dX4_wrong_51 : decode cX4_wrong 51 = .ok (.invokestatic 210, 3) := dk_184 0 210 (dk_at dksX4_wrong_2 3 rfl rfl)
theorem dX4_wrong_54 : decode cX4_wrong 54 = .ok (.iconst 1, 1) := dk_4 (dk_at dksX4_wrong_2 6 rfl rfl)
theorem dX4_wrong_55 : decode cX4_wrong 55 = .ok (.if_icmp .eq 6, 3) := dk_159 0 6 (dk_at dksX4_wrong_2 7 rfl rfl)
theorem dX4_wrong_58 : decode cX4_wrong 58 = .ok (.iload 5, 2) := dk_21 5 (dk_at dksX4_wrong_2 10 rfl rfl)
theorem dX4_wrong_60 : decode cX4_wrong 60 = .ok (.ireturn, 1) := dk_172 (dk_at dksX4_wrong_2 12 rfl rfl)
theorem dX4_wrong_61 : decode cX4_wrong 61 = .ok (.lload 6, 2) := dk_22 6 (dk_at dksX4_wrong_2 13 rfl rfl)
theorem dX4_wrong_63 : decode cX4_wrong 63 = .ok (.l2i, 1) := dk_136 (dk_at dksX4_wrong_2 15 rfl rfl)
theorem dX4_wrong_64 : decode cX4_wrong 64 = .ok (.istore 4, 2) := dk_54 4 (dk_at dksX4_wrong_2 16 rfl rfl)
theorem dX4_wrong_66 : decode cX4_wrong 66 = .ok (.iinc 5 1, 3) := dk_132 5 1 (dk_at dksX4_wrong_2 18 rfl rfl)
theorem dX4_wrong_69 : decode cX4_wrong 69 = .ok (.goto (-58), 3) := dk_167 255 198 (dk_at dksX4_wrong_2 21 rfl rfl)
theorem dX4_wrong_72 : decode cX4_wrong 72 = .ok (.iconst (-1), 1) := dk_2 (dk_at dksX4_wrong_3 0 rfl rfl)
theorem dX4_wrong_73 : decode cX4_wrong 73 = .ok (.ireturn, 1) := dk_172 (dk_at dksX4_wrong_3 1 rfl rfl)
def dkwX4_nears_5 : List UInt8 := [132, 7, 1, 167, 255, 213, 21, 5, 172]
abbrev dktX4_nears_5 : List UInt8 := dkwX4_nears_5 ++ []
def dkwX4_nears_4 : List UInt8 := [180, 0, 54, 21, 8, 46, 42, 180, 0, 54, 21, 6, 46, 162, 0, 6, 132, 5, 1, 21, 8, 54, 6]
abbrev dktX4_nears_4 : List UInt8 := dkwX4_nears_4 ++ dktX4_nears_5
def dkwX4_nears_3 : List UInt8 := [54, 6, 3, 54, 7, 21, 7, 28, 162, 0, 43, 42, 27, 21, 7, 182, 0, 244, 136, 54, 8, 42]
abbrev dktX4_nears_3 : List UInt8 := dkwX4_nears_3 ++ dktX4_nears_4
def dkwX4_nears_2 : List UInt8 := [42, 21, 4, 182, 0, 87, 172, 42, 42, 180, 0, 114, 182, 1, 47, 3, 54, 5, 42, 180, 0, 23, 29, 46]
abbrev dktX4_nears_2 : List UInt8 := dkwX4_nears_2 ++ dktX4_nears_3
def dkwX4_nears_1 : List UInt8 := [154, 0, 10, 42, 16, 254, 182, 0, 87, 172, 42, 27, 28, 29, 182, 1, 59, 54, 4, 21, 4, 156, 0, 10]
abbrev dktX4_nears_1 : List UInt8 := dkwX4_nears_1 ++ dktX4_nears_2
def dkwX4_nears_0 : List UInt8 := [27, 184, 0, 83, 153, 0, 21, 28, 3, 16, 40, 184, 0, 79, 153, 0, 11, 42, 29, 182, 0, 128]
abbrev dktX4_nears_0 : List UInt8 := dkwX4_nears_0 ++ dktX4_nears_1
theorem dksX4_nears_0 : cX4_nears.data.toList.drop 0 = dktX4_nears_0 := by decide +kernel
theorem dksX4_nears_1 : cX4_nears.data.toList.drop 22 = dktX4_nears_1 := dk_seg dksX4_nears_0 22 rfl rfl
theorem dksX4_nears_2 : cX4_nears.data.toList.drop 46 = dktX4_nears_2 := dk_seg dksX4_nears_1 24 rfl rfl
theorem dksX4_nears_3 : cX4_nears.data.toList.drop 70 = dktX4_nears_3 := dk_seg dksX4_nears_2 24 rfl rfl
theorem dksX4_nears_4 : cX4_nears.data.toList.drop 92 = dktX4_nears_4 := dk_seg dksX4_nears_3 22 rfl rfl
theorem dksX4_nears_5 : cX4_nears.data.toList.drop 115 = dktX4_nears_5 := dk_seg dksX4_nears_4 23 rfl rfl
theorem dX4_nears_0 : decode cX4_nears 0 = .ok (.iload_n 1, 1) := dk_27 (dk_at dksX4_nears_0 0 rfl rfl)
theorem dX4_nears_1 : decode cX4_nears 1 = .ok (.invokestatic 83, 3) := dk_184 0 83 (dk_at dksX4_nears_0 1 rfl rfl)
theorem dX4_nears_4 : decode cX4_nears 4 = .ok (.ifCond .eq 21, 3) := dk_153 0 21 (dk_at dksX4_nears_0 4 rfl rfl)
theorem dX4_nears_7 : decode cX4_nears 7 = .ok (.iload_n 2, 1) := dk_28 (dk_at dksX4_nears_0 7 rfl rfl)
theorem dX4_nears_8 : decode cX4_nears 8 = .ok (.iconst 0, 1) := dk_3 (dk_at dksX4_nears_0 8 rfl rfl)
theorem dX4_nears_9 : decode cX4_nears 9 = .ok (.bipush 40, 2) := dk_16 40 (dk_at dksX4_nears_0 9 rfl rfl)
theorem dX4_nears_11 : decode cX4_nears 11 = .ok (.invokestatic 79, 3) := dk_184 0 79 (dk_at dksX4_nears_0 11 rfl rfl)
theorem dX4_nears_14 : decode cX4_nears 14 = .ok (.ifCond .eq 11, 3) := dk_153 0 11 (dk_at dksX4_nears_0 14 rfl rfl)
theorem dX4_nears_17 : decode cX4_nears 17 = .ok (.aload_n 0, 1) := dk_42 (dk_at dksX4_nears_0 17 rfl rfl)
theorem dX4_nears_18 : decode cX4_nears 18 = .ok (.iload_n 3, 1) := dk_29 (dk_at dksX4_nears_0 18 rfl rfl)
theorem dX4_nears_19 : decode cX4_nears 19 = .ok (.invokevirtual 128, 3) := dk_182 0 128 (dk_at dksX4_nears_0 19 rfl rfl)
theorem dX4_nears_22 : decode cX4_nears 22 = .ok (.ifCond .ne 10, 3) := dk_154 0 10 (dk_at dksX4_nears_1 0 rfl rfl)
theorem dX4_nears_25 : decode cX4_nears 25 = .ok (.aload_n 0, 1) := dk_42 (dk_at dksX4_nears_1 3 rfl rfl)
theorem dX4_nears_26 : decode cX4_nears 26 = .ok (.bipush (-2), 2) := dk_16 254 (dk_at dksX4_nears_1 4 rfl rfl)
theorem dX4_nears_28 : decode cX4_nears 28 = .ok (.invokevirtual 87, 3) := dk_182 0 87 (dk_at dksX4_nears_1 6 rfl rfl)
theorem dX4_nears_31 : decode cX4_nears 31 = .ok (.ireturn, 1) := dk_172 (dk_at dksX4_nears_1 9 rfl rfl)
theorem dX4_nears_32 : decode cX4_nears 32 = .ok (.aload_n 0, 1) := dk_42 (dk_at dksX4_nears_1 10 rfl rfl)
theorem dX4_nears_33 : decode cX4_nears 33 = .ok (.iload_n 1, 1) := dk_27 (dk_at dksX4_nears_1 11 rfl rfl)
theorem dX4_nears_34 : decode cX4_nears 34 = .ok (.iload_n 2, 1) := dk_28 (dk_at dksX4_nears_1 12 rfl rfl)
theorem dX4_nears_35 : decode cX4_nears 35 = .ok (.iload_n 3, 1) := dk_29 (dk_at dksX4_nears_1 13 rfl rfl)
theorem dX4_nears_36 : decode cX4_nears 36 = .ok (.invokevirtual 315, 3) := dk_182 1 59 (dk_at dksX4_nears_1 14 rfl rfl)
theorem dX4_nears_39 : decode cX4_nears 39 = .ok (.istore 4, 2) := dk_54 4 (dk_at dksX4_nears_1 17 rfl rfl)
theorem dX4_nears_41 : decode cX4_nears 41 = .ok (.iload 4, 2) := dk_21 4 (dk_at dksX4_nears_1 19 rfl rfl)
theorem dX4_nears_43 : decode cX4_nears 43 = .ok (.ifCond .ge 10, 3) := dk_156 0 10 (dk_at dksX4_nears_1 21 rfl rfl)
theorem dX4_nears_46 : decode cX4_nears 46 = .ok (.aload_n 0, 1) := dk_42 (dk_at dksX4_nears_2 0 rfl rfl)
theorem dX4_nears_47 : decode cX4_nears 47 = .ok (.iload 4, 2) := dk_21 4 (dk_at dksX4_nears_2 1 rfl rfl)
theorem dX4_nears_49 : decode cX4_nears 49 = .ok (.invokevirtual 87, 3) := dk_182 0 87 (dk_at dksX4_nears_2 3 rfl rfl)
theorem dX4_nears_52 : decode cX4_nears 52 = .ok (.ireturn, 1) := dk_172 (dk_at dksX4_nears_2 6 rfl rfl)
theorem dX4_nears_53 : decode cX4_nears 53 = .ok (.aload_n 0, 1) := dk_42 (dk_at dksX4_nears_2 7 rfl rfl)
theorem dX4_nears_54 : decode cX4_nears 54 = .ok (.aload_n 0, 1) := dk_42 (dk_at dksX4_nears_2 8 rfl rfl)
theorem dX4_nears_55 : decode cX4_nears 55 = .ok (.getfield 114, 3) := dk_180 0 114 (dk_at dksX4_nears_2 9 rfl rfl)
theorem dX4_nears_58 : decode cX4_nears 58 = .ok (.invokevirtual 303, 3) := dk_182 1 47 (dk_at dksX4_nears_2 12 rfl rfl)
theorem dX4_nears_61 : decode cX4_nears 61 = .ok (.iconst 0, 1) := dk_3 (dk_at dksX4_nears_2 15 rfl rfl)
theorem dX4_nears_62 : decode cX4_nears 62 = .ok (.istore 5, 2) := dk_54 5 (dk_at dksX4_nears_2 16 rfl rfl)
theorem dX4_nears_64 : decode cX4_nears 64 = .ok (.aload_n 0, 1) := dk_42 (dk_at dksX4_nears_2 18 rfl rfl)
theorem dX4_nears_65 : decode cX4_nears 65 = .ok (.getfield 23, 3) := dk_180 0 23 (dk_at dksX4_nears_2 19 rfl rfl)
theorem dX4_nears_68 : decode cX4_nears 68 = .ok (.iload_n 3, 1) := dk_29 (dk_at dksX4_nears_2 22 rfl rfl)
theorem dX4_nears_69 : decode cX4_nears 69 = .ok (.iaload, 1) := dk_46 (dk_at dksX4_nears_2 23 rfl rfl)
theorem dX4_nears_70 : decode cX4_nears 70 = .ok (.istore 6, 2) := dk_54 6 (dk_at dksX4_nears_3 0 rfl rfl)
theorem dX4_nears_72 : decode cX4_nears 72 = .ok (.iconst 0, 1) := dk_3 (dk_at dksX4_nears_3 2 rfl rfl)
theorem dX4_nears_73 : decode cX4_nears 73 = .ok (.istore 7, 2) := dk_54 7 (dk_at dksX4_nears_3 3 rfl rfl)
theorem dX4_nears_75 : decode cX4_nears 75 = .ok (.iload 7, 2) := dk_21 7 (dk_at dksX4_nears_3 5 rfl rfl)
theorem dX4_nears_77 : decode cX4_nears 77 = .ok (.iload_n 2, 1) := dk_28 (dk_at dksX4_nears_3 7 rfl rfl)
theorem dX4_nears_78 : decode cX4_nears 78 = .ok (.if_icmp .ge 43, 3) := dk_162 0 43 (dk_at dksX4_nears_3 8 rfl rfl)
theorem dX4_nears_81 : decode cX4_nears 81 = .ok (.aload_n 0, 1) := dk_42 (dk_at dksX4_nears_3 11 rfl rfl)
theorem dX4_nears_82 : decode cX4_nears 82 = .ok (.iload_n 1, 1) := dk_27 (dk_at dksX4_nears_3 12 rfl rfl)
theorem dX4_nears_83 : decode cX4_nears 83 = .ok (.iload 7, 2) := dk_21 7 (dk_at dksX4_nears_3 13 rfl rfl)
theorem dX4_nears_85 : decode cX4_nears 85 = .ok (.invokevirtual 244, 3) := dk_182 0 244 (dk_at dksX4_nears_3 15 rfl rfl)
theorem dX4_nears_88 : decode cX4_nears 88 = .ok (.l2i, 1) := dk_136 (dk_at dksX4_nears_3 18 rfl rfl)
theorem dX4_nears_89 : decode cX4_nears 89 = .ok (.istore 8, 2) := dk_54 8 (dk_at dksX4_nears_3 19 rfl rfl)
theorem dX4_nears_91 : decode cX4_nears 91 = .ok (.aload_n 0, 1) := dk_42 (dk_at dksX4_nears_3 21 rfl rfl)
theorem dX4_nears_92 : decode cX4_nears 92 = .ok (.getfield 54, 3) := dk_180 0 54 (dk_at dksX4_nears_4 0 rfl rfl)
theorem dX4_nears_95 : decode cX4_nears 95 = .ok (.iload 8, 2) := dk_21 8 (dk_at dksX4_nears_4 3 rfl rfl)
theorem dX4_nears_97 : decode cX4_nears 97 = .ok (.iaload, 1) := dk_46 (dk_at dksX4_nears_4 5 rfl rfl)
theorem dX4_nears_98 : decode cX4_nears 98 = .ok (.aload_n 0, 1) := dk_42 (dk_at dksX4_nears_4 6 rfl rfl)
theorem dX4_nears_99 : decode cX4_nears 99 = .ok (.getfield 54, 3) := dk_180 0 54 (dk_at dksX4_nears_4 7 rfl rfl)
theorem dX4_nears_102 : decode cX4_nears 102 = .ok (.iload 6, 2) := dk_21 6 (dk_at dksX4_nears_4 10 rfl rfl)
theorem dX4_nears_104 : decode cX4_nears 104 = .ok (.iaload, 1) := dk_46 (dk_at dksX4_nears_4 12 rfl rfl)
theorem dX4_nears_105 : decode cX4_nears 105 = .ok (.if_icmp .ge 6, 3) := dk_162 0 6 (dk_at dksX4_nears_4 13 rfl rfl)
theorem dX4_nears_108 : decode cX4_nears 108 = .ok (.iinc 5 1, 3) := dk_132 5 1 (dk_at dksX4_nears_4 16 rfl rfl)
theorem dX4_nears_111 : decode cX4_nears 111 = .ok (.iload 8, 2) := dk_21 8 (dk_at dksX4_nears_4 19 rfl rfl)
theorem dX4_nears_113 : decode cX4_nears 113 = .ok (.istore 6, 2) := dk_54 6 (dk_at dksX4_nears_4 21 rfl rfl)
theorem dX4_nears_115 : decode cX4_nears 115 = .ok (.iinc 7 1, 3) := dk_132 7 1 (dk_at dksX4_nears_5 0 rfl rfl)
theorem dX4_nears_118 : decode cX4_nears 118 = .ok (.goto (-43), 3) := dk_167 255 213 (dk_at dksX4_nears_5 3 rfl rfl)
theorem dX4_nears_121 : decode cX4_nears 121 = .ok (.iload 5, 2) := dk_21 5 (dk_at dksX4_nears_5 6 rfl rfl)
theorem dX4_nears_123 : decode cX4_nears 123 = .ok (.ireturn, 1) := dk_172 (dk_at dksX4_nears_5 8 rfl rfl)
def dkwX4_noWalk_1 : List UInt8 := [182, 1, 56, 2, 160, 0, 7, 3, 167, 0, 5, 16, 251, 172]
abbrev dktX4_noWalk_1 : List UInt8 := dkwX4_noWalk_1 ++ []
def dkwX4_noWalk_0 : List UInt8 := [42, 27, 28, 182, 0, 241, 54, 4, 21, 4, 156, 0, 8, 21, 4, 167, 0, 20, 42, 27, 28, 29]
abbrev dktX4_noWalk_0 : List UInt8 := dkwX4_noWalk_0 ++ dktX4_noWalk_1
theorem dksX4_noWalk_0 : cX4_noWalk.data.toList.drop 0 = dktX4_noWalk_0 := by decide +kernel
theorem dksX4_noWalk_1 : cX4_noWalk.data.toList.drop 22 = dktX4_noWalk_1 := dk_seg dksX4_noWalk_0 22 rfl rfl
theorem dX4_noWalk_0 : decode cX4_noWalk 0 = .ok (.aload_n 0, 1) := dk_42 (dk_at dksX4_noWalk_0 0 rfl rfl)
theorem dX4_noWalk_1 : decode cX4_noWalk 1 = .ok (.iload_n 1, 1) := dk_27 (dk_at dksX4_noWalk_0 1 rfl rfl)
theorem dX4_noWalk_2 : decode cX4_noWalk 2 = .ok (.iload_n 2, 1) := dk_28 (dk_at dksX4_noWalk_0 2 rfl rfl)
theorem dX4_noWalk_3 : decode cX4_noWalk 3 = .ok (.invokevirtual 241, 3) := dk_182 0 241 (dk_at dksX4_noWalk_0 3 rfl rfl)
theorem dX4_noWalk_6 : decode cX4_noWalk 6 = .ok (.istore 4, 2) := dk_54 4 (dk_at dksX4_noWalk_0 6 rfl rfl)
theorem dX4_noWalk_8 : decode cX4_noWalk 8 = .ok (.iload 4, 2) := dk_21 4 (dk_at dksX4_noWalk_0 8 rfl rfl)
theorem dX4_noWalk_10 : decode cX4_noWalk 10 = .ok (.ifCond .ge 8, 3) := dk_156 0 8 (dk_at dksX4_noWalk_0 10 rfl rfl)
theorem dX4_noWalk_13 : decode cX4_noWalk 13 = .ok (.iload 4, 2) := dk_21 4 (dk_at dksX4_noWalk_0 13 rfl rfl)
theorem dX4_noWalk_15 : decode cX4_noWalk 15 = .ok (.goto 20, 3) := dk_167 0 20 (dk_at dksX4_noWalk_0 15 rfl rfl)
theorem dX4_noWalk_18 : decode cX4_noWalk 18 = .ok (.aload_n 0, 1) := dk_42 (dk_at dksX4_noWalk_0 18 rfl rfl)
theorem dX4_noWalk_19 : decode cX4_noWalk 19 = .ok (.iload_n 1, 1) := dk_27 (dk_at dksX4_noWalk_0 19 rfl rfl)
theorem dX4_noWalk_20 : decode cX4_noWalk 20 = .ok (.iload_n 2, 1) := dk_28 (dk_at dksX4_noWalk_0 20 rfl rfl)
theorem dX4_noWalk_21 : decode cX4_noWalk 21 = .ok (.iload_n 3, 1) := dk_29 (dk_at dksX4_noWalk_0 21 rfl rfl)
theorem dX4_noWalk_22 : decode cX4_noWalk 22 = .ok (.invokevirtual 312, 3) := dk_182 1 56 (dk_at dksX4_noWalk_1 0 rfl rfl)
theorem dX4_noWalk_25 : decode cX4_noWalk 25 = .ok (.iconst (-1), 1) := dk_2 (dk_at dksX4_noWalk_1 3 rfl rfl)
theorem dX4_noWalk_26 : decode cX4_noWalk 26 = .ok (.if_icmp .ne 7, 3) := dk_160 0 7 (dk_at dksX4_noWalk_1 4 rfl rfl)
theorem dX4_noWalk_29 : decode cX4_noWalk 29 = .ok (.iconst 0, 1) := dk_3 (dk_at dksX4_noWalk_1 7 rfl rfl)
theorem dX4_noWalk_30 : decode cX4_noWalk 30 = .ok (.goto 5, 3) := dk_167 0 5 (dk_at dksX4_noWalk_1 8 rfl rfl)
theorem dX4_noWalk_33 : decode cX4_noWalk 33 = .ok (.bipush (-5), 2) := dk_16 251 (dk_at dksX4_noWalk_1 11 rfl rfl)
theorem dX4_noWalk_35 : decode cX4_noWalk 35 = .ok (.ireturn, 1) := dk_172 (dk_at dksX4_noWalk_1 13 rfl rfl)
def dkwX4_done_4 : List UInt8 := [180, 0, 23, 29, 46, 172]
abbrev dktX4_done_4 : List UInt8 := dkwX4_done_4 ++ []
def dkwX4_done_3 : List UInt8 := [136, 79, 42, 180, 0, 23, 29, 46, 42, 180, 0, 114, 160, 0, 11, 42, 180, 0, 26, 29, 16, 9, 79, 42]
abbrev dktX4_done_3 : List UInt8 := dkwX4_done_3 ++ dktX4_done_4
def dkwX4_done_2 : List UInt8 := [42, 21, 4, 182, 0, 87, 172, 28, 158, 0, 18, 42, 180, 0, 23, 29, 42, 27, 28, 4, 100, 182, 0, 244]
abbrev dktX4_done_2 : List UInt8 := dkwX4_done_2 ++ dktX4_done_3
def dkwX4_done_1 : List UInt8 := [154, 0, 10, 42, 16, 254, 182, 0, 87, 172, 42, 27, 28, 29, 182, 1, 59, 54, 4, 21, 4, 156, 0, 10]
abbrev dktX4_done_1 : List UInt8 := dkwX4_done_1 ++ dktX4_done_2
def dkwX4_done_0 : List UInt8 := [27, 184, 0, 83, 153, 0, 21, 28, 3, 16, 40, 184, 0, 79, 153, 0, 11, 42, 29, 182, 0, 128]
abbrev dktX4_done_0 : List UInt8 := dkwX4_done_0 ++ dktX4_done_1
theorem dksX4_done_0 : cX4_done.data.toList.drop 0 = dktX4_done_0 := by decide +kernel
theorem dksX4_done_1 : cX4_done.data.toList.drop 22 = dktX4_done_1 := dk_seg dksX4_done_0 22 rfl rfl
theorem dksX4_done_2 : cX4_done.data.toList.drop 46 = dktX4_done_2 := dk_seg dksX4_done_1 24 rfl rfl
theorem dksX4_done_3 : cX4_done.data.toList.drop 70 = dktX4_done_3 := dk_seg dksX4_done_2 24 rfl rfl
theorem dksX4_done_4 : cX4_done.data.toList.drop 94 = dktX4_done_4 := dk_seg dksX4_done_3 24 rfl rfl
theorem dX4_done_0 : decode cX4_done 0 = .ok (.iload_n 1, 1) := dk_27 (dk_at dksX4_done_0 0 rfl rfl)
theorem dX4_done_1 : decode cX4_done 1 = .ok (.invokestatic 83, 3) := dk_184 0 83 (dk_at dksX4_done_0 1 rfl rfl)
theorem dX4_done_4 : decode cX4_done 4 = .ok (.ifCond .eq 21, 3) := dk_153 0 21 (dk_at dksX4_done_0 4 rfl rfl)
theorem dX4_done_7 : decode cX4_done 7 = .ok (.iload_n 2, 1) := dk_28 (dk_at dksX4_done_0 7 rfl rfl)
theorem dX4_done_8 : decode cX4_done 8 = .ok (.iconst 0, 1) := dk_3 (dk_at dksX4_done_0 8 rfl rfl)
theorem dX4_done_9 : decode cX4_done 9 = .ok (.bipush 40, 2) := dk_16 40 (dk_at dksX4_done_0 9 rfl rfl)
theorem dX4_done_11 : decode cX4_done 11 = .ok (.invokestatic 79, 3) := dk_184 0 79 (dk_at dksX4_done_0 11 rfl rfl)
theorem dX4_done_14 : decode cX4_done 14 = .ok (.ifCond .eq 11, 3) := dk_153 0 11 (dk_at dksX4_done_0 14 rfl rfl)
theorem dX4_done_17 : decode cX4_done 17 = .ok (.aload_n 0, 1) := dk_42 (dk_at dksX4_done_0 17 rfl rfl)
theorem dX4_done_18 : decode cX4_done 18 = .ok (.iload_n 3, 1) := dk_29 (dk_at dksX4_done_0 18 rfl rfl)
theorem dX4_done_19 : decode cX4_done 19 = .ok (.invokevirtual 128, 3) := dk_182 0 128 (dk_at dksX4_done_0 19 rfl rfl)
theorem dX4_done_22 : decode cX4_done 22 = .ok (.ifCond .ne 10, 3) := dk_154 0 10 (dk_at dksX4_done_1 0 rfl rfl)
theorem dX4_done_25 : decode cX4_done 25 = .ok (.aload_n 0, 1) := dk_42 (dk_at dksX4_done_1 3 rfl rfl)
theorem dX4_done_26 : decode cX4_done 26 = .ok (.bipush (-2), 2) := dk_16 254 (dk_at dksX4_done_1 4 rfl rfl)
theorem dX4_done_28 : decode cX4_done 28 = .ok (.invokevirtual 87, 3) := dk_182 0 87 (dk_at dksX4_done_1 6 rfl rfl)
theorem dX4_done_31 : decode cX4_done 31 = .ok (.ireturn, 1) := dk_172 (dk_at dksX4_done_1 9 rfl rfl)
theorem dX4_done_32 : decode cX4_done 32 = .ok (.aload_n 0, 1) := dk_42 (dk_at dksX4_done_1 10 rfl rfl)
theorem dX4_done_33 : decode cX4_done 33 = .ok (.iload_n 1, 1) := dk_27 (dk_at dksX4_done_1 11 rfl rfl)
theorem dX4_done_34 : decode cX4_done 34 = .ok (.iload_n 2, 1) := dk_28 (dk_at dksX4_done_1 12 rfl rfl)
theorem dX4_done_35 : decode cX4_done 35 = .ok (.iload_n 3, 1) := dk_29 (dk_at dksX4_done_1 13 rfl rfl)
theorem dX4_done_36 : decode cX4_done 36 = .ok (.invokevirtual 315, 3) := dk_182 1 59 (dk_at dksX4_done_1 14 rfl rfl)
theorem dX4_done_39 : decode cX4_done 39 = .ok (.istore 4, 2) := dk_54 4 (dk_at dksX4_done_1 17 rfl rfl)
theorem dX4_done_41 : decode cX4_done 41 = .ok (.iload 4, 2) := dk_21 4 (dk_at dksX4_done_1 19 rfl rfl)
theorem dX4_done_43 : decode cX4_done 43 = .ok (.ifCond .ge 10, 3) := dk_156 0 10 (dk_at dksX4_done_1 21 rfl rfl)
theorem dX4_done_46 : decode cX4_done 46 = .ok (.aload_n 0, 1) := dk_42 (dk_at dksX4_done_2 0 rfl rfl)
theorem dX4_done_47 : decode cX4_done 47 = .ok (.iload 4, 2) := dk_21 4 (dk_at dksX4_done_2 1 rfl rfl)
theorem dX4_done_49 : decode cX4_done 49 = .ok (.invokevirtual 87, 3) := dk_182 0 87 (dk_at dksX4_done_2 3 rfl rfl)
theorem dX4_done_52 : decode cX4_done 52 = .ok (.ireturn, 1) := dk_172 (dk_at dksX4_done_2 6 rfl rfl)
theorem dX4_done_53 : decode cX4_done 53 = .ok (.iload_n 2, 1) := dk_28 (dk_at dksX4_done_2 7 rfl rfl)
theorem dX4_done_54 : decode cX4_done 54 = .ok (.ifCond .le 18, 3) := dk_158 0 18 (dk_at dksX4_done_2 8 rfl rfl)
theorem dX4_done_57 : decode cX4_done 57 = .ok (.aload_n 0, 1) := dk_42 (dk_at dksX4_done_2 11 rfl rfl)
theorem dX4_done_58 : decode cX4_done 58 = .ok (.getfield 23, 3) := dk_180 0 23 (dk_at dksX4_done_2 12 rfl rfl)
theorem dX4_done_61 : decode cX4_done 61 = .ok (.iload_n 3, 1) := dk_29 (dk_at dksX4_done_2 15 rfl rfl)
theorem dX4_done_62 : decode cX4_done 62 = .ok (.aload_n 0, 1) := dk_42 (dk_at dksX4_done_2 16 rfl rfl)
theorem dX4_done_63 : decode cX4_done 63 = .ok (.iload_n 1, 1) := dk_27 (dk_at dksX4_done_2 17 rfl rfl)
theorem dX4_done_64 : decode cX4_done 64 = .ok (.iload_n 2, 1) := dk_28 (dk_at dksX4_done_2 18 rfl rfl)
theorem dX4_done_65 : decode cX4_done 65 = .ok (.iconst 1, 1) := dk_4 (dk_at dksX4_done_2 19 rfl rfl)
theorem dX4_done_66 : decode cX4_done 66 = .ok (.isub, 1) := dk_100 (dk_at dksX4_done_2 20 rfl rfl)
theorem dX4_done_67 : decode cX4_done 67 = .ok (.invokevirtual 244, 3) := dk_182 0 244 (dk_at dksX4_done_2 21 rfl rfl)
theorem dX4_done_70 : decode cX4_done 70 = .ok (.l2i, 1) := dk_136 (dk_at dksX4_done_3 0 rfl rfl)
theorem dX4_done_71 : decode cX4_done 71 = .ok (.iastore, 1) := dk_79 (dk_at dksX4_done_3 1 rfl rfl)
theorem dX4_done_72 : decode cX4_done 72 = .ok (.aload_n 0, 1) := dk_42 (dk_at dksX4_done_3 2 rfl rfl)
theorem dX4_done_73 : decode cX4_done 73 = .ok (.getfield 23, 3) := dk_180 0 23 (dk_at dksX4_done_3 3 rfl rfl)
theorem dX4_done_76 : decode cX4_done 76 = .ok (.iload_n 3, 1) := dk_29 (dk_at dksX4_done_3 6 rfl rfl)
theorem dX4_done_77 : decode cX4_done 77 = .ok (.iaload, 1) := dk_46 (dk_at dksX4_done_3 7 rfl rfl)
theorem dX4_done_78 : decode cX4_done 78 = .ok (.aload_n 0, 1) := dk_42 (dk_at dksX4_done_3 8 rfl rfl)
theorem dX4_done_79 : decode cX4_done 79 = .ok (.getfield 114, 3) := dk_180 0 114 (dk_at dksX4_done_3 9 rfl rfl)
theorem dX4_done_82 : decode cX4_done 82 = .ok (.if_icmp .ne 11, 3) := dk_160 0 11 (dk_at dksX4_done_3 12 rfl rfl)
theorem dX4_done_85 : decode cX4_done 85 = .ok (.aload_n 0, 1) := dk_42 (dk_at dksX4_done_3 15 rfl rfl)
theorem dX4_done_86 : decode cX4_done 86 = .ok (.getfield 26, 3) := dk_180 0 26 (dk_at dksX4_done_3 16 rfl rfl)
theorem dX4_done_89 : decode cX4_done 89 = .ok (.iload_n 3, 1) := dk_29 (dk_at dksX4_done_3 19 rfl rfl)
theorem dX4_done_90 : decode cX4_done 90 = .ok (.bipush 9, 2) := dk_16 9 (dk_at dksX4_done_3 20 rfl rfl)
theorem dX4_done_92 : decode cX4_done 92 = .ok (.iastore, 1) := dk_79 (dk_at dksX4_done_3 22 rfl rfl)
theorem dX4_done_93 : decode cX4_done 93 = .ok (.aload_n 0, 1) := dk_42 (dk_at dksX4_done_3 23 rfl rfl)
theorem dX4_done_94 : decode cX4_done 94 = .ok (.getfield 23, 3) := dk_180 0 23 (dk_at dksX4_done_4 0 rfl rfl)
theorem dX4_done_97 : decode cX4_done 97 = .ok (.iload_n 3, 1) := dk_29 (dk_at dksX4_done_4 3 rfl rfl)
theorem dX4_done_98 : decode cX4_done 98 = .ok (.iaload, 1) := dk_46 (dk_at dksX4_done_4 4 rfl rfl)
theorem dX4_done_99 : decode cX4_done 99 = .ok (.ireturn, 1) := dk_172 (dk_at dksX4_done_4 5 rfl rfl)
def dkwX4_goes_2 : List UInt8 := [16, 251, 182, 0, 87, 172]
abbrev dktX4_goes_2 : List UInt8 := dkwX4_goes_2 ++ []
def dkwX4_goes_1 : List UInt8 := [42, 42, 180, 0, 23, 27, 46, 28, 182, 1, 44, 153, 0, 12, 42, 27, 28, 182, 1, 62, 167, 0, 9, 42]
abbrev dktX4_goes_1 : List UInt8 := dkwX4_goes_1 ++ dktX4_goes_2
def dkwX4_goes_0 : List UInt8 := [42, 27, 182, 0, 128, 153, 0, 12, 28, 3, 7, 184, 0, 79, 154, 0, 10, 42, 16, 254, 182, 0, 87, 172]
abbrev dktX4_goes_0 : List UInt8 := dkwX4_goes_0 ++ dktX4_goes_1
theorem dksX4_goes_0 : cX4_goes.data.toList.drop 0 = dktX4_goes_0 := by decide +kernel
theorem dksX4_goes_1 : cX4_goes.data.toList.drop 24 = dktX4_goes_1 := dk_seg dksX4_goes_0 24 rfl rfl
theorem dksX4_goes_2 : cX4_goes.data.toList.drop 48 = dktX4_goes_2 := dk_seg dksX4_goes_1 24 rfl rfl
theorem dX4_goes_0 : decode cX4_goes 0 = .ok (.aload_n 0, 1) := dk_42 (dk_at dksX4_goes_0 0 rfl rfl)
theorem dX4_goes_1 : decode cX4_goes 1 = .ok (.iload_n 1, 1) := dk_27 (dk_at dksX4_goes_0 1 rfl rfl)
theorem dX4_goes_2 : decode cX4_goes 2 = .ok (.invokevirtual 128, 3) := dk_182 0 128 (dk_at dksX4_goes_0 2 rfl rfl)
theorem dX4_goes_5 : decode cX4_goes 5 = .ok (.ifCond .eq 12, 3) := dk_153 0 12 (dk_at dksX4_goes_0 5 rfl rfl)
theorem dX4_goes_8 : decode cX4_goes 8 = .ok (.iload_n 2, 1) := dk_28 (dk_at dksX4_goes_0 8 rfl rfl)
theorem dX4_goes_9 : decode cX4_goes 9 = .ok (.iconst 0, 1) := dk_3 (dk_at dksX4_goes_0 9 rfl rfl)
theorem dX4_goes_10 : decode cX4_goes 10 = .ok (.iconst 4, 1) := dk_7 (dk_at dksX4_goes_0 10 rfl rfl)
theorem dX4_goes_11 : decode cX4_goes 11 = .ok (.invokestatic 79, 3) := dk_184 0 79 (dk_at dksX4_goes_0 11 rfl rfl)
theorem dX4_goes_14 : decode cX4_goes 14 = .ok (.ifCond .ne 10, 3) := dk_154 0 10 (dk_at dksX4_goes_0 14 rfl rfl)
theorem dX4_goes_17 : decode cX4_goes 17 = .ok (.aload_n 0, 1) := dk_42 (dk_at dksX4_goes_0 17 rfl rfl)
theorem dX4_goes_18 : decode cX4_goes 18 = .ok (.bipush (-2), 2) := dk_16 254 (dk_at dksX4_goes_0 18 rfl rfl)
theorem dX4_goes_20 : decode cX4_goes 20 = .ok (.invokevirtual 87, 3) := dk_182 0 87 (dk_at dksX4_goes_0 20 rfl rfl)
theorem dX4_goes_23 : decode cX4_goes 23 = .ok (.ireturn, 1) := dk_172 (dk_at dksX4_goes_0 23 rfl rfl)
theorem dX4_goes_24 : decode cX4_goes 24 = .ok (.aload_n 0, 1) := dk_42 (dk_at dksX4_goes_1 0 rfl rfl)
theorem dX4_goes_25 : decode cX4_goes 25 = .ok (.aload_n 0, 1) := dk_42 (dk_at dksX4_goes_1 1 rfl rfl)
theorem dX4_goes_26 : decode cX4_goes 26 = .ok (.getfield 23, 3) := dk_180 0 23 (dk_at dksX4_goes_1 2 rfl rfl)
theorem dX4_goes_29 : decode cX4_goes 29 = .ok (.iload_n 1, 1) := dk_27 (dk_at dksX4_goes_1 5 rfl rfl)
theorem dX4_goes_30 : decode cX4_goes 30 = .ok (.iaload, 1) := dk_46 (dk_at dksX4_goes_1 6 rfl rfl)
theorem dX4_goes_31 : decode cX4_goes 31 = .ok (.iload_n 2, 1) := dk_28 (dk_at dksX4_goes_1 7 rfl rfl)
theorem dX4_goes_32 : decode cX4_goes 32 = .ok (.invokevirtual 300, 3) := dk_182 1 44 (dk_at dksX4_goes_1 8 rfl rfl)
theorem dX4_goes_35 : decode cX4_goes 35 = .ok (.ifCond .eq 12, 3) := dk_153 0 12 (dk_at dksX4_goes_1 11 rfl rfl)
theorem dX4_goes_38 : decode cX4_goes 38 = .ok (.aload_n 0, 1) := dk_42 (dk_at dksX4_goes_1 14 rfl rfl)
theorem dX4_goes_39 : decode cX4_goes 39 = .ok (.iload_n 1, 1) := dk_27 (dk_at dksX4_goes_1 15 rfl rfl)
theorem dX4_goes_40 : decode cX4_goes 40 = .ok (.iload_n 2, 1) := dk_28 (dk_at dksX4_goes_1 16 rfl rfl)
theorem dX4_goes_41 : decode cX4_goes 41 = .ok (.invokevirtual 318, 3) := dk_182 1 62 (dk_at dksX4_goes_1 17 rfl rfl)
theorem dX4_goes_44 : decode cX4_goes 44 = .ok (.goto 9, 3) := dk_167 0 9 (dk_at dksX4_goes_1 20 rfl rfl)
theorem dX4_goes_47 : decode cX4_goes 47 = .ok (.aload_n 0, 1) := dk_42 (dk_at dksX4_goes_1 23 rfl rfl)
theorem dX4_goes_48 : decode cX4_goes 48 = .ok (.bipush (-5), 2) := dk_16 251 (dk_at dksX4_goes_2 0 rfl rfl)
theorem dX4_goes_50 : decode cX4_goes 50 = .ok (.invokevirtual 87, 3) := dk_182 0 87 (dk_at dksX4_goes_2 2 rfl rfl)
theorem dX4_goes_53 : decode cX4_goes 53 = .ok (.ireturn, 1) := dk_172 (dk_at dksX4_goes_2 5 rfl rfl)
def dkwX4_goesBy_3 : List UInt8 := [4, 100, 184, 1, 9, 79, 42, 180, 0, 23, 27, 46, 172]
abbrev dktX4_goesBy_3 : List UInt8 := dkwX4_goesBy_3 ++ []
def dkwX4_goesBy_2 : List UInt8 := [79, 167, 0, 29, 29, 153, 0, 25, 28, 158, 0, 21, 42, 180, 0, 26, 27, 3, 42, 180, 0, 26, 27, 46]
abbrev dktX4_goesBy_2 : List UInt8 := dkwX4_goesBy_2 ++ dktX4_goesBy_3
def dkwX4_goesBy_1 : List UInt8 := [182, 1, 41, 79, 42, 180, 0, 23, 27, 46, 42, 180, 0, 114, 160, 0, 14, 42, 180, 0, 26, 27, 16, 9]
abbrev dktX4_goesBy_1 : List UInt8 := dkwX4_goesBy_1 ++ dktX4_goesBy_2
def dkwX4_goesBy_0 : List UInt8 := [42, 27, 182, 0, 207, 62, 28, 158, 0, 20, 42, 180, 0, 23, 27, 42, 42, 180, 0, 23, 27, 46, 28]
abbrev dktX4_goesBy_0 : List UInt8 := dkwX4_goesBy_0 ++ dktX4_goesBy_1
theorem dksX4_goesBy_0 : cX4_goesBy.data.toList.drop 0 = dktX4_goesBy_0 := by decide +kernel
theorem dksX4_goesBy_1 : cX4_goesBy.data.toList.drop 23 = dktX4_goesBy_1 := dk_seg dksX4_goesBy_0 23 rfl rfl
theorem dksX4_goesBy_2 : cX4_goesBy.data.toList.drop 47 = dktX4_goesBy_2 := dk_seg dksX4_goesBy_1 24 rfl rfl
theorem dksX4_goesBy_3 : cX4_goesBy.data.toList.drop 71 = dktX4_goesBy_3 := dk_seg dksX4_goesBy_2 24 rfl rfl
theorem dX4_goesBy_0 : decode cX4_goesBy 0 = .ok (.aload_n 0, 1) := dk_42 (dk_at dksX4_goesBy_0 0 rfl rfl)
theorem dX4_goesBy_1 : decode cX4_goesBy 1 = .ok (.iload_n 1, 1) := dk_27 (dk_at dksX4_goesBy_0 1 rfl rfl)
theorem dX4_goesBy_2 : decode cX4_goesBy 2 = .ok (.invokevirtual 207, 3) := dk_182 0 207 (dk_at dksX4_goesBy_0 2 rfl rfl)
theorem dX4_goesBy_5 : decode cX4_goesBy 5 = .ok (.istore_n 3, 1) := dk_62 (dk_at dksX4_goesBy_0 5 rfl rfl)
theorem dX4_goesBy_6 : decode cX4_goesBy 6 = .ok (.iload_n 2, 1) := dk_28 (dk_at dksX4_goesBy_0 6 rfl rfl)
theorem dX4_goesBy_7 : decode cX4_goesBy 7 = .ok (.ifCond .le 20, 3) := dk_158 0 20 (dk_at dksX4_goesBy_0 7 rfl rfl)
theorem dX4_goesBy_10 : decode cX4_goesBy 10 = .ok (.aload_n 0, 1) := dk_42 (dk_at dksX4_goesBy_0 10 rfl rfl)
theorem dX4_goesBy_11 : decode cX4_goesBy 11 = .ok (.getfield 23, 3) := dk_180 0 23 (dk_at dksX4_goesBy_0 11 rfl rfl)
theorem dX4_goesBy_14 : decode cX4_goesBy 14 = .ok (.iload_n 1, 1) := dk_27 (dk_at dksX4_goesBy_0 14 rfl rfl)
theorem dX4_goesBy_15 : decode cX4_goesBy 15 = .ok (.aload_n 0, 1) := dk_42 (dk_at dksX4_goesBy_0 15 rfl rfl)
theorem dX4_goesBy_16 : decode cX4_goesBy 16 = .ok (.aload_n 0, 1) := dk_42 (dk_at dksX4_goesBy_0 16 rfl rfl)
theorem dX4_goesBy_17 : decode cX4_goesBy 17 = .ok (.getfield 23, 3) := dk_180 0 23 (dk_at dksX4_goesBy_0 17 rfl rfl)
theorem dX4_goesBy_20 : decode cX4_goesBy 20 = .ok (.iload_n 1, 1) := dk_27 (dk_at dksX4_goesBy_0 20 rfl rfl)
theorem dX4_goesBy_21 : decode cX4_goesBy 21 = .ok (.iaload, 1) := dk_46 (dk_at dksX4_goesBy_0 21 rfl rfl)
theorem dX4_goesBy_22 : decode cX4_goesBy 22 = .ok (.iload_n 2, 1) := dk_28 (dk_at dksX4_goesBy_0 22 rfl rfl)
theorem dX4_goesBy_23 : decode cX4_goesBy 23 = .ok (.invokevirtual 297, 3) := dk_182 1 41 (dk_at dksX4_goesBy_1 0 rfl rfl)
theorem dX4_goesBy_26 : decode cX4_goesBy 26 = .ok (.iastore, 1) := dk_79 (dk_at dksX4_goesBy_1 3 rfl rfl)
theorem dX4_goesBy_27 : decode cX4_goesBy 27 = .ok (.aload_n 0, 1) := dk_42 (dk_at dksX4_goesBy_1 4 rfl rfl)
theorem dX4_goesBy_28 : decode cX4_goesBy 28 = .ok (.getfield 23, 3) := dk_180 0 23 (dk_at dksX4_goesBy_1 5 rfl rfl)
theorem dX4_goesBy_31 : decode cX4_goesBy 31 = .ok (.iload_n 1, 1) := dk_27 (dk_at dksX4_goesBy_1 8 rfl rfl)
theorem dX4_goesBy_32 : decode cX4_goesBy 32 = .ok (.iaload, 1) := dk_46 (dk_at dksX4_goesBy_1 9 rfl rfl)
theorem dX4_goesBy_33 : decode cX4_goesBy 33 = .ok (.aload_n 0, 1) := dk_42 (dk_at dksX4_goesBy_1 10 rfl rfl)
theorem dX4_goesBy_34 : decode cX4_goesBy 34 = .ok (.getfield 114, 3) := dk_180 0 114 (dk_at dksX4_goesBy_1 11 rfl rfl)
theorem dX4_goesBy_37 : decode cX4_goesBy 37 = .ok (.if_icmp .ne 14, 3) := dk_160 0 14 (dk_at dksX4_goesBy_1 14 rfl rfl)
theorem dX4_goesBy_40 : decode cX4_goesBy 40 = .ok (.aload_n 0, 1) := dk_42 (dk_at dksX4_goesBy_1 17 rfl rfl)
theorem dX4_goesBy_41 : decode cX4_goesBy 41 = .ok (.getfield 26, 3) := dk_180 0 26 (dk_at dksX4_goesBy_1 18 rfl rfl)
theorem dX4_goesBy_44 : decode cX4_goesBy 44 = .ok (.iload_n 1, 1) := dk_27 (dk_at dksX4_goesBy_1 21 rfl rfl)
theorem dX4_goesBy_45 : decode cX4_goesBy 45 = .ok (.bipush 9, 2) := dk_16 9 (dk_at dksX4_goesBy_1 22 rfl rfl)
theorem dX4_goesBy_47 : decode cX4_goesBy 47 = .ok (.iastore, 1) := dk_79 (dk_at dksX4_goesBy_2 0 rfl rfl)
theorem dX4_goesBy_48 : decode cX4_goesBy 48 = .ok (.goto 29, 3) := dk_167 0 29 (dk_at dksX4_goesBy_2 1 rfl rfl)
theorem dX4_goesBy_51 : decode cX4_goesBy 51 = .ok (.iload_n 3, 1) := dk_29 (dk_at dksX4_goesBy_2 4 rfl rfl)
theorem dX4_goesBy_52 : decode cX4_goesBy 52 = .ok (.ifCond .eq 25, 3) := dk_153 0 25 (dk_at dksX4_goesBy_2 5 rfl rfl)
theorem dX4_goesBy_55 : decode cX4_goesBy 55 = .ok (.iload_n 2, 1) := dk_28 (dk_at dksX4_goesBy_2 8 rfl rfl)
theorem dX4_goesBy_56 : decode cX4_goesBy 56 = .ok (.ifCond .le 21, 3) := dk_158 0 21 (dk_at dksX4_goesBy_2 9 rfl rfl)
theorem dX4_goesBy_59 : decode cX4_goesBy 59 = .ok (.aload_n 0, 1) := dk_42 (dk_at dksX4_goesBy_2 12 rfl rfl)
theorem dX4_goesBy_60 : decode cX4_goesBy 60 = .ok (.getfield 26, 3) := dk_180 0 26 (dk_at dksX4_goesBy_2 13 rfl rfl)
theorem dX4_goesBy_63 : decode cX4_goesBy 63 = .ok (.iload_n 1, 1) := dk_27 (dk_at dksX4_goesBy_2 16 rfl rfl)
theorem dX4_goesBy_64 : decode cX4_goesBy 64 = .ok (.iconst 0, 1) := dk_3 (dk_at dksX4_goesBy_2 17 rfl rfl)
theorem dX4_goesBy_65 : decode cX4_goesBy 65 = .ok (.aload_n 0, 1) := dk_42 (dk_at dksX4_goesBy_2 18 rfl rfl)
theorem dX4_goesBy_66 : decode cX4_goesBy 66 = .ok (.getfield 26, 3) := dk_180 0 26 (dk_at dksX4_goesBy_2 19 rfl rfl)
theorem dX4_goesBy_69 : decode cX4_goesBy 69 = .ok (.iload_n 1, 1) := dk_27 (dk_at dksX4_goesBy_2 22 rfl rfl)
theorem dX4_goesBy_70 : decode cX4_goesBy 70 = .ok (.iaload, 1) := dk_46 (dk_at dksX4_goesBy_2 23 rfl rfl)
theorem dX4_goesBy_71 : decode cX4_goesBy 71 = .ok (.iconst 1, 1) := dk_4 (dk_at dksX4_goesBy_3 0 rfl rfl)
theorem dX4_goesBy_72 : decode cX4_goesBy 72 = .ok (.isub, 1) := dk_100 (dk_at dksX4_goesBy_3 1 rfl rfl)
theorem dX4_goesBy_73 : decode cX4_goesBy 73 = .ok (.invokestatic 265, 3) := dk_184 1 9 (dk_at dksX4_goesBy_3 2 rfl rfl)
theorem dX4_goesBy_76 : decode cX4_goesBy 76 = .ok (.iastore, 1) := dk_79 (dk_at dksX4_goesBy_3 5 rfl rfl)
theorem dX4_goesBy_77 : decode cX4_goesBy 77 = .ok (.aload_n 0, 1) := dk_42 (dk_at dksX4_goesBy_3 6 rfl rfl)
theorem dX4_goesBy_78 : decode cX4_goesBy 78 = .ok (.getfield 23, 3) := dk_180 0 23 (dk_at dksX4_goesBy_3 7 rfl rfl)
theorem dX4_goesBy_81 : decode cX4_goesBy 81 = .ok (.iload_n 1, 1) := dk_27 (dk_at dksX4_goesBy_3 10 rfl rfl)
theorem dX4_goesBy_82 : decode cX4_goesBy 82 = .ok (.iaload, 1) := dk_46 (dk_at dksX4_goesBy_3 11 rfl rfl)
theorem dX4_goesBy_83 : decode cX4_goesBy 83 = .ok (.ireturn, 1) := dk_172 (dk_at dksX4_goesBy_3 12 rfl rfl)
def dkwX4_days_1 : List UInt8 := [42, 182, 1, 69, 132, 2, 1, 167, 255, 244, 42, 182, 1, 72, 172]
abbrev dktX4_days_1 : List UInt8 := dkwX4_days_1 ++ []
def dkwX4_days_0 : List UInt8 := [27, 4, 16, 60, 184, 0, 79, 154, 0, 10, 42, 16, 254, 182, 0, 87, 172, 3, 61, 28, 27, 162, 0, 13]
abbrev dktX4_days_0 : List UInt8 := dkwX4_days_0 ++ dktX4_days_1
theorem dksX4_days_0 : cX4_days.data.toList.drop 0 = dktX4_days_0 := by decide +kernel
theorem dksX4_days_1 : cX4_days.data.toList.drop 24 = dktX4_days_1 := dk_seg dksX4_days_0 24 rfl rfl
theorem dX4_days_0 : decode cX4_days 0 = .ok (.iload_n 1, 1) := dk_27 (dk_at dksX4_days_0 0 rfl rfl)
theorem dX4_days_1 : decode cX4_days 1 = .ok (.iconst 1, 1) := dk_4 (dk_at dksX4_days_0 1 rfl rfl)
theorem dX4_days_2 : decode cX4_days 2 = .ok (.bipush 60, 2) := dk_16 60 (dk_at dksX4_days_0 2 rfl rfl)
theorem dX4_days_4 : decode cX4_days 4 = .ok (.invokestatic 79, 3) := dk_184 0 79 (dk_at dksX4_days_0 4 rfl rfl)
theorem dX4_days_7 : decode cX4_days 7 = .ok (.ifCond .ne 10, 3) := dk_154 0 10 (dk_at dksX4_days_0 7 rfl rfl)
theorem dX4_days_10 : decode cX4_days 10 = .ok (.aload_n 0, 1) := dk_42 (dk_at dksX4_days_0 10 rfl rfl)
theorem dX4_days_11 : decode cX4_days 11 = .ok (.bipush (-2), 2) := dk_16 254 (dk_at dksX4_days_0 11 rfl rfl)
theorem dX4_days_13 : decode cX4_days 13 = .ok (.invokevirtual 87, 3) := dk_182 0 87 (dk_at dksX4_days_0 13 rfl rfl)
theorem dX4_days_16 : decode cX4_days 16 = .ok (.ireturn, 1) := dk_172 (dk_at dksX4_days_0 16 rfl rfl)
theorem dX4_days_17 : decode cX4_days 17 = .ok (.iconst 0, 1) := dk_3 (dk_at dksX4_days_0 17 rfl rfl)
theorem dX4_days_18 : decode cX4_days 18 = .ok (.istore_n 2, 1) := dk_61 (dk_at dksX4_days_0 18 rfl rfl)
theorem dX4_days_19 : decode cX4_days 19 = .ok (.iload_n 2, 1) := dk_28 (dk_at dksX4_days_0 19 rfl rfl)
theorem dX4_days_20 : decode cX4_days 20 = .ok (.iload_n 1, 1) := dk_27 (dk_at dksX4_days_0 20 rfl rfl)
theorem dX4_days_21 : decode cX4_days 21 = .ok (.if_icmp .ge 13, 3) := dk_162 0 13 (dk_at dksX4_days_0 21 rfl rfl)
theorem dX4_days_24 : decode cX4_days 24 = .ok (.aload_n 0, 1) := dk_42 (dk_at dksX4_days_1 0 rfl rfl)
theorem dX4_days_25 : decode cX4_days 25 = .ok (.invokevirtual 325, 3) := dk_182 1 69 (dk_at dksX4_days_1 1 rfl rfl)
theorem dX4_days_28 : decode cX4_days 28 = .ok (.iinc 2 1, 3) := dk_132 2 1 (dk_at dksX4_days_1 4 rfl rfl)
theorem dX4_days_31 : decode cX4_days 31 = .ok (.goto (-12), 3) := dk_167 255 244 (dk_at dksX4_days_1 7 rfl rfl)
theorem dX4_days_34 : decode cX4_days 34 = .ok (.aload_n 0, 1) := dk_42 (dk_at dksX4_days_1 10 rfl rfl)
theorem dX4_days_35 : decode cX4_days 35 = .ok (.invokevirtual 328, 3) := dk_182 1 72 (dk_at dksX4_days_1 11 rfl rfl)
theorem dX4_days_38 : decode cX4_days 38 = .ok (.ireturn, 1) := dk_172 (dk_at dksX4_days_1 14 rfl rfl)
def dkwX4_day_4 : List UInt8 := [184, 1, 9, 182, 1, 62, 87, 132, 1, 1, 167, 255, 213, 177]
abbrev dktX4_day_4 : List UInt8 := dkwX4_day_4 ++ []
def dkwX4_day_3 : List UInt8 := [182, 0, 207, 154, 0, 27, 42, 27, 3, 42, 42, 180, 0, 23, 27, 46, 42, 180, 0, 114, 182, 1, 50]
abbrev dktX4_day_3 : List UInt8 := dkwX4_day_3 ++ dktX4_day_4
def dkwX4_day_2 : List UInt8 := [3, 182, 1, 62, 87, 132, 1, 1, 167, 255, 203, 3, 60, 27, 42, 180, 0, 76, 162, 0, 41, 42, 27]
abbrev dktX4_day_2 : List UInt8 := dkwX4_day_2 ++ dktX4_day_3
def dkwX4_day_1 : List UInt8 := [182, 1, 66, 61, 42, 27, 42, 42, 180, 0, 23, 27, 46, 28, 182, 1, 44, 153, 0, 7, 28, 167, 0, 4]
abbrev dktX4_day_1 : List UInt8 := dkwX4_day_1 ++ dktX4_day_2
def dkwX4_day_0 : List UInt8 := [3, 60, 27, 42, 180, 0, 76, 162, 0, 51, 42, 27, 182, 0, 207, 154, 0, 6, 167, 0, 34, 42, 8]
abbrev dktX4_day_0 : List UInt8 := dkwX4_day_0 ++ dktX4_day_1
theorem dksX4_day_0 : cX4_day.data.toList.drop 0 = dktX4_day_0 := by decide +kernel
theorem dksX4_day_1 : cX4_day.data.toList.drop 23 = dktX4_day_1 := dk_seg dksX4_day_0 23 rfl rfl
theorem dksX4_day_2 : cX4_day.data.toList.drop 47 = dktX4_day_2 := dk_seg dksX4_day_1 24 rfl rfl
theorem dksX4_day_3 : cX4_day.data.toList.drop 70 = dktX4_day_3 := dk_seg dksX4_day_2 23 rfl rfl
theorem dksX4_day_4 : cX4_day.data.toList.drop 93 = dktX4_day_4 := dk_seg dksX4_day_3 23 rfl rfl
theorem dX4_day_0 : decode cX4_day 0 = .ok (.iconst 0, 1) := dk_3 (dk_at dksX4_day_0 0 rfl rfl)
theorem dX4_day_1 : decode cX4_day 1 = .ok (.istore_n 1, 1) := dk_60 (dk_at dksX4_day_0 1 rfl rfl)
theorem dX4_day_2 : decode cX4_day 2 = .ok (.iload_n 1, 1) := dk_27 (dk_at dksX4_day_0 2 rfl rfl)
theorem dX4_day_3 : decode cX4_day 3 = .ok (.aload_n 0, 1) := dk_42 (dk_at dksX4_day_0 3 rfl rfl)
theorem dX4_day_4 : decode cX4_day 4 = .ok (.getfield 76, 3) := dk_180 0 76 (dk_at dksX4_day_0 4 rfl rfl)
theorem dX4_day_7 : decode cX4_day 7 = .ok (.if_icmp .ge 51, 3) := dk_162 0 51 (dk_at dksX4_day_0 7 rfl rfl)
theorem dX4_day_10 : decode cX4_day 10 = .ok (.aload_n 0, 1) := dk_42 (dk_at dksX4_day_0 10 rfl rfl)
theorem dX4_day_11 : decode cX4_day 11 = .ok (.iload_n 1, 1) := dk_27 (dk_at dksX4_day_0 11 rfl rfl)
theorem dX4_day_12 : decode cX4_day 12 = .ok (.invokevirtual 207, 3) := dk_182 0 207 (dk_at dksX4_day_0 12 rfl rfl)
theorem dX4_day_15 : decode cX4_day 15 = .ok (.ifCond .ne 6, 3) := dk_154 0 6 (dk_at dksX4_day_0 15 rfl rfl)
theorem dX4_day_18 : decode cX4_day 18 = .ok (.goto 34, 3) := dk_167 0 34 (dk_at dksX4_day_0 18 rfl rfl)
theorem dX4_day_21 : decode cX4_day 21 = .ok (.aload_n 0, 1) := dk_42 (dk_at dksX4_day_0 21 rfl rfl)
theorem dX4_day_22 : decode cX4_day 22 = .ok (.iconst 5, 1) := dk_8 (dk_at dksX4_day_0 22 rfl rfl)
theorem dX4_day_23 : decode cX4_day 23 = .ok (.invokevirtual 322, 3) := dk_182 1 66 (dk_at dksX4_day_1 0 rfl rfl)
theorem dX4_day_26 : decode cX4_day 26 = .ok (.istore_n 2, 1) := dk_61 (dk_at dksX4_day_1 3 rfl rfl)
theorem dX4_day_27 : decode cX4_day 27 = .ok (.aload_n 0, 1) := dk_42 (dk_at dksX4_day_1 4 rfl rfl)
theorem dX4_day_28 : decode cX4_day 28 = .ok (.iload_n 1, 1) := dk_27 (dk_at dksX4_day_1 5 rfl rfl)
theorem dX4_day_29 : decode cX4_day 29 = .ok (.aload_n 0, 1) := dk_42 (dk_at dksX4_day_1 6 rfl rfl)
theorem dX4_day_30 : decode cX4_day 30 = .ok (.aload_n 0, 1) := dk_42 (dk_at dksX4_day_1 7 rfl rfl)
theorem dX4_day_31 : decode cX4_day 31 = .ok (.getfield 23, 3) := dk_180 0 23 (dk_at dksX4_day_1 8 rfl rfl)
theorem dX4_day_34 : decode cX4_day 34 = .ok (.iload_n 1, 1) := dk_27 (dk_at dksX4_day_1 11 rfl rfl)
theorem dX4_day_35 : decode cX4_day 35 = .ok (.iaload, 1) := dk_46 (dk_at dksX4_day_1 12 rfl rfl)
theorem dX4_day_36 : decode cX4_day 36 = .ok (.iload_n 2, 1) := dk_28 (dk_at dksX4_day_1 13 rfl rfl)
theorem dX4_day_37 : decode cX4_day 37 = .ok (.invokevirtual 300, 3) := dk_182 1 44 (dk_at dksX4_day_1 14 rfl rfl)
theorem dX4_day_40 : decode cX4_day 40 = .ok (.ifCond .eq 7, 3) := dk_153 0 7 (dk_at dksX4_day_1 17 rfl rfl)
theorem dX4_day_43 : decode cX4_day 43 = .ok (.iload_n 2, 1) := dk_28 (dk_at dksX4_day_1 20 rfl rfl)
theorem dX4_day_44 : decode cX4_day 44 = .ok (.goto 4, 3) := dk_167 0 4 (dk_at dksX4_day_1 21 rfl rfl)
theorem dX4_day_47 : decode cX4_day 47 = .ok (.iconst 0, 1) := dk_3 (dk_at dksX4_day_2 0 rfl rfl)
theorem dX4_day_48 : decode cX4_day 48 = .ok (.invokevirtual 318, 3) := dk_182 1 62 (dk_at dksX4_day_2 1 rfl rfl)
theorem dX4_day_51 : decode cX4_day 51 = .ok (.pop, 1) := dk_87 (dk_at dksX4_day_2 4 rfl rfl)
theorem dX4_day_52 : decode cX4_day 52 = .ok (.iinc 1 1, 3) := dk_132 1 1 (dk_at dksX4_day_2 5 rfl rfl)
theorem dX4_day_55 : decode cX4_day 55 = .ok (.goto (-53), 3) := dk_167 255 203 (dk_at dksX4_day_2 8 rfl rfl)
theorem dX4_day_58 : decode cX4_day 58 = .ok (.iconst 0, 1) := dk_3 (dk_at dksX4_day_2 11 rfl rfl)
theorem dX4_day_59 : decode cX4_day 59 = .ok (.istore_n 1, 1) := dk_60 (dk_at dksX4_day_2 12 rfl rfl)
theorem dX4_day_60 : decode cX4_day 60 = .ok (.iload_n 1, 1) := dk_27 (dk_at dksX4_day_2 13 rfl rfl)
theorem dX4_day_61 : decode cX4_day 61 = .ok (.aload_n 0, 1) := dk_42 (dk_at dksX4_day_2 14 rfl rfl)
theorem dX4_day_62 : decode cX4_day 62 = .ok (.getfield 76, 3) := dk_180 0 76 (dk_at dksX4_day_2 15 rfl rfl)
theorem dX4_day_65 : decode cX4_day 65 = .ok (.if_icmp .ge 41, 3) := dk_162 0 41 (dk_at dksX4_day_2 18 rfl rfl)
theorem dX4_day_68 : decode cX4_day 68 = .ok (.aload_n 0, 1) := dk_42 (dk_at dksX4_day_2 21 rfl rfl)
theorem dX4_day_69 : decode cX4_day 69 = .ok (.iload_n 1, 1) := dk_27 (dk_at dksX4_day_2 22 rfl rfl)
theorem dX4_day_70 : decode cX4_day 70 = .ok (.invokevirtual 207, 3) := dk_182 0 207 (dk_at dksX4_day_3 0 rfl rfl)
theorem dX4_day_73 : decode cX4_day 73 = .ok (.ifCond .ne 27, 3) := dk_154 0 27 (dk_at dksX4_day_3 3 rfl rfl)
theorem dX4_day_76 : decode cX4_day 76 = .ok (.aload_n 0, 1) := dk_42 (dk_at dksX4_day_3 6 rfl rfl)
theorem dX4_day_77 : decode cX4_day 77 = .ok (.iload_n 1, 1) := dk_27 (dk_at dksX4_day_3 7 rfl rfl)
theorem dX4_day_78 : decode cX4_day 78 = .ok (.iconst 0, 1) := dk_3 (dk_at dksX4_day_3 8 rfl rfl)
theorem dX4_day_79 : decode cX4_day 79 = .ok (.aload_n 0, 1) := dk_42 (dk_at dksX4_day_3 9 rfl rfl)
theorem dX4_day_80 : decode cX4_day 80 = .ok (.aload_n 0, 1) := dk_42 (dk_at dksX4_day_3 10 rfl rfl)
theorem dX4_day_81 : decode cX4_day 81 = .ok (.getfield 23, 3) := dk_180 0 23 (dk_at dksX4_day_3 11 rfl rfl)
theorem dX4_day_84 : decode cX4_day 84 = .ok (.iload_n 1, 1) := dk_27 (dk_at dksX4_day_3 14 rfl rfl)
theorem dX4_day_85 : decode cX4_day 85 = .ok (.iaload, 1) := dk_46 (dk_at dksX4_day_3 15 rfl rfl)
theorem dX4_day_86 : decode cX4_day 86 = .ok (.aload_n 0, 1) := dk_42 (dk_at dksX4_day_3 16 rfl rfl)
theorem dX4_day_87 : decode cX4_day 87 = .ok (.getfield 114, 3) := dk_180 0 114 (dk_at dksX4_day_3 17 rfl rfl)
theorem dX4_day_90 : decode cX4_day 90 = .ok (.invokevirtual 306, 3) := dk_182 1 50 (dk_at dksX4_day_3 20 rfl rfl)
theorem dX4_day_93 : decode cX4_day 93 = .ok (.invokestatic 265, 3) := dk_184 1 9 (dk_at dksX4_day_4 0 rfl rfl)
theorem dX4_day_96 : decode cX4_day 96 = .ok (.invokevirtual 318, 3) := dk_182 1 62 (dk_at dksX4_day_4 3 rfl rfl)
theorem dX4_day_99 : decode cX4_day 99 = .ok (.pop, 1) := dk_87 (dk_at dksX4_day_4 6 rfl rfl)
theorem dX4_day_100 : decode cX4_day 100 = .ok (.iinc 1 1, 3) := dk_132 1 1 (dk_at dksX4_day_4 7 rfl rfl)
theorem dX4_day_103 : decode cX4_day 103 = .ok (.goto (-43), 3) := dk_167 255 213 (dk_at dksX4_day_4 10 rfl rfl)
theorem dX4_day_106 : decode cX4_day 106 = .ok (.return_, 1) := dk_177 (dk_at dksX4_day_4 13 rfl rfl)
def dkwX4_draw_1 : List UInt8 := [112, 172]
abbrev dktX4_draw_1 : List UInt8 := dkwX4_draw_1 ++ []
def dkwX4_draw_0 : List UInt8 := [42, 42, 180, 0, 64, 19, 1, 65, 104, 17, 48, 57, 96, 181, 0, 64, 42, 180, 0, 64, 16, 16, 124, 27]
abbrev dktX4_draw_0 : List UInt8 := dkwX4_draw_0 ++ dktX4_draw_1
theorem dksX4_draw_0 : cX4_draw.data.toList.drop 0 = dktX4_draw_0 := by decide +kernel
theorem dksX4_draw_1 : cX4_draw.data.toList.drop 24 = dktX4_draw_1 := dk_seg dksX4_draw_0 24 rfl rfl
theorem dX4_draw_0 : decode cX4_draw 0 = .ok (.aload_n 0, 1) := dk_42 (dk_at dksX4_draw_0 0 rfl rfl)
theorem dX4_draw_1 : decode cX4_draw 1 = .ok (.aload_n 0, 1) := dk_42 (dk_at dksX4_draw_0 1 rfl rfl)
theorem dX4_draw_2 : decode cX4_draw 2 = .ok (.getfield 64, 3) := dk_180 0 64 (dk_at dksX4_draw_0 2 rfl rfl)
theorem dX4_draw_5 : decode cX4_draw 5 = .ok (.ldc_w 321, 3) := dk_19 1 65 (dk_at dksX4_draw_0 5 rfl rfl)
theorem dX4_draw_8 : decode cX4_draw 8 = .ok (.imul, 1) := dk_104 (dk_at dksX4_draw_0 8 rfl rfl)
theorem dX4_draw_9 : decode cX4_draw 9 = .ok (.sipush 12345, 3) := dk_17 48 57 (dk_at dksX4_draw_0 9 rfl rfl)
theorem dX4_draw_12 : decode cX4_draw 12 = .ok (.iadd, 1) := dk_96 (dk_at dksX4_draw_0 12 rfl rfl)
theorem dX4_draw_13 : decode cX4_draw 13 = .ok (.putfield 64, 3) := dk_181 0 64 (dk_at dksX4_draw_0 13 rfl rfl)
theorem dX4_draw_16 : decode cX4_draw 16 = .ok (.aload_n 0, 1) := dk_42 (dk_at dksX4_draw_0 16 rfl rfl)
theorem dX4_draw_17 : decode cX4_draw 17 = .ok (.getfield 64, 3) := dk_180 0 64 (dk_at dksX4_draw_0 17 rfl rfl)
theorem dX4_draw_20 : decode cX4_draw 20 = .ok (.bipush 16, 2) := dk_16 16 (dk_at dksX4_draw_0 20 rfl rfl)
theorem dX4_draw_22 : decode cX4_draw 22 = .ok (.iushr, 1) := dk_124 (dk_at dksX4_draw_0 22 rfl rfl)
theorem dX4_draw_23 : decode cX4_draw 23 = .ok (.iload_n 1, 1) := dk_27 (dk_at dksX4_draw_0 23 rfl rfl)
theorem dX4_draw_24 : decode cX4_draw 24 = .ok (.irem, 1) := dk_112 (dk_at dksX4_draw_1 0 rfl rfl)
theorem dX4_draw_25 : decode cX4_draw 25 = .ok (.ireturn, 1) := dk_172 (dk_at dksX4_draw_1 1 rfl rfl)
def dkwX4_sureOnes_1 : List UInt8 := [132, 2, 1, 167, 255, 234, 27, 172]
abbrev dktX4_sureOnes_1 : List UInt8 := dkwX4_sureOnes_1 ++ []
def dkwX4_sureOnes_0 : List UInt8 := [3, 60, 3, 61, 28, 42, 180, 0, 76, 162, 0, 20, 42, 28, 182, 0, 207, 154, 0, 6, 132, 1, 1]
abbrev dktX4_sureOnes_0 : List UInt8 := dkwX4_sureOnes_0 ++ dktX4_sureOnes_1
theorem dksX4_sureOnes_0 : cX4_sureOnes.data.toList.drop 0 = dktX4_sureOnes_0 := by decide +kernel
theorem dksX4_sureOnes_1 : cX4_sureOnes.data.toList.drop 23 = dktX4_sureOnes_1 := dk_seg dksX4_sureOnes_0 23 rfl rfl
theorem dX4_sureOnes_0 : decode cX4_sureOnes 0 = .ok (.iconst 0, 1) := dk_3 (dk_at dksX4_sureOnes_0 0 rfl rfl)
theorem dX4_sureOnes_1 : decode cX4_sureOnes 1 = .ok (.istore_n 1, 1) := dk_60 (dk_at dksX4_sureOnes_0 1 rfl rfl)
theorem dX4_sureOnes_2 : decode cX4_sureOnes 2 = .ok (.iconst 0, 1) := dk_3 (dk_at dksX4_sureOnes_0 2 rfl rfl)
theorem dX4_sureOnes_3 : decode cX4_sureOnes 3 = .ok (.istore_n 2, 1) := dk_61 (dk_at dksX4_sureOnes_0 3 rfl rfl)
theorem dX4_sureOnes_4 : decode cX4_sureOnes 4 = .ok (.iload_n 2, 1) := dk_28 (dk_at dksX4_sureOnes_0 4 rfl rfl)
theorem dX4_sureOnes_5 : decode cX4_sureOnes 5 = .ok (.aload_n 0, 1) := dk_42 (dk_at dksX4_sureOnes_0 5 rfl rfl)
theorem dX4_sureOnes_6 : decode cX4_sureOnes 6 = .ok (.getfield 76, 3) := dk_180 0 76 (dk_at dksX4_sureOnes_0 6 rfl rfl)
theorem dX4_sureOnes_9 : decode cX4_sureOnes 9 = .ok (.if_icmp .ge 20, 3) := dk_162 0 20 (dk_at dksX4_sureOnes_0 9 rfl rfl)
theorem dX4_sureOnes_12 : decode cX4_sureOnes 12 = .ok (.aload_n 0, 1) := dk_42 (dk_at dksX4_sureOnes_0 12 rfl rfl)
theorem dX4_sureOnes_13 : decode cX4_sureOnes 13 = .ok (.iload_n 2, 1) := dk_28 (dk_at dksX4_sureOnes_0 13 rfl rfl)
theorem dX4_sureOnes_14 : decode cX4_sureOnes 14 = .ok (.invokevirtual 207, 3) := dk_182 0 207 (dk_at dksX4_sureOnes_0 14 rfl rfl)
theorem dX4_sureOnes_17 : decode cX4_sureOnes 17 = .ok (.ifCond .ne 6, 3) := dk_154 0 6 (dk_at dksX4_sureOnes_0 17 rfl rfl)
theorem dX4_sureOnes_20 : decode cX4_sureOnes 20 = .ok (.iinc 1 1, 3) := dk_132 1 1 (dk_at dksX4_sureOnes_0 20 rfl rfl)
theorem dX4_sureOnes_23 : decode cX4_sureOnes 23 = .ok (.iinc 2 1, 3) := dk_132 2 1 (dk_at dksX4_sureOnes_1 0 rfl rfl)
theorem dX4_sureOnes_26 : decode cX4_sureOnes 26 = .ok (.goto (-22), 3) := dk_167 255 234 (dk_at dksX4_sureOnes_1 3 rfl rfl)
theorem dX4_sureOnes_29 : decode cX4_sureOnes 29 = .ok (.iload_n 1, 1) := dk_27 (dk_at dksX4_sureOnes_1 6 rfl rfl)
theorem dX4_sureOnes_30 : decode cX4_sureOnes 30 = .ok (.ireturn, 1) := dk_172 (dk_at dksX4_sureOnes_1 7 rfl rfl)
def dkwX4_seed_0 : List UInt8 := [42, 180, 0, 64, 61, 42, 27, 181, 0, 64, 28, 172]
abbrev dktX4_seed_0 : List UInt8 := dkwX4_seed_0 ++ []
theorem dksX4_seed_0 : cX4_seed.data.toList.drop 0 = dktX4_seed_0 := by decide +kernel
theorem dX4_seed_0 : decode cX4_seed 0 = .ok (.aload_n 0, 1) := dk_42 (dk_at dksX4_seed_0 0 rfl rfl)
theorem dX4_seed_1 : decode cX4_seed 1 = .ok (.getfield 64, 3) := dk_180 0 64 (dk_at dksX4_seed_0 1 rfl rfl)
theorem dX4_seed_4 : decode cX4_seed 4 = .ok (.istore_n 2, 1) := dk_61 (dk_at dksX4_seed_0 4 rfl rfl)
theorem dX4_seed_5 : decode cX4_seed 5 = .ok (.aload_n 0, 1) := dk_42 (dk_at dksX4_seed_0 5 rfl rfl)
theorem dX4_seed_6 : decode cX4_seed 6 = .ok (.iload_n 1, 1) := dk_27 (dk_at dksX4_seed_0 6 rfl rfl)
theorem dX4_seed_7 : decode cX4_seed 7 = .ok (.putfield 64, 3) := dk_181 0 64 (dk_at dksX4_seed_0 7 rfl rfl)
theorem dX4_seed_10 : decode cX4_seed 10 = .ok (.iload_n 2, 1) := dk_28 (dk_at dksX4_seed_0 10 rfl rfl)
theorem dX4_seed_11 : decode cX4_seed 11 = .ok (.ireturn, 1) := dk_172 (dk_at dksX4_seed_0 11 rfl rfl)
def dkwX4_image_0 : List UInt8 := [42, 4, 181, 1, 75, 42, 42, 180, 0, 45, 182, 0, 185, 4, 172]
abbrev dktX4_image_0 : List UInt8 := dkwX4_image_0 ++ []
theorem dksX4_image_0 : cX4_image.data.toList.drop 0 = dktX4_image_0 := by decide +kernel
theorem dX4_image_0 : decode cX4_image 0 = .ok (.aload_n 0, 1) := dk_42 (dk_at dksX4_image_0 0 rfl rfl)
theorem dX4_image_1 : decode cX4_image 1 = .ok (.iconst 1, 1) := dk_4 (dk_at dksX4_image_0 1 rfl rfl)
theorem dX4_image_2 : decode cX4_image 2 = .ok (.putfield 331, 3) := dk_181 1 75 (dk_at dksX4_image_0 2 rfl rfl)
theorem dX4_image_5 : decode cX4_image 5 = .ok (.aload_n 0, 1) := dk_42 (dk_at dksX4_image_0 5 rfl rfl)
theorem dX4_image_6 : decode cX4_image 6 = .ok (.aload_n 0, 1) := dk_42 (dk_at dksX4_image_0 6 rfl rfl)
theorem dX4_image_7 : decode cX4_image 7 = .ok (.getfield 45, 3) := dk_180 0 45 (dk_at dksX4_image_0 7 rfl rfl)
theorem dX4_image_10 : decode cX4_image 10 = .ok (.invokevirtual 185, 3) := dk_182 0 185 (dk_at dksX4_image_0 10 rfl rfl)
theorem dX4_image_13 : decode cX4_image 13 = .ok (.iconst 1, 1) := dk_4 (dk_at dksX4_image_0 13 rfl rfl)
theorem dX4_image_14 : decode cX4_image 14 = .ok (.ireturn, 1) := dk_172 (dk_at dksX4_image_0 14 rfl rfl)
def dkwX4_back_2 : List UInt8 := [180, 0, 32, 27, 2, 79, 132, 1, 1, 167, 255, 224, 4, 172]
abbrev dktX4_back_2 : List UInt8 := dkwX4_back_2 ++ []
def dkwX4_back_1 : List UInt8 := [27, 16, 8, 162, 0, 32, 42, 180, 0, 32, 27, 46, 16, 10, 42, 180, 0, 73, 96, 161, 0, 10, 42]
abbrev dktX4_back_1 : List UInt8 := dkwX4_back_1 ++ dktX4_back_2
def dkwX4_back_0 : List UInt8 := [42, 180, 1, 75, 154, 0, 10, 42, 16, 251, 182, 0, 87, 172, 42, 42, 180, 0, 45, 182, 0, 193, 3, 60]
abbrev dktX4_back_0 : List UInt8 := dkwX4_back_0 ++ dktX4_back_1
theorem dksX4_back_0 : cX4_back.data.toList.drop 0 = dktX4_back_0 := by decide +kernel
theorem dksX4_back_1 : cX4_back.data.toList.drop 24 = dktX4_back_1 := dk_seg dksX4_back_0 24 rfl rfl
theorem dksX4_back_2 : cX4_back.data.toList.drop 47 = dktX4_back_2 := dk_seg dksX4_back_1 23 rfl rfl
theorem dX4_back_0 : decode cX4_back 0 = .ok (.aload_n 0, 1) := dk_42 (dk_at dksX4_back_0 0 rfl rfl)
theorem dX4_back_1 : decode cX4_back 1 = .ok (.getfield 331, 3) := dk_180 1 75 (dk_at dksX4_back_0 1 rfl rfl)
theorem dX4_back_4 : decode cX4_back 4 = .ok (.ifCond .ne 10, 3) := dk_154 0 10 (dk_at dksX4_back_0 4 rfl rfl)
theorem dX4_back_7 : decode cX4_back 7 = .ok (.aload_n 0, 1) := dk_42 (dk_at dksX4_back_0 7 rfl rfl)
theorem dX4_back_8 : decode cX4_back 8 = .ok (.bipush (-5), 2) := dk_16 251 (dk_at dksX4_back_0 8 rfl rfl)
theorem dX4_back_10 : decode cX4_back 10 = .ok (.invokevirtual 87, 3) := dk_182 0 87 (dk_at dksX4_back_0 10 rfl rfl)
theorem dX4_back_13 : decode cX4_back 13 = .ok (.ireturn, 1) := dk_172 (dk_at dksX4_back_0 13 rfl rfl)
theorem dX4_back_14 : decode cX4_back 14 = .ok (.aload_n 0, 1) := dk_42 (dk_at dksX4_back_0 14 rfl rfl)
theorem dX4_back_15 : decode cX4_back 15 = .ok (.aload_n 0, 1) := dk_42 (dk_at dksX4_back_0 15 rfl rfl)
theorem dX4_back_16 : decode cX4_back 16 = .ok (.getfield 45, 3) := dk_180 0 45 (dk_at dksX4_back_0 16 rfl rfl)
theorem dX4_back_19 : decode cX4_back 19 = .ok (.invokevirtual 193, 3) := dk_182 0 193 (dk_at dksX4_back_0 19 rfl rfl)
theorem dX4_back_22 : decode cX4_back 22 = .ok (.iconst 0, 1) := dk_3 (dk_at dksX4_back_0 22 rfl rfl)
theorem dX4_back_23 : decode cX4_back 23 = .ok (.istore_n 1, 1) := dk_60 (dk_at dksX4_back_0 23 rfl rfl)
theorem dX4_back_24 : decode cX4_back 24 = .ok (.iload_n 1, 1) := dk_27 (dk_at dksX4_back_1 0 rfl rfl)
theorem dX4_back_25 : decode cX4_back 25 = .ok (.bipush 8, 2) := dk_16 8 (dk_at dksX4_back_1 1 rfl rfl)
theorem dX4_back_27 : decode cX4_back 27 = .ok (.if_icmp .ge 32, 3) := dk_162 0 32 (dk_at dksX4_back_1 3 rfl rfl)
theorem dX4_back_30 : decode cX4_back 30 = .ok (.aload_n 0, 1) := dk_42 (dk_at dksX4_back_1 6 rfl rfl)
theorem dX4_back_31 : decode cX4_back 31 = .ok (.getfield 32, 3) := dk_180 0 32 (dk_at dksX4_back_1 7 rfl rfl)
theorem dX4_back_34 : decode cX4_back 34 = .ok (.iload_n 1, 1) := dk_27 (dk_at dksX4_back_1 10 rfl rfl)
theorem dX4_back_35 : decode cX4_back 35 = .ok (.iaload, 1) := dk_46 (dk_at dksX4_back_1 11 rfl rfl)
theorem dX4_back_36 : decode cX4_back 36 = .ok (.bipush 10, 2) := dk_16 10 (dk_at dksX4_back_1 12 rfl rfl)
theorem dX4_back_38 : decode cX4_back 38 = .ok (.aload_n 0, 1) := dk_42 (dk_at dksX4_back_1 14 rfl rfl)
theorem dX4_back_39 : decode cX4_back 39 = .ok (.getfield 73, 3) := dk_180 0 73 (dk_at dksX4_back_1 15 rfl rfl)
theorem dX4_back_42 : decode cX4_back 42 = .ok (.iadd, 1) := dk_96 (dk_at dksX4_back_1 18 rfl rfl)
theorem dX4_back_43 : decode cX4_back 43 = .ok (.if_icmp .lt 10, 3) := dk_161 0 10 (dk_at dksX4_back_1 19 rfl rfl)
theorem dX4_back_46 : decode cX4_back 46 = .ok (.aload_n 0, 1) := dk_42 (dk_at dksX4_back_1 22 rfl rfl)
theorem dX4_back_47 : decode cX4_back 47 = .ok (.getfield 32, 3) := dk_180 0 32 (dk_at dksX4_back_2 0 rfl rfl)
theorem dX4_back_50 : decode cX4_back 50 = .ok (.iload_n 1, 1) := dk_27 (dk_at dksX4_back_2 3 rfl rfl)
theorem dX4_back_51 : decode cX4_back 51 = .ok (.iconst (-1), 1) := dk_2 (dk_at dksX4_back_2 4 rfl rfl)
theorem dX4_back_52 : decode cX4_back 52 = .ok (.iastore, 1) := dk_79 (dk_at dksX4_back_2 5 rfl rfl)
theorem dX4_back_53 : decode cX4_back 53 = .ok (.iinc 1 1, 3) := dk_132 1 1 (dk_at dksX4_back_2 6 rfl rfl)
theorem dX4_back_56 : decode cX4_back 56 = .ok (.goto (-32), 3) := dk_167 255 224 (dk_at dksX4_back_2 9 rfl rfl)
theorem dX4_back_59 : decode cX4_back 59 = .ok (.iconst 1, 1) := dk_4 (dk_at dksX4_back_2 12 rfl rfl)
theorem dX4_back_60 : decode cX4_back 60 = .ok (.ireturn, 1) := dk_172 (dk_at dksX4_back_2 13 rfl rfl)
def dkwX4_status_7 : List UInt8 := [167, 0, 4, 2, 172]
abbrev dktX4_status_7 : List UInt8 := dkwX4_status_7 ++ []
def dkwX4_status_6 : List UInt8 := [28, 172, 27, 16, 12, 16, 16, 184, 0, 79, 153, 0, 15, 42, 180, 0, 42, 27, 16, 10, 100, 46]
abbrev dktX4_status_6 : List UInt8 := dkwX4_status_6 ++ dktX4_status_7
def dkwX4_status_5 : List UInt8 := [16, 8, 162, 0, 22, 42, 180, 0, 32, 29, 46, 2, 159, 0, 6, 132, 2, 1, 132, 3, 1, 167, 255, 234]
abbrev dktX4_status_5 : List UInt8 := dkwX4_status_5 ++ dktX4_status_6
def dkwX4_status_4 : List UInt8 := [132, 2, 1, 132, 3, 1, 167, 255, 235, 28, 172, 42, 180, 0, 131, 172, 42, 180, 0, 64, 172, 3, 62, 29]
abbrev dktX4_status_4 : List UInt8 := dkwX4_status_4 ++ dktX4_status_5
def dkwX4_status_3 : List UInt8 := [42, 182, 1, 72, 100, 172, 3, 62, 29, 16, 67, 162, 0, 21, 42, 180, 0, 7, 29, 51, 153, 0, 6]
abbrev dktX4_status_3 : List UInt8 := dkwX4_status_3 ++ dktX4_status_4
def dkwX4_status_2 : List UInt8 := [42, 180, 0, 73, 172, 42, 180, 0, 60, 172, 42, 180, 0, 114, 172, 42, 180, 0, 76, 172, 42, 180, 0, 76]
abbrev dktX4_status_2 : List UInt8 := dkwX4_status_2 ++ dktX4_status_3
def dkwX4_status_1 : List UInt8 := [170, 0, 0, 0, 146, 0, 0, 0, 0, 0, 0, 0, 8, 0, 0, 0, 49, 0, 0, 0, 54, 0, 0, 0, 59, 0, 0, 0, 64, 0, 0, 0, 69, 0, 0, 0, 79, 0, 0, 0, 107, 0, 0, 0, 112, 0, 0, 0, 117]
abbrev dktX4_status_1 : List UInt8 := dkwX4_status_1 ++ dktX4_status_2
def dkwX4_status_0 : List UInt8 := [3, 61, 27]
abbrev dktX4_status_0 : List UInt8 := dkwX4_status_0 ++ dktX4_status_1
theorem dksX4_status_0 : cX4_status.data.toList.drop 0 = dktX4_status_0 := by decide +kernel
theorem dksX4_status_1 : cX4_status.data.toList.drop 3 = dktX4_status_1 := dk_seg dksX4_status_0 3 rfl rfl
theorem dksX4_status_2 : cX4_status.data.toList.drop 52 = dktX4_status_2 := dk_seg dksX4_status_1 49 rfl rfl
theorem dksX4_status_3 : cX4_status.data.toList.drop 76 = dktX4_status_3 := dk_seg dksX4_status_2 24 rfl rfl
theorem dksX4_status_4 : cX4_status.data.toList.drop 99 = dktX4_status_4 := dk_seg dksX4_status_3 23 rfl rfl
theorem dksX4_status_5 : cX4_status.data.toList.drop 123 = dktX4_status_5 := dk_seg dksX4_status_4 24 rfl rfl
theorem dksX4_status_6 : cX4_status.data.toList.drop 147 = dktX4_status_6 := dk_seg dksX4_status_5 24 rfl rfl
theorem dksX4_status_7 : cX4_status.data.toList.drop 169 = dktX4_status_7 := dk_seg dksX4_status_6 22 rfl rfl
theorem dX4_status_0 : decode cX4_status 0 = .ok (.iconst 0, 1) := dk_3 (dk_at dksX4_status_0 0 rfl rfl)
theorem dX4_status_1 : decode cX4_status 1 = .ok (.istore_n 2, 1) := dk_61 (dk_at dksX4_status_0 1 rfl rfl)
theorem dX4_status_2 : decode cX4_status 2 = .ok (.iload_n 1, 1) := dk_27 (dk_at dksX4_status_0 2 rfl rfl)
theorem dX4_status_3 : decode cX4_status 3 = .ok (.tableswitch 146 0 8 #[49, 54, 59, 64, 69, 79, 107, 112, 117], 49) := by decide +kernel
theorem dX4_status_52 : decode cX4_status 52 = .ok (.aload_n 0, 1) := dk_42 (dk_at dksX4_status_2 0 rfl rfl)
theorem dX4_status_53 : decode cX4_status 53 = .ok (.getfield 73, 3) := dk_180 0 73 (dk_at dksX4_status_2 1 rfl rfl)
theorem dX4_status_56 : decode cX4_status 56 = .ok (.ireturn, 1) := dk_172 (dk_at dksX4_status_2 4 rfl rfl)
theorem dX4_status_57 : decode cX4_status 57 = .ok (.aload_n 0, 1) := dk_42 (dk_at dksX4_status_2 5 rfl rfl)
theorem dX4_status_58 : decode cX4_status 58 = .ok (.getfield 60, 3) := dk_180 0 60 (dk_at dksX4_status_2 6 rfl rfl)
theorem dX4_status_61 : decode cX4_status 61 = .ok (.ireturn, 1) := dk_172 (dk_at dksX4_status_2 9 rfl rfl)
theorem dX4_status_62 : decode cX4_status 62 = .ok (.aload_n 0, 1) := dk_42 (dk_at dksX4_status_2 10 rfl rfl)
theorem dX4_status_63 : decode cX4_status 63 = .ok (.getfield 114, 3) := dk_180 0 114 (dk_at dksX4_status_2 11 rfl rfl)
theorem dX4_status_66 : decode cX4_status 66 = .ok (.ireturn, 1) := dk_172 (dk_at dksX4_status_2 14 rfl rfl)
theorem dX4_status_67 : decode cX4_status 67 = .ok (.aload_n 0, 1) := dk_42 (dk_at dksX4_status_2 15 rfl rfl)
theorem dX4_status_68 : decode cX4_status 68 = .ok (.getfield 76, 3) := dk_180 0 76 (dk_at dksX4_status_2 16 rfl rfl)
theorem dX4_status_71 : decode cX4_status 71 = .ok (.ireturn, 1) := dk_172 (dk_at dksX4_status_2 19 rfl rfl)
theorem dX4_status_72 : decode cX4_status 72 = .ok (.aload_n 0, 1) := dk_42 (dk_at dksX4_status_2 20 rfl rfl)
theorem dX4_status_73 : decode cX4_status 73 = .ok (.getfield 76, 3) := dk_180 0 76 (dk_at dksX4_status_2 21 rfl rfl)
theorem dX4_status_76 : decode cX4_status 76 = .ok (.aload_n 0, 1) := dk_42 (dk_at dksX4_status_3 0 rfl rfl)
theorem dX4_status_77 : decode cX4_status 77 = .ok (.invokevirtual 328, 3) := dk_182 1 72 (dk_at dksX4_status_3 1 rfl rfl)
theorem dX4_status_80 : decode cX4_status 80 = .ok (.isub, 1) := dk_100 (dk_at dksX4_status_3 4 rfl rfl)
theorem dX4_status_81 : decode cX4_status 81 = .ok (.ireturn, 1) := dk_172 (dk_at dksX4_status_3 5 rfl rfl)
theorem dX4_status_82 : decode cX4_status 82 = .ok (.iconst 0, 1) := dk_3 (dk_at dksX4_status_3 6 rfl rfl)
theorem dX4_status_83 : decode cX4_status 83 = .ok (.istore_n 3, 1) := dk_62 (dk_at dksX4_status_3 7 rfl rfl)
theorem dX4_status_84 : decode cX4_status 84 = .ok (.iload_n 3, 1) := dk_29 (dk_at dksX4_status_3 8 rfl rfl)
theorem dX4_status_85 : decode cX4_status 85 = .ok (.bipush 67, 2) := dk_16 67 (dk_at dksX4_status_3 9 rfl rfl)
theorem dX4_status_87 : decode cX4_status 87 = .ok (.if_icmp .ge 21, 3) := dk_162 0 21 (dk_at dksX4_status_3 11 rfl rfl)
theorem dX4_status_90 : decode cX4_status 90 = .ok (.aload_n 0, 1) := dk_42 (dk_at dksX4_status_3 14 rfl rfl)
theorem dX4_status_91 : decode cX4_status 91 = .ok (.getfield 7, 3) := dk_180 0 7 (dk_at dksX4_status_3 15 rfl rfl)
theorem dX4_status_94 : decode cX4_status 94 = .ok (.iload_n 3, 1) := dk_29 (dk_at dksX4_status_3 18 rfl rfl)
theorem dX4_status_95 : decode cX4_status 95 = .ok (.baload, 1) := dk_51 (dk_at dksX4_status_3 19 rfl rfl)
theorem dX4_status_96 : decode cX4_status 96 = .ok (.ifCond .eq 6, 3) := dk_153 0 6 (dk_at dksX4_status_3 20 rfl rfl)
theorem dX4_status_99 : decode cX4_status 99 = .ok (.iinc 2 1, 3) := dk_132 2 1 (dk_at dksX4_status_4 0 rfl rfl)
theorem dX4_status_102 : decode cX4_status 102 = .ok (.iinc 3 1, 3) := dk_132 3 1 (dk_at dksX4_status_4 3 rfl rfl)
theorem dX4_status_105 : decode cX4_status 105 = .ok (.goto (-21), 3) := dk_167 255 235 (dk_at dksX4_status_4 6 rfl rfl)
theorem dX4_status_108 : decode cX4_status 108 = .ok (.iload_n 2, 1) := dk_28 (dk_at dksX4_status_4 9 rfl rfl)
theorem dX4_status_109 : decode cX4_status 109 = .ok (.ireturn, 1) := dk_172 (dk_at dksX4_status_4 10 rfl rfl)
theorem dX4_status_110 : decode cX4_status 110 = .ok (.aload_n 0, 1) := dk_42 (dk_at dksX4_status_4 11 rfl rfl)
theorem dX4_status_111 : decode cX4_status 111 = .ok (.getfield 131, 3) := dk_180 0 131 (dk_at dksX4_status_4 12 rfl rfl)
theorem dX4_status_114 : decode cX4_status 114 = .ok (.ireturn, 1) := dk_172 (dk_at dksX4_status_4 15 rfl rfl)
theorem dX4_status_115 : decode cX4_status 115 = .ok (.aload_n 0, 1) := dk_42 (dk_at dksX4_status_4 16 rfl rfl)
theorem dX4_status_116 : decode cX4_status 116 = .ok (.getfield 64, 3) := dk_180 0 64 (dk_at dksX4_status_4 17 rfl rfl)
theorem dX4_status_119 : decode cX4_status 119 = .ok (.ireturn, 1) := dk_172 (dk_at dksX4_status_4 20 rfl rfl)
theorem dX4_status_120 : decode cX4_status 120 = .ok (.iconst 0, 1) := dk_3 (dk_at dksX4_status_4 21 rfl rfl)
theorem dX4_status_121 : decode cX4_status 121 = .ok (.istore_n 3, 1) := dk_62 (dk_at dksX4_status_4 22 rfl rfl)
theorem dX4_status_122 : decode cX4_status 122 = .ok (.iload_n 3, 1) := dk_29 (dk_at dksX4_status_4 23 rfl rfl)
theorem dX4_status_123 : decode cX4_status 123 = .ok (.bipush 8, 2) := dk_16 8 (dk_at dksX4_status_5 0 rfl rfl)
theorem dX4_status_125 : decode cX4_status 125 = .ok (.if_icmp .ge 22, 3) := dk_162 0 22 (dk_at dksX4_status_5 2 rfl rfl)
theorem dX4_status_128 : decode cX4_status 128 = .ok (.aload_n 0, 1) := dk_42 (dk_at dksX4_status_5 5 rfl rfl)
theorem dX4_status_129 : decode cX4_status 129 = .ok (.getfield 32, 3) := dk_180 0 32 (dk_at dksX4_status_5 6 rfl rfl)
theorem dX4_status_132 : decode cX4_status 132 = .ok (.iload_n 3, 1) := dk_29 (dk_at dksX4_status_5 9 rfl rfl)
theorem dX4_status_133 : decode cX4_status 133 = .ok (.iaload, 1) := dk_46 (dk_at dksX4_status_5 10 rfl rfl)
theorem dX4_status_134 : decode cX4_status 134 = .ok (.iconst (-1), 1) := dk_2 (dk_at dksX4_status_5 11 rfl rfl)
theorem dX4_status_135 : decode cX4_status 135 = .ok (.if_icmp .eq 6, 3) := dk_159 0 6 (dk_at dksX4_status_5 12 rfl rfl)
theorem dX4_status_138 : decode cX4_status 138 = .ok (.iinc 2 1, 3) := dk_132 2 1 (dk_at dksX4_status_5 15 rfl rfl)
theorem dX4_status_141 : decode cX4_status 141 = .ok (.iinc 3 1, 3) := dk_132 3 1 (dk_at dksX4_status_5 18 rfl rfl)
theorem dX4_status_144 : decode cX4_status 144 = .ok (.goto (-22), 3) := dk_167 255 234 (dk_at dksX4_status_5 21 rfl rfl)
theorem dX4_status_147 : decode cX4_status 147 = .ok (.iload_n 2, 1) := dk_28 (dk_at dksX4_status_6 0 rfl rfl)
theorem dX4_status_148 : decode cX4_status 148 = .ok (.ireturn, 1) := dk_172 (dk_at dksX4_status_6 1 rfl rfl)
theorem dX4_status_149 : decode cX4_status 149 = .ok (.iload_n 1, 1) := dk_27 (dk_at dksX4_status_6 2 rfl rfl)
theorem dX4_status_150 : decode cX4_status 150 = .ok (.bipush 12, 2) := dk_16 12 (dk_at dksX4_status_6 3 rfl rfl)
theorem dX4_status_152 : decode cX4_status 152 = .ok (.bipush 16, 2) := dk_16 16 (dk_at dksX4_status_6 5 rfl rfl)
theorem dX4_status_154 : decode cX4_status 154 = .ok (.invokestatic 79, 3) := dk_184 0 79 (dk_at dksX4_status_6 7 rfl rfl)
theorem dX4_status_157 : decode cX4_status 157 = .ok (.ifCond .eq 15, 3) := dk_153 0 15 (dk_at dksX4_status_6 10 rfl rfl)
theorem dX4_status_160 : decode cX4_status 160 = .ok (.aload_n 0, 1) := dk_42 (dk_at dksX4_status_6 13 rfl rfl)
theorem dX4_status_161 : decode cX4_status 161 = .ok (.getfield 42, 3) := dk_180 0 42 (dk_at dksX4_status_6 14 rfl rfl)
theorem dX4_status_164 : decode cX4_status 164 = .ok (.iload_n 1, 1) := dk_27 (dk_at dksX4_status_6 17 rfl rfl)
theorem dX4_status_165 : decode cX4_status 165 = .ok (.bipush 10, 2) := dk_16 10 (dk_at dksX4_status_6 18 rfl rfl)
theorem dX4_status_167 : decode cX4_status 167 = .ok (.isub, 1) := dk_100 (dk_at dksX4_status_6 20 rfl rfl)
theorem dX4_status_168 : decode cX4_status 168 = .ok (.iaload, 1) := dk_46 (dk_at dksX4_status_6 21 rfl rfl)
theorem dX4_status_169 : decode cX4_status 169 = .ok (.goto 4, 3) := dk_167 0 4 (dk_at dksX4_status_7 0 rfl rfl)
theorem dX4_status_172 : decode cX4_status 172 = .ok (.iconst (-1), 1) := dk_2 (dk_at dksX4_status_7 3 rfl rfl)
theorem dX4_status_173 : decode cX4_status 173 = .ok (.ireturn, 1) := dk_172 (dk_at dksX4_status_7 4 rfl rfl)
