set_option maxRecDepth 100000
theorem q87 : (Jvm.Cond.initialized "PointAtWhoIsLost") ∈ lw_all := lw_g (lw_at lw_m1 1 rfl) rfl
theorem q122 : (Jvm.Cond.instantiable "PointAtWhoIsLost" (8 : Nat)) ∈ lw_all := lw_g (lw_at lw_m1 36 rfl) rfl
theorem q124 : (Jvm.Cond.instanceMethod ({ cls := "PointAtWhoIsLost", name := "<init>", desc := "()V" } : Jvm.MethodName)) ∈ lw_all := lw_g (lw_at lw_m1 38 rfl) rfl
theorem q125 : (Jvm.Cond.code ({ cls := "PointAtWhoIsLost", name := "<init>", desc := "()V" } : Jvm.MethodName) prog_1_method_8_code (2 : Nat) (Option.none : Option Jvm.ClassFile.FieldType)) ∈ lw_all := lw_g (lw_at lw_m1 39 rfl) rfl
theorem q126 : (Jvm.Cond.methodLink "PointAtWhoIsLost" (34 : Nat) ({ cls := "java/lang/Object", name := "<init>", desc := "()V" } : Jvm.MethodName)) ∈ lw_all := lw_g (lw_at lw_m1 40 rfl) rfl
theorem q129 : (Jvm.Cond.classLink "PointAtWhoIsLost" (39 : Nat) "PointAtWhoIsLost$Fen") ∈ lw_all := lw_g (lw_at lw_m1 43 rfl) rfl
theorem q131 : (Jvm.Cond.methodLinkNest "PointAtWhoIsLost" (41 : Nat) ({ cls := "PointAtWhoIsLost$Fen", name := "<init>", desc := "()V" } : Jvm.MethodName) "PointAtWhoIsLost") ∈ lw_tbl := lw_at lw_m1 45 rfl
theorem q153 : (Jvm.Cond.fieldLink "PointAtWhoIsLost" (365 : Nat) "PointAtWhoIsLost$Lost" "many" "I") ∈ lw_all := lw_g (lw_at lw_m1 67 rfl) rfl
theorem q162 : (Jvm.Cond.fieldLink "PointAtWhoIsLost" (146 : Nat) "PointAtWhoIsLost$Fen" "post" "[LPointAtWhoIsLost$Post;") ∈ lw_all := lw_g (lw_at lw_m1 76 rfl) rfl
theorem q164 : (Jvm.Cond.fieldLink "PointAtWhoIsLost" (239 : Nat) "PointAtWhoIsLost$Fen" "cell" "[I") ∈ lw_all := lw_g (lw_at lw_m1 78 rfl) rfl
theorem q166 : (Jvm.Cond.fieldLink "PointAtWhoIsLost" (202 : Nat) "PointAtWhoIsLost$Fen" "sure" "[I") ∈ lw_all := lw_g (lw_at lw_m1 80 rfl) rfl
theorem q169 : (Jvm.Cond.fieldLink "PointAtWhoIsLost" (345 : Nat) "PointAtWhoIsLost$Fen" "away" "[I") ∈ lw_all := lw_g (lw_at lw_m1 83 rfl) rfl
theorem q172 : (Jvm.Cond.fieldLink "PointAtWhoIsLost" (167 : Nat) "PointAtWhoIsLost$Fen" "side" "I") ∈ lw_all := lw_g (lw_at lw_m1 86 rfl) rfl
theorem q175 : (Jvm.Cond.fieldLink "PointAtWhoIsLost" (183 : Nat) "PointAtWhoIsLost$Fen" "home" "I") ∈ lw_all := lw_g (lw_at lw_m1 89 rfl) rfl
theorem q178 : (Jvm.Cond.fieldLink "PointAtWhoIsLost" (186 : Nat) "PointAtWhoIsLost$Fen" "posts" "I") ∈ lw_all := lw_g (lw_at lw_m1 92 rfl) rfl
theorem q181 : (Jvm.Cond.fieldLink "PointAtWhoIsLost" (193 : Nat) "PointAtWhoIsLost$Fen" "walkers" "I") ∈ lw_all := lw_g (lw_at lw_m1 95 rfl) rfl
theorem q183 : (Jvm.Cond.fieldLink "PointAtWhoIsLost" (373 : Nat) "PointAtWhoIsLost$Fen" "seed" "I") ∈ lw_all := lw_g (lw_at lw_m1 97 rfl) rfl
theorem q207 : (Jvm.Cond.classLink "PointAtWhoIsLost" (46 : Nat) "PointAtWhoIsLost$Lost") ∈ lw_all := lw_g (lw_at lw_m1 121 rfl) rfl
theorem q208 : (Jvm.Cond.methodLinkNest "PointAtWhoIsLost" (48 : Nat) ({ cls := "PointAtWhoIsLost$Lost", name := "<init>", desc := "()V" } : Jvm.MethodName) "PointAtWhoIsLost") ∈ lw_tbl := lw_at lw_m1 122 rfl
theorem q209 : (Jvm.Cond.classLink "PointAtWhoIsLost" (57 : Nat) "PointAtWhoIsLost$Sheet") ∈ lw_all := lw_g (lw_at lw_m1 123 rfl) rfl
theorem q212 : (Jvm.Cond.methodLinkNest "PointAtWhoIsLost" (70 : Nat) ({ cls := "PointAtWhoIsLost$Sheet", name := "<init>", desc := "()V" } : Jvm.MethodName) "PointAtWhoIsLost") ∈ lw_tbl := lw_at lw_m1 126 rfl
theorem q216 : (Jvm.Cond.fieldLink "PointAtWhoIsLost" (98 : Nat) "PointAtWhoIsLost$Sheet" "held" "Ljava/lang/Object;") ∈ lw_all := lw_g (lw_at lw_m1 130 rfl) rfl
theorem q221 : (Jvm.Cond.fieldLink "PointAtWhoIsLost" (42 : Nat) "PointAtWhoIsLost" "now" "LPointAtWhoIsLost$Fen;") ∈ lw_all := lw_g (lw_at lw_m1 135 rfl) rfl
theorem q222 : (Jvm.Cond.fieldLink "PointAtWhoIsLost" (376 : Nat) "PointAtWhoIsLost" "image" "LPointAtWhoIsLost$Fen;") ∈ lw_all := lw_g (lw_at lw_m1 136 rfl) rfl
theorem q223 : (Jvm.Cond.fieldLink "PointAtWhoIsLost" (49 : Nat) "PointAtWhoIsLost" "alone" "LPointAtWhoIsLost$Lost;") ∈ lw_all := lw_g (lw_at lw_m1 137 rfl) rfl
theorem q224 : (Jvm.Cond.fieldLink "PointAtWhoIsLost" (53 : Nat) "PointAtWhoIsLost" "told" "[J") ∈ lw_all := lw_g (lw_at lw_m1 138 rfl) rfl
theorem q225 : (Jvm.Cond.fieldLink "PointAtWhoIsLost" (59 : Nat) "PointAtWhoIsLost" "shelves" "[LPointAtWhoIsLost$Sheet;") ∈ lw_all := lw_g (lw_at lw_m1 139 rfl) rfl
theorem q226 : (Jvm.Cond.fieldLink "PointAtWhoIsLost" (63 : Nat) "PointAtWhoIsLost" "tape" "[I") ∈ lw_all := lw_g (lw_at lw_m1 140 rfl) rfl
theorem q227 : (Jvm.Cond.fieldLink "PointAtWhoIsLost" (205 : Nat) "PointAtWhoIsLost" "size" "I") ∈ lw_all := lw_g (lw_at lw_m1 141 rfl) rfl
theorem q228 : (Jvm.Cond.fieldLink "PointAtWhoIsLost" (67 : Nat) "PointAtWhoIsLost" "refused" "[I") ∈ lw_all := lw_g (lw_at lw_m1 142 rfl) rfl
theorem q229 : (Jvm.Cond.lays "PointAtWhoIsLost" "PointAtWhoIsLost" "now" "LPointAtWhoIsLost$Fen;") ∈ lw_all := lw_g (lw_at lw_m1 143 rfl) rfl
theorem q230 : (Jvm.Cond.soleField "PointAtWhoIsLost" "now") ∈ lw_all := lw_g (lw_at lw_m1 144 rfl) rfl
theorem q231 : (Jvm.Cond.lays "PointAtWhoIsLost" "PointAtWhoIsLost" "image" "LPointAtWhoIsLost$Fen;") ∈ lw_all := lw_g (lw_at lw_m1 145 rfl) rfl
theorem q232 : (Jvm.Cond.soleField "PointAtWhoIsLost" "image") ∈ lw_all := lw_g (lw_at lw_m1 146 rfl) rfl
theorem q233 : (Jvm.Cond.laysFinal "PointAtWhoIsLost" "PointAtWhoIsLost" "alone" "LPointAtWhoIsLost$Lost;") ∈ lw_all := lw_g (lw_at lw_m1 147 rfl) rfl
theorem q234 : (Jvm.Cond.soleField "PointAtWhoIsLost" "alone") ∈ lw_all := lw_g (lw_at lw_m1 148 rfl) rfl
theorem q235 : (Jvm.Cond.laysFinal "PointAtWhoIsLost" "PointAtWhoIsLost" "told" "[J") ∈ lw_all := lw_g (lw_at lw_m1 149 rfl) rfl
theorem q236 : (Jvm.Cond.soleField "PointAtWhoIsLost" "told") ∈ lw_all := lw_g (lw_at lw_m1 150 rfl) rfl
theorem q237 : (Jvm.Cond.laysFinal "PointAtWhoIsLost" "PointAtWhoIsLost" "shelves" "[LPointAtWhoIsLost$Sheet;") ∈ lw_all := lw_g (lw_at lw_m1 151 rfl) rfl
theorem q238 : (Jvm.Cond.soleField "PointAtWhoIsLost" "shelves") ∈ lw_all := lw_g (lw_at lw_m1 152 rfl) rfl
theorem q239 : (Jvm.Cond.laysFinal "PointAtWhoIsLost" "PointAtWhoIsLost" "tape" "[I") ∈ lw_all := lw_g (lw_at lw_m1 153 rfl) rfl
theorem q240 : (Jvm.Cond.soleField "PointAtWhoIsLost" "tape") ∈ lw_all := lw_g (lw_at lw_m1 154 rfl) rfl
theorem q241 : (Jvm.Cond.lays "PointAtWhoIsLost" "PointAtWhoIsLost" "size" "I") ∈ lw_all := lw_g (lw_at lw_m1 155 rfl) rfl
theorem q242 : (Jvm.Cond.soleField "PointAtWhoIsLost" "size") ∈ lw_all := lw_g (lw_at lw_m1 156 rfl) rfl
theorem q243 : (Jvm.Cond.laysFinal "PointAtWhoIsLost" "PointAtWhoIsLost" "refused" "[I") ∈ lw_all := lw_g (lw_at lw_m1 157 rfl) rfl
theorem q244 : (Jvm.Cond.soleField "PointAtWhoIsLost" "refused") ∈ lw_all := lw_g (lw_at lw_m1 158 rfl) rfl
theorem q245 : (Jvm.Cond.superclass "PointAtWhoIsLost" "java/lang/Object") ∈ lw_all := lw_g (lw_at lw_m1 159 rfl) rfl
theorem q247 : (Jvm.Cond.instanceMethod ({ cls := "PointAtWhoIsLost", name := "row", desc := "(III)I" } : Jvm.MethodName)) ∈ lw_all := lw_g (lw_at lw_m1 161 rfl) rfl
theorem q248 : (Jvm.Cond.selects "PointAtWhoIsLost" ({ cls := "PointAtWhoIsLost", name := "row", desc := "(III)I" } : Jvm.MethodName) ({ cls := "PointAtWhoIsLost", name := "row", desc := "(III)I" } : Jvm.MethodName)) ∈ lw_all := lw_g (lw_at lw_m1 162 rfl) rfl
theorem q249 : (Jvm.Cond.codeWith ({ cls := "PointAtWhoIsLost", name := "row", desc := "(III)I" } : Jvm.MethodName) prog_1_method_15_code (5 : Nat) (Option.some Jvm.ClassFile.FieldType.int) [((29 : Nat), (43 : Nat), (46 : Nat), (102 : Nat))]) ∈ lw_all := lw_g (lw_at lw_m1 163 rfl) rfl
theorem q250 : (Jvm.Cond.classLink "PointAtWhoIsLost" (102 : Nat) "java/lang/NegativeArraySizeException") ∈ lw_all := lw_g (lw_at lw_m1 164 rfl) rfl
theorem q338 : (Jvm.Cond.methodLink "PointAtWhoIsLost" (87 : Nat) ({ cls := "PointAtWhoIsLost", name := "isShelf", desc := "(I)Z" } : Jvm.MethodName)) ∈ lw_all := lw_g (lw_at lw_m2 12 rfl) rfl
theorem q339 : (Jvm.Cond.static ({ cls := "PointAtWhoIsLost", name := "isShelf", desc := "(I)Z" } : Jvm.MethodName)) ∈ lw_all := lw_g (lw_at lw_m2 13 rfl) rfl
theorem q340 : (Jvm.Cond.code ({ cls := "PointAtWhoIsLost", name := "isShelf", desc := "(I)Z" } : Jvm.MethodName) prog_1_method_10_code (1 : Nat) (Option.some Jvm.ClassFile.FieldType.boolean)) ∈ lw_all := lw_g (lw_at lw_m2 14 rfl) rfl
theorem q341 : (Jvm.Cond.methodLink "PointAtWhoIsLost" (71 : Nat) ({ cls := "PointAtWhoIsLost", name := "isIn", desc := "(III)Z" } : Jvm.MethodName)) ∈ lw_all := lw_g (lw_at lw_m2 15 rfl) rfl
theorem q342 : (Jvm.Cond.static ({ cls := "PointAtWhoIsLost", name := "isIn", desc := "(III)Z" } : Jvm.MethodName)) ∈ lw_all := lw_g (lw_at lw_m2 16 rfl) rfl
theorem q343 : (Jvm.Cond.code ({ cls := "PointAtWhoIsLost", name := "isIn", desc := "(III)Z" } : Jvm.MethodName) prog_1_method_1_code (3 : Nat) (Option.some Jvm.ClassFile.FieldType.boolean)) ∈ lw_all := lw_g (lw_at lw_m2 17 rfl) rfl
theorem q344 : (Jvm.Cond.methodLink "PointAtWhoIsLost" (91 : Nat) ({ cls := "PointAtWhoIsLost", name := "no", desc := "(I)I" } : Jvm.MethodName)) ∈ lw_all := lw_g (lw_at lw_m2 18 rfl) rfl
theorem q345 : (Jvm.Cond.privateMethod ({ cls := "PointAtWhoIsLost", name := "no", desc := "(I)I" } : Jvm.MethodName)) ∈ lw_tbl := lw_at lw_m2 19 rfl
theorem q346 : (Jvm.Cond.instanceMethod ({ cls := "PointAtWhoIsLost", name := "no", desc := "(I)I" } : Jvm.MethodName)) ∈ lw_all := lw_g (lw_at lw_m2 20 rfl) rfl
theorem q347 : (Jvm.Cond.code ({ cls := "PointAtWhoIsLost", name := "no", desc := "(I)I" } : Jvm.MethodName) prog_1_method_9_code (2 : Nat) (Option.some Jvm.ClassFile.FieldType.int)) ∈ lw_all := lw_g (lw_at lw_m2 21 rfl) rfl
theorem q348 : (Jvm.Cond.methodLink "PointAtWhoIsLost" (94 : Nat) ({ cls := "PointAtWhoIsLost", name := "rowOf", desc := "(II)Ljava/lang/Object;" } : Jvm.MethodName)) ∈ lw_all := lw_g (lw_at lw_m2 22 rfl) rfl
theorem q349 : (Jvm.Cond.static ({ cls := "PointAtWhoIsLost", name := "rowOf", desc := "(II)Ljava/lang/Object;" } : Jvm.MethodName)) ∈ lw_all := lw_g (lw_at lw_m2 23 rfl) rfl
theorem q350 : (Jvm.Cond.code ({ cls := "PointAtWhoIsLost", name := "rowOf", desc := "(II)Ljava/lang/Object;" } : Jvm.MethodName) prog_1_method_11_code (2 : Nat) (Option.some (Jvm.ClassFile.FieldType.object "java/lang/Object"))) ∈ lw_all := lw_g (lw_at lw_m2 24 rfl) rfl
theorem q354 : (Jvm.Cond.instanceMethod ({ cls := "PointAtWhoIsLost", name := "set", desc := "(IIJ)I" } : Jvm.MethodName)) ∈ lw_all := lw_g (lw_at lw_m2 28 rfl) rfl
theorem q355 : (Jvm.Cond.selects "PointAtWhoIsLost" ({ cls := "PointAtWhoIsLost", name := "set", desc := "(IIJ)I" } : Jvm.MethodName) ({ cls := "PointAtWhoIsLost", name := "set", desc := "(IIJ)I" } : Jvm.MethodName)) ∈ lw_all := lw_g (lw_at lw_m2 29 rfl) rfl
theorem q356 : (Jvm.Cond.codeWith ({ cls := "PointAtWhoIsLost", name := "set", desc := "(IIJ)I" } : Jvm.MethodName) prog_1_method_17_code (6 : Nat) (Option.some Jvm.ClassFile.FieldType.int) [((14 : Nat), (25 : Nat), (26 : Nat), (104 : Nat)), ((14 : Nat), (25 : Nat), (38 : Nat), (121 : Nat))]) ∈ lw_all := lw_g (lw_at lw_m2 30 rfl) rfl
theorem q357 : (Jvm.Cond.classLink "PointAtWhoIsLost" (104 : Nat) "PointAtWhoIsLost$Refused") ∈ lw_all := lw_g (lw_at lw_m2 31 rfl) rfl
theorem q358 : (Jvm.Cond.classLink "PointAtWhoIsLost" (121 : Nat) "java/lang/ArrayIndexOutOfBoundsException") ∈ lw_all := lw_g (lw_at lw_m2 32 rfl) rfl
theorem q377 : (Jvm.Cond.methodLink "PointAtWhoIsLost" (109 : Nat) ({ cls := "PointAtWhoIsLost", name := "rowIn", desc := "(I)Ljava/lang/Object;" } : Jvm.MethodName)) ∈ lw_all := lw_g (lw_at lw_m2 51 rfl) rfl
theorem q378 : (Jvm.Cond.privateMethod ({ cls := "PointAtWhoIsLost", name := "rowIn", desc := "(I)Ljava/lang/Object;" } : Jvm.MethodName)) ∈ lw_tbl := lw_at lw_m2 52 rfl
theorem q379 : (Jvm.Cond.instanceMethod ({ cls := "PointAtWhoIsLost", name := "rowIn", desc := "(I)Ljava/lang/Object;" } : Jvm.MethodName)) ∈ lw_all := lw_g (lw_at lw_m2 53 rfl) rfl
theorem q380 : (Jvm.Cond.code ({ cls := "PointAtWhoIsLost", name := "rowIn", desc := "(I)Ljava/lang/Object;" } : Jvm.MethodName) prog_1_method_16_code (3 : Nat) (Option.some (Jvm.ClassFile.FieldType.object "java/lang/Object"))) ∈ lw_all := lw_g (lw_at lw_m2 54 rfl) rfl
theorem q381 : (Jvm.Cond.classLink "PointAtWhoIsLost" (13 : Nat) "PointAtWhoIsLost$Post") ∈ lw_all := lw_g (lw_at lw_m2 55 rfl) rfl
theorem q390 : (Jvm.Cond.methodLink "PointAtWhoIsLost" (106 : Nat) ({ cls := "PointAtWhoIsLost$Refused", name := "<init>", desc := "(I)V" } : Jvm.MethodName)) ∈ lw_all := lw_g (lw_at lw_m2 64 rfl) rfl
theorem q403 : (Jvm.Cond.fieldLink "PointAtWhoIsLost" (117 : Nat) "PointAtWhoIsLost$Refused" "by" "I") ∈ lw_all := lw_g (lw_at lw_m2 77 rfl) rfl
theorem q408 : (Jvm.Cond.methodLink "PointAtWhoIsLost" (113 : Nat) ({ cls := "PointAtWhoIsLost", name := "puts", desc := "(Ljava/lang/Object;IJ)V" } : Jvm.MethodName)) ∈ lw_all := lw_g (lw_at lw_m2 82 rfl) rfl
theorem q409 : (Jvm.Cond.static ({ cls := "PointAtWhoIsLost", name := "puts", desc := "(Ljava/lang/Object;IJ)V" } : Jvm.MethodName)) ∈ lw_all := lw_g (lw_at lw_m2 83 rfl) rfl
theorem q410 : (Jvm.Cond.code ({ cls := "PointAtWhoIsLost", name := "puts", desc := "(Ljava/lang/Object;IJ)V" } : Jvm.MethodName) prog_1_method_14_code (4 : Nat) (Option.none : Option Jvm.ClassFile.FieldType)) ∈ lw_all := lw_g (lw_at lw_m2 84 rfl) rfl
theorem q411 : (Jvm.Cond.methodLink "PointAtWhoIsLost" (81 : Nat) ({ cls := "PointAtWhoIsLost", name := "sortOf", desc := "(Ljava/lang/Object;)I" } : Jvm.MethodName)) ∈ lw_all := lw_g (lw_at lw_m2 85 rfl) rfl
theorem q412 : (Jvm.Cond.static ({ cls := "PointAtWhoIsLost", name := "sortOf", desc := "(Ljava/lang/Object;)I" } : Jvm.MethodName)) ∈ lw_all := lw_g (lw_at lw_m2 86 rfl) rfl
theorem q413 : (Jvm.Cond.code ({ cls := "PointAtWhoIsLost", name := "sortOf", desc := "(Ljava/lang/Object;)I" } : Jvm.MethodName) prog_1_method_12_code (1 : Nat) (Option.some Jvm.ClassFile.FieldType.int)) ∈ lw_all := lw_g (lw_at lw_m2 87 rfl) rfl
theorem q414 : (Jvm.Cond.classLink "PointAtWhoIsLost" (75 : Nat) "[B") ∈ lw_all := lw_g (lw_at lw_m2 88 rfl) rfl
theorem q415 : (Jvm.Cond.classLink "PointAtWhoIsLost" (77 : Nat) "[S") ∈ lw_all := lw_g (lw_at lw_m2 89 rfl) rfl
theorem q416 : (Jvm.Cond.classLink "PointAtWhoIsLost" (79 : Nat) "[I") ∈ lw_all := lw_g (lw_at lw_m2 90 rfl) rfl
theorem q417 : (Jvm.Cond.classLink "PointAtWhoIsLost" (80 : Nat) "[J") ∈ lw_all := lw_g (lw_at lw_m2 91 rfl) rfl
theorem q418 : (Jvm.Cond.classLink "PointAtWhoIsLost" (85 : Nat) "[Z") ∈ lw_all := lw_g (lw_at lw_m2 92 rfl) rfl
theorem q420 : (Jvm.Cond.instanceMethod ({ cls := "PointAtWhoIsLost", name := "copy", desc := "(IIIII)I" } : Jvm.MethodName)) ∈ lw_all := lw_g (lw_at lw_m2 94 rfl) rfl
theorem q421 : (Jvm.Cond.selects "PointAtWhoIsLost" ({ cls := "PointAtWhoIsLost", name := "copy", desc := "(IIIII)I" } : Jvm.MethodName) ({ cls := "PointAtWhoIsLost", name := "copy", desc := "(IIIII)I" } : Jvm.MethodName)) ∈ lw_all := lw_g (lw_at lw_m2 95 rfl) rfl
theorem q422 : (Jvm.Cond.codeWith ({ cls := "PointAtWhoIsLost", name := "copy", desc := "(IIIII)I" } : Jvm.MethodName) prog_1_method_18_code (9 : Nat) (Option.some Jvm.ClassFile.FieldType.int) [((66 : Nat), (80 : Nat), (81 : Nat), (129 : Nat)), ((66 : Nat), (80 : Nat), (90 : Nat), (131 : Nat)), ((66 : Nat), (80 : Nat), (99 : Nat), (133 : Nat))]) ∈ lw_all := lw_g (lw_at lw_m2 96 rfl) rfl
theorem q423 : (Jvm.Cond.classLink "PointAtWhoIsLost" (129 : Nat) "java/lang/NullPointerException") ∈ lw_all := lw_g (lw_at lw_m2 97 rfl) rfl
theorem q448 : (Jvm.Cond.classLink "PointAtWhoIsLost" (131 : Nat) "java/lang/ArrayStoreException") ∈ lw_all := lw_g (lw_at lw_m2 122 rfl) rfl
theorem q462 : (Jvm.Cond.classLink "PointAtWhoIsLost" (133 : Nat) "java/lang/IndexOutOfBoundsException") ∈ lw_all := lw_g (lw_at lw_m2 136 rfl) rfl
theorem q463 : (Jvm.Cond.methodLink "PointAtWhoIsLost" (123 : Nat) ({ cls := "java/lang/System", name := "arraycopy", desc := "(Ljava/lang/Object;ILjava/lang/Object;II)V" } : Jvm.MethodName)) ∈ lw_all := lw_g (lw_at lw_m2 137 rfl) rfl
theorem q467 : (Jvm.Cond.instanceMethod ({ cls := "PointAtWhoIsLost", name := "element", desc := "(II)J" } : Jvm.MethodName)) ∈ lw_all := lw_g (lw_at lw_m2 141 rfl) rfl
theorem q468 : (Jvm.Cond.selects "PointAtWhoIsLost" ({ cls := "PointAtWhoIsLost", name := "element", desc := "(II)J" } : Jvm.MethodName) ({ cls := "PointAtWhoIsLost", name := "element", desc := "(II)J" } : Jvm.MethodName)) ∈ lw_all := lw_g (lw_at lw_m2 142 rfl) rfl
theorem q469 : (Jvm.Cond.codeWith ({ cls := "PointAtWhoIsLost", name := "element", desc := "(II)J" } : Jvm.MethodName) prog_1_method_19_code (4 : Nat) (Option.some Jvm.ClassFile.FieldType.long) [((9 : Nat), (18 : Nat), (19 : Nat), (104 : Nat)), ((9 : Nat), (18 : Nat), (22 : Nat), (121 : Nat))]) ∈ lw_all := lw_g (lw_at lw_m2 143 rfl) rfl
theorem q470 : (Jvm.Cond.methodLink "PointAtWhoIsLost" (135 : Nat) ({ cls := "PointAtWhoIsLost", name := "elementOf", desc := "(Ljava/lang/Object;I)J" } : Jvm.MethodName)) ∈ lw_all := lw_g (lw_at lw_m2 144 rfl) rfl
theorem q471 : (Jvm.Cond.static ({ cls := "PointAtWhoIsLost", name := "elementOf", desc := "(Ljava/lang/Object;I)J" } : Jvm.MethodName)) ∈ lw_all := lw_g (lw_at lw_m2 145 rfl) rfl
theorem q472 : (Jvm.Cond.code ({ cls := "PointAtWhoIsLost", name := "elementOf", desc := "(Ljava/lang/Object;I)J" } : Jvm.MethodName) prog_1_method_13_code (2 : Nat) (Option.some Jvm.ClassFile.FieldType.long)) ∈ lw_all := lw_g (lw_at lw_m2 146 rfl) rfl
theorem q474 : (Jvm.Cond.instanceMethod ({ cls := "PointAtWhoIsLost", name := "holds", desc := "(I)I" } : Jvm.MethodName)) ∈ lw_all := lw_g (lw_at lw_m2 148 rfl) rfl
theorem q475 : (Jvm.Cond.selects "PointAtWhoIsLost" ({ cls := "PointAtWhoIsLost", name := "holds", desc := "(I)I" } : Jvm.MethodName) ({ cls := "PointAtWhoIsLost", name := "holds", desc := "(I)I" } : Jvm.MethodName)) ∈ lw_all := lw_g (lw_at lw_m2 149 rfl) rfl
theorem q476 : (Jvm.Cond.code ({ cls := "PointAtWhoIsLost", name := "holds", desc := "(I)I" } : Jvm.MethodName) prog_1_method_20_code (3 : Nat) (Option.some Jvm.ClassFile.FieldType.int)) ∈ lw_all := lw_g (lw_at lw_m2 150 rfl) rfl
theorem q478 : (Jvm.Cond.instanceMethod ({ cls := "PointAtWhoIsLost", name := "show", desc := "(II)I" } : Jvm.MethodName)) ∈ lw_all := lw_g (lw_at lw_m2 152 rfl) rfl
theorem q479 : (Jvm.Cond.selects "PointAtWhoIsLost" ({ cls := "PointAtWhoIsLost", name := "show", desc := "(II)I" } : Jvm.MethodName) ({ cls := "PointAtWhoIsLost", name := "show", desc := "(II)I" } : Jvm.MethodName)) ∈ lw_all := lw_g (lw_at lw_m2 153 rfl) rfl
theorem q480 : (Jvm.Cond.code ({ cls := "PointAtWhoIsLost", name := "show", desc := "(II)I" } : Jvm.MethodName) prog_1_method_21_code (3 : Nat) (Option.some Jvm.ClassFile.FieldType.int)) ∈ lw_all := lw_g (lw_at lw_m2 154 rfl) rfl
theorem q481 : (Jvm.Cond.methodLink "PointAtWhoIsLost" (142 : Nat) ({ cls := "PointAtWhoIsLost$Fen", name := "isPost", desc := "(J)Z" } : Jvm.MethodName)) ∈ lw_all := lw_g (lw_at lw_m2 155 rfl) rfl
theorem q486 : (Jvm.Cond.instanceMethod ({ cls := "PointAtWhoIsLost", name := "says", desc := "(II)I" } : Jvm.MethodName)) ∈ lw_all := lw_g (lw_at lw_m2 160 rfl) rfl
theorem q487 : (Jvm.Cond.selects "PointAtWhoIsLost" ({ cls := "PointAtWhoIsLost", name := "says", desc := "(II)I" } : Jvm.MethodName) ({ cls := "PointAtWhoIsLost", name := "says", desc := "(II)I" } : Jvm.MethodName)) ∈ lw_all := lw_g (lw_at lw_m2 161 rfl) rfl
theorem q488 : (Jvm.Cond.codeWith ({ cls := "PointAtWhoIsLost", name := "says", desc := "(II)I" } : Jvm.MethodName) prog_1_method_23_code (5 : Nat) (Option.some Jvm.ClassFile.FieldType.int) [((44 : Nat), (87 : Nat), (133 : Nat), (165 : Nat)), ((88 : Nat), (96 : Nat), (133 : Nat), (165 : Nat)), ((97 : Nat), (105 : Nat), (133 : Nat), (165 : Nat)), ((106 : Nat), (114 : Nat), (133 : Nat), (165 : Nat)), ((115 : Nat), (123 : Nat), (133 : Nat), (165 : Nat)), ((124 : Nat), (132 : Nat), (133 : Nat), (165 : Nat))]) ∈ lw_all := lw_g (lw_at lw_m2 162 rfl) rfl
theorem q489 : (Jvm.Cond.classLink "PointAtWhoIsLost" (165 : Nat) "java/lang/ClassCastException") ∈ lw_all := lw_g (lw_at lw_m2 163 rfl) rfl
theorem q503 : (Jvm.Cond.classLink "PointAtWhoIsLost" (19 : Nat) "PointAtWhoIsLost$Keen") ∈ lw_all := lw_g (lw_at lw_m2 177 rfl) rfl
theorem q504 : (Jvm.Cond.methodLink "PointAtWhoIsLost" (161 : Nat) ({ cls := "PointAtWhoIsLost", name := "armOf", desc := "(LPointAtWhoIsLost$Post;)I" } : Jvm.MethodName)) ∈ lw_all := lw_g (lw_at lw_m2 178 rfl) rfl
theorem q505 : (Jvm.Cond.privateMethod ({ cls := "PointAtWhoIsLost", name := "armOf", desc := "(LPointAtWhoIsLost$Post;)I" } : Jvm.MethodName)) ∈ lw_tbl := lw_at lw_m2 179 rfl
theorem q506 : (Jvm.Cond.instanceMethod ({ cls := "PointAtWhoIsLost", name := "armOf", desc := "(LPointAtWhoIsLost$Post;)I" } : Jvm.MethodName)) ∈ lw_all := lw_g (lw_at lw_m2 180 rfl) rfl
theorem q507 : (Jvm.Cond.code ({ cls := "PointAtWhoIsLost", name := "armOf", desc := "(LPointAtWhoIsLost$Post;)I" } : Jvm.MethodName) prog_1_method_22_code (2 : Nat) (Option.some Jvm.ClassFile.FieldType.int)) ∈ lw_all := lw_g (lw_at lw_m2 181 rfl) rfl
theorem q508 : (Jvm.Cond.methodLink "PointAtWhoIsLost" (150 : Nat) ({ cls := "PointAtWhoIsLost$Fen", name := "lost", desc := "()LPointAtWhoIsLost$Lost;" } : Jvm.MethodName)) ∈ lw_all := lw_g (lw_at lw_m2 182 rfl) rfl
theorem q516 : (Jvm.Cond.methodLink "PointAtWhoIsLost" (154 : Nat) ({ cls := "PointAtWhoIsLost$Post", name := "arm", desc := "(LPointAtWhoIsLost$Lost;)I" } : Jvm.MethodName)) ∈ lw_all := lw_g (lw_at lw_m2 190 rfl) rfl
theorem q528 : (Jvm.Cond.static ({ cls := "PointAtWhoIsLost", name := "far", desc := "(II)I" } : Jvm.MethodName)) ∈ lw_all := lw_g (lw_at lw_m2 202 rfl) rfl
theorem q529 : (Jvm.Cond.code ({ cls := "PointAtWhoIsLost", name := "far", desc := "(II)I" } : Jvm.MethodName) prog_1_method_3_code (2 : Nat) (Option.some Jvm.ClassFile.FieldType.int)) ∈ lw_all := lw_g (lw_at lw_m2 203 rfl) rfl
theorem q530 : (Jvm.Cond.methodLink "PointAtWhoIsLost" (1 : Nat) ({ cls := "java/lang/Math", name := "abs", desc := "(I)I" } : Jvm.MethodName)) ∈ lw_all := lw_g (lw_at lw_m2 204 rfl) rfl
theorem q534 : (Jvm.Cond.static ({ cls := "PointAtWhoIsLost", name := "wayOf", desc := "(II)I" } : Jvm.MethodName)) ∈ lw_all := lw_g (lw_at lw_m2 208 rfl) rfl
theorem q535 : (Jvm.Cond.code ({ cls := "PointAtWhoIsLost", name := "wayOf", desc := "(II)I" } : Jvm.MethodName) prog_1_method_5_code (2 : Nat) (Option.some Jvm.ClassFile.FieldType.int)) ∈ lw_all := lw_g (lw_at lw_m2 209 rfl) rfl
theorem q536 : (Jvm.Cond.methodLink "PointAtWhoIsLost" (9 : Nat) ({ cls := "PointAtWhoIsLost", name := "wayBy", desc := "(II)I" } : Jvm.MethodName)) ∈ lw_all := lw_g (lw_at lw_m2 210 rfl) rfl
theorem q537 : (Jvm.Cond.static ({ cls := "PointAtWhoIsLost", name := "wayBy", desc := "(II)I" } : Jvm.MethodName)) ∈ lw_all := lw_g (lw_at lw_m2 211 rfl) rfl
theorem q538 : (Jvm.Cond.code ({ cls := "PointAtWhoIsLost", name := "wayBy", desc := "(II)I" } : Jvm.MethodName) prog_1_method_4_code (2 : Nat) (Option.some Jvm.ClassFile.FieldType.int)) ∈ lw_all := lw_g (lw_at lw_m2 212 rfl) rfl
theorem q551 : (Jvm.Cond.static ({ cls := "PointAtWhoIsLost", name := "turned", desc := "(II)I" } : Jvm.MethodName)) ∈ lw_all := lw_g (lw_at lw_m2 225 rfl) rfl
theorem q552 : (Jvm.Cond.code ({ cls := "PointAtWhoIsLost", name := "turned", desc := "(II)I" } : Jvm.MethodName) prog_1_method_6_code (2 : Nat) (Option.some Jvm.ClassFile.FieldType.int)) ∈ lw_all := lw_g (lw_at lw_m2 226 rfl) rfl
theorem q565 : (Jvm.Cond.classLink "PointAtWhoIsLost" (22 : Nat) "PointAtWhoIsLost$Lazy") ∈ lw_all := lw_g (lw_at lw_m2 239 rfl) rfl
theorem q566 : (Jvm.Cond.classLink "PointAtWhoIsLost" (25 : Nat) "PointAtWhoIsLost$Wild") ∈ lw_all := lw_g (lw_at lw_m3 0 rfl) rfl
theorem q567 : (Jvm.Cond.classLink "PointAtWhoIsLost" (28 : Nat) "PointAtWhoIsLost$Rotten") ∈ lw_all := lw_g (lw_at lw_m3 1 rfl) rfl
theorem q568 : (Jvm.Cond.classLink "PointAtWhoIsLost" (31 : Nat) "PointAtWhoIsLost$Torn") ∈ lw_all := lw_g (lw_at lw_m3 2 rfl) rfl
theorem q570 : (Jvm.Cond.instanceMethod ({ cls := "PointAtWhoIsLost", name := "side", desc := "(I)I" } : Jvm.MethodName)) ∈ lw_all := lw_g (lw_at lw_m3 4 rfl) rfl
theorem q571 : (Jvm.Cond.selects "PointAtWhoIsLost" ({ cls := "PointAtWhoIsLost", name := "side", desc := "(I)I" } : Jvm.MethodName) ({ cls := "PointAtWhoIsLost", name := "side", desc := "(I)I" } : Jvm.MethodName)) ∈ lw_all := lw_g (lw_at lw_m3 5 rfl) rfl
theorem q572 : (Jvm.Cond.code ({ cls := "PointAtWhoIsLost", name := "side", desc := "(I)I" } : Jvm.MethodName) prog_1_method_25_code (3 : Nat) (Option.some Jvm.ClassFile.FieldType.int)) ∈ lw_all := lw_g (lw_at lw_m3 6 rfl) rfl
theorem q574 : (Jvm.Cond.instanceMethod ({ cls := "PointAtWhoIsLost", name := "bog", desc := "(IZ)I" } : Jvm.MethodName)) ∈ lw_all := lw_g (lw_at lw_m3 8 rfl) rfl
theorem q575 : (Jvm.Cond.selects "PointAtWhoIsLost" ({ cls := "PointAtWhoIsLost", name := "bog", desc := "(IZ)I" } : Jvm.MethodName) ({ cls := "PointAtWhoIsLost", name := "bog", desc := "(IZ)I" } : Jvm.MethodName)) ∈ lw_all := lw_g (lw_at lw_m3 9 rfl) rfl
theorem q576 : (Jvm.Cond.code ({ cls := "PointAtWhoIsLost", name := "bog", desc := "(IZ)I" } : Jvm.MethodName) prog_1_method_26_code (4 : Nat) (Option.some Jvm.ClassFile.FieldType.int)) ∈ lw_all := lw_g (lw_at lw_m3 10 rfl) rfl
theorem q577 : (Jvm.Cond.methodLink "PointAtWhoIsLost" (170 : Nat) ({ cls := "PointAtWhoIsLost$Fen", name := "isCell", desc := "(J)Z" } : Jvm.MethodName)) ∈ lw_all := lw_g (lw_at lw_m3 11 rfl) rfl
theorem q582 : (Jvm.Cond.methodLink "PointAtWhoIsLost" (173 : Nat) ({ cls := "PointAtWhoIsLost$Fen", name := "mayBog", desc := "(I)Z" } : Jvm.MethodName)) ∈ lw_all := lw_g (lw_at lw_m3 16 rfl) rfl
theorem q586 : (Jvm.Cond.methodLink "PointAtWhoIsLost" (176 : Nat) ({ cls := "PointAtWhoIsLost$Fen", name := "isBog", desc := "(I)Z" } : Jvm.MethodName)) ∈ lw_all := lw_g (lw_at lw_m3 20 rfl) rfl
theorem q591 : (Jvm.Cond.static ({ cls := "PointAtWhoIsLost", name := "has", desc := "(II)Z" } : Jvm.MethodName)) ∈ lw_all := lw_g (lw_at lw_m3 25 rfl) rfl
theorem q592 : (Jvm.Cond.code ({ cls := "PointAtWhoIsLost", name := "has", desc := "(II)Z" } : Jvm.MethodName) prog_1_method_2_code (2 : Nat) (Option.some Jvm.ClassFile.FieldType.boolean)) ∈ lw_all := lw_g (lw_at lw_m3 26 rfl) rfl
theorem q593 : (Jvm.Cond.methodLink "PointAtWhoIsLost" (179 : Nat) ({ cls := "PointAtWhoIsLost$Fen", name := "bog", desc := "(IZ)V" } : Jvm.MethodName)) ∈ lw_all := lw_g (lw_at lw_m3 27 rfl) rfl
theorem q598 : (Jvm.Cond.instanceMethod ({ cls := "PointAtWhoIsLost", name := "home", desc := "(I)I" } : Jvm.MethodName)) ∈ lw_all := lw_g (lw_at lw_m3 32 rfl) rfl
theorem q599 : (Jvm.Cond.selects "PointAtWhoIsLost" ({ cls := "PointAtWhoIsLost", name := "home", desc := "(I)I" } : Jvm.MethodName) ({ cls := "PointAtWhoIsLost", name := "home", desc := "(I)I" } : Jvm.MethodName)) ∈ lw_all := lw_g (lw_at lw_m3 33 rfl) rfl
theorem q600 : (Jvm.Cond.code ({ cls := "PointAtWhoIsLost", name := "home", desc := "(I)I" } : Jvm.MethodName) prog_1_method_27_code (3 : Nat) (Option.some Jvm.ClassFile.FieldType.int)) ∈ lw_all := lw_g (lw_at lw_m3 34 rfl) rfl
theorem q602 : (Jvm.Cond.instanceMethod ({ cls := "PointAtWhoIsLost", name := "post", desc := "(III)I" } : Jvm.MethodName)) ∈ lw_all := lw_g (lw_at lw_m3 36 rfl) rfl
theorem q603 : (Jvm.Cond.selects "PointAtWhoIsLost" ({ cls := "PointAtWhoIsLost", name := "post", desc := "(III)I" } : Jvm.MethodName) ({ cls := "PointAtWhoIsLost", name := "post", desc := "(III)I" } : Jvm.MethodName)) ∈ lw_all := lw_g (lw_at lw_m3 37 rfl) rfl
theorem q604 : (Jvm.Cond.code ({ cls := "PointAtWhoIsLost", name := "post", desc := "(III)I" } : Jvm.MethodName) prog_1_method_28_code (4 : Nat) (Option.some Jvm.ClassFile.FieldType.int)) ∈ lw_all := lw_g (lw_at lw_m3 38 rfl) rfl
theorem q605 : (Jvm.Cond.methodLink "PointAtWhoIsLost" (189 : Nat) ({ cls := "PointAtWhoIsLost$Fen", name := "addsPost", desc := "(III)I" } : Jvm.MethodName)) ∈ lw_all := lw_g (lw_at lw_m3 39 rfl) rfl
theorem q610 : (Jvm.Cond.static ({ cls := "PointAtWhoIsLost", name := "made", desc := "(IIII)LPointAtWhoIsLost$Post;" } : Jvm.MethodName)) ∈ lw_all := lw_g (lw_at lw_m3 44 rfl) rfl
theorem q611 : (Jvm.Cond.code ({ cls := "PointAtWhoIsLost", name := "made", desc := "(IIII)LPointAtWhoIsLost$Post;" } : Jvm.MethodName) prog_1_method_7_code (4 : Nat) (Option.some (Jvm.ClassFile.FieldType.object "PointAtWhoIsLost$Post"))) ∈ lw_all := lw_g (lw_at lw_m3 45 rfl) rfl
theorem q613 : (Jvm.Cond.methodLink "PointAtWhoIsLost" (15 : Nat) ({ cls := "PointAtWhoIsLost$Post", name := "<init>", desc := "(III)V" } : Jvm.MethodName)) ∈ lw_all := lw_g (lw_at lw_m3 47 rfl) rfl
theorem q618 : (Jvm.Cond.fieldLink "PointAtWhoIsLost" (139 : Nat) "PointAtWhoIsLost$Post" "number" "I") ∈ lw_all := lw_g (lw_at lw_m3 52 rfl) rfl
theorem q622 : (Jvm.Cond.fieldLink "PointAtWhoIsLost" (158 : Nat) "PointAtWhoIsLost$Post" "a" "I") ∈ lw_all := lw_g (lw_at lw_m3 56 rfl) rfl
theorem q630 : (Jvm.Cond.fieldLink "PointAtWhoIsLost" (236 : Nat) "PointAtWhoIsLost$Post" "cell" "I") ∈ lw_all := lw_g (lw_at lw_m3 64 rfl) rfl
theorem q639 : (Jvm.Cond.methodLink "PointAtWhoIsLost" (21 : Nat) ({ cls := "PointAtWhoIsLost$Keen", name := "<init>", desc := "(III)V" } : Jvm.MethodName)) ∈ lw_all := lw_g (lw_at lw_m3 73 rfl) rfl
theorem q648 : (Jvm.Cond.methodLink "PointAtWhoIsLost" (24 : Nat) ({ cls := "PointAtWhoIsLost$Lazy", name := "<init>", desc := "(III)V" } : Jvm.MethodName)) ∈ lw_all := lw_g (lw_at lw_m3 82 rfl) rfl
theorem q656 : (Jvm.Cond.methodLink "PointAtWhoIsLost" (27 : Nat) ({ cls := "PointAtWhoIsLost$Wild", name := "<init>", desc := "(III)V" } : Jvm.MethodName)) ∈ lw_all := lw_g (lw_at lw_m3 90 rfl) rfl
theorem q664 : (Jvm.Cond.methodLink "PointAtWhoIsLost" (30 : Nat) ({ cls := "PointAtWhoIsLost$Rotten", name := "<init>", desc := "(III)V" } : Jvm.MethodName)) ∈ lw_all := lw_g (lw_at lw_m3 98 rfl) rfl
theorem q672 : (Jvm.Cond.methodLink "PointAtWhoIsLost" (33 : Nat) ({ cls := "PointAtWhoIsLost$Torn", name := "<init>", desc := "(III)V" } : Jvm.MethodName)) ∈ lw_all := lw_g (lw_at lw_m3 106 rfl) rfl
theorem q681 : (Jvm.Cond.instanceMethod ({ cls := "PointAtWhoIsLost", name := "walker", desc := "(II)I" } : Jvm.MethodName)) ∈ lw_all := lw_g (lw_at lw_m3 115 rfl) rfl
theorem q682 : (Jvm.Cond.selects "PointAtWhoIsLost" ({ cls := "PointAtWhoIsLost", name := "walker", desc := "(II)I" } : Jvm.MethodName) ({ cls := "PointAtWhoIsLost", name := "walker", desc := "(II)I" } : Jvm.MethodName)) ∈ lw_all := lw_g (lw_at lw_m3 116 rfl) rfl
theorem q683 : (Jvm.Cond.code ({ cls := "PointAtWhoIsLost", name := "walker", desc := "(II)I" } : Jvm.MethodName) prog_1_method_29_code (3 : Nat) (Option.some Jvm.ClassFile.FieldType.int)) ∈ lw_all := lw_g (lw_at lw_m3 117 rfl) rfl
theorem q684 : (Jvm.Cond.methodLink "PointAtWhoIsLost" (196 : Nat) ({ cls := "PointAtWhoIsLost$Fen", name := "addsWalker", desc := "(II)I" } : Jvm.MethodName)) ∈ lw_all := lw_g (lw_at lw_m3 118 rfl) rfl
theorem q689 : (Jvm.Cond.instanceMethod ({ cls := "PointAtWhoIsLost", name := "sure", desc := "(II)I" } : Jvm.MethodName)) ∈ lw_all := lw_g (lw_at lw_m3 123 rfl) rfl
theorem q690 : (Jvm.Cond.selects "PointAtWhoIsLost" ({ cls := "PointAtWhoIsLost", name := "sure", desc := "(II)I" } : Jvm.MethodName) ({ cls := "PointAtWhoIsLost", name := "sure", desc := "(II)I" } : Jvm.MethodName)) ∈ lw_all := lw_g (lw_at lw_m3 124 rfl) rfl
theorem q691 : (Jvm.Cond.code ({ cls := "PointAtWhoIsLost", name := "sure", desc := "(II)I" } : Jvm.MethodName) prog_1_method_30_code (4 : Nat) (Option.some Jvm.ClassFile.FieldType.int)) ∈ lw_all := lw_g (lw_at lw_m3 125 rfl) rfl
theorem q692 : (Jvm.Cond.methodLink "PointAtWhoIsLost" (199 : Nat) ({ cls := "PointAtWhoIsLost$Fen", name := "isWalker", desc := "(I)Z" } : Jvm.MethodName)) ∈ lw_all := lw_g (lw_at lw_m3 126 rfl) rfl
theorem q698 : (Jvm.Cond.instanceMethod ({ cls := "PointAtWhoIsLost", name := "feed", desc := "(I)I" } : Jvm.MethodName)) ∈ lw_all := lw_g (lw_at lw_m3 132 rfl) rfl
theorem q699 : (Jvm.Cond.selects "PointAtWhoIsLost" ({ cls := "PointAtWhoIsLost", name := "feed", desc := "(I)I" } : Jvm.MethodName) ({ cls := "PointAtWhoIsLost", name := "feed", desc := "(I)I" } : Jvm.MethodName)) ∈ lw_all := lw_g (lw_at lw_m3 133 rfl) rfl
theorem q700 : (Jvm.Cond.code ({ cls := "PointAtWhoIsLost", name := "feed", desc := "(I)I" } : Jvm.MethodName) prog_1_method_31_code (2 : Nat) (Option.some Jvm.ClassFile.FieldType.int)) ∈ lw_all := lw_g (lw_at lw_m3 134 rfl) rfl
theorem q702 : (Jvm.Cond.instanceMethod ({ cls := "PointAtWhoIsLost", name := "wipe", desc := "()I" } : Jvm.MethodName)) ∈ lw_all := lw_g (lw_at lw_m3 136 rfl) rfl
theorem q703 : (Jvm.Cond.selects "PointAtWhoIsLost" ({ cls := "PointAtWhoIsLost", name := "wipe", desc := "()I" } : Jvm.MethodName) ({ cls := "PointAtWhoIsLost", name := "wipe", desc := "()I" } : Jvm.MethodName)) ∈ lw_all := lw_g (lw_at lw_m3 137 rfl) rfl
theorem q704 : (Jvm.Cond.code ({ cls := "PointAtWhoIsLost", name := "wipe", desc := "()I" } : Jvm.MethodName) prog_1_method_32_code (2 : Nat) (Option.some Jvm.ClassFile.FieldType.int)) ∈ lw_all := lw_g (lw_at lw_m3 138 rfl) rfl
theorem q706 : (Jvm.Cond.instanceMethod ({ cls := "PointAtWhoIsLost", name := "fen", desc := "()I" } : Jvm.MethodName)) ∈ lw_all := lw_g (lw_at lw_m3 140 rfl) rfl
theorem q707 : (Jvm.Cond.selects "PointAtWhoIsLost" ({ cls := "PointAtWhoIsLost", name := "fen", desc := "()I" } : Jvm.MethodName) ({ cls := "PointAtWhoIsLost", name := "fen", desc := "()I" } : Jvm.MethodName)) ∈ lw_all := lw_g (lw_at lw_m3 141 rfl) rfl
theorem q708 : (Jvm.Cond.codeWith ({ cls := "PointAtWhoIsLost", name := "fen", desc := "()I" } : Jvm.MethodName) prog_1_method_33_code (5 : Nat) (Option.some Jvm.ClassFile.FieldType.int) [((0 : Nat), (38 : Nat), (45 : Nat), (228 : Nat)), ((0 : Nat), (38 : Nat), (68 : Nat), (0 : Nat)), ((45 : Nat), (61 : Nat), (68 : Nat), (0 : Nat)), ((68 : Nat), (70 : Nat), (68 : Nat), (0 : Nat))]) ∈ lw_all := lw_g (lw_at lw_m3 142 rfl) rfl
theorem q709 : (Jvm.Cond.classLink "PointAtWhoIsLost" (228 : Nat) "PointAtWhoIsLost$Fault") ∈ lw_all := lw_g (lw_at lw_m3 143 rfl) rfl
theorem q710 : (Jvm.Cond.classLink "PointAtWhoIsLost" (208 : Nat) "PointAtWhoIsLost$Reader") ∈ lw_all := lw_g (lw_at lw_m3 144 rfl) rfl
theorem q712 : (Jvm.Cond.methodLink "PointAtWhoIsLost" (210 : Nat) ({ cls := "PointAtWhoIsLost$Fen", name := "copied", desc := "()LPointAtWhoIsLost$Fen;" } : Jvm.MethodName)) ∈ lw_all := lw_g (lw_at lw_m3 146 rfl) rfl
theorem q719 : (Jvm.Cond.methodLink "PointAtWhoIsLost" (214 : Nat) ({ cls := "PointAtWhoIsLost$Reader", name := "<init>", desc := "([IILPointAtWhoIsLost$Fen;)V" } : Jvm.MethodName)) ∈ lw_all := lw_g (lw_at lw_m3 153 rfl) rfl
theorem q726 : (Jvm.Cond.fieldLink "PointAtWhoIsLost" (221 : Nat) "PointAtWhoIsLost$Reader" "fen" "LPointAtWhoIsLost$Fen;") ∈ lw_all := lw_g (lw_at lw_m3 160 rfl) rfl
theorem q746 : (Jvm.Cond.methodLink "PointAtWhoIsLost" (217 : Nat) ({ cls := "PointAtWhoIsLost$Reader", name := "read", desc := "()I" } : Jvm.MethodName)) ∈ lw_all := lw_g (lw_at lw_m3 180 rfl) rfl
theorem q969 : (Jvm.Cond.fieldLink "PointAtWhoIsLost" (230 : Nat) "PointAtWhoIsLost$Fault" "place" "I") ∈ lw_all := lw_g (lw_at lw_m4 163 rfl) rfl
theorem q1063 : (Jvm.Cond.methodLink "PointAtWhoIsLost" (224 : Nat) ({ cls := "PointAtWhoIsLost", name := "becomes", desc := "(LPointAtWhoIsLost$Fen;)V" } : Jvm.MethodName)) ∈ lw_all := lw_g (lw_at lw_m5 17 rfl) rfl
theorem q1064 : (Jvm.Cond.privateMethod ({ cls := "PointAtWhoIsLost", name := "becomes", desc := "(LPointAtWhoIsLost$Fen;)V" } : Jvm.MethodName)) ∈ lw_tbl := lw_at lw_m5 18 rfl
theorem q1065 : (Jvm.Cond.instanceMethod ({ cls := "PointAtWhoIsLost", name := "becomes", desc := "(LPointAtWhoIsLost$Fen;)V" } : Jvm.MethodName)) ∈ lw_all := lw_g (lw_at lw_m5 19 rfl) rfl
theorem q1066 : (Jvm.Cond.code ({ cls := "PointAtWhoIsLost", name := "becomes", desc := "(LPointAtWhoIsLost$Fen;)V" } : Jvm.MethodName) prog_1_method_24_code (4 : Nat) (Option.none : Option Jvm.ClassFile.FieldType)) ∈ lw_all := lw_g (lw_at lw_m5 20 rfl) rfl
theorem q1068 : (Jvm.Cond.instanceMethod ({ cls := "PointAtWhoIsLost", name := "postOf", desc := "(II)I" } : Jvm.MethodName)) ∈ lw_all := lw_g (lw_at lw_m5 22 rfl) rfl
theorem q1069 : (Jvm.Cond.selects "PointAtWhoIsLost" ({ cls := "PointAtWhoIsLost", name := "postOf", desc := "(II)I" } : Jvm.MethodName) ({ cls := "PointAtWhoIsLost", name := "postOf", desc := "(II)I" } : Jvm.MethodName)) ∈ lw_all := lw_g (lw_at lw_m5 23 rfl) rfl
theorem q1070 : (Jvm.Cond.code ({ cls := "PointAtWhoIsLost", name := "postOf", desc := "(II)I" } : Jvm.MethodName) prog_1_method_34_code (3 : Nat) (Option.some Jvm.ClassFile.FieldType.int)) ∈ lw_all := lw_g (lw_at lw_m5 24 rfl) rfl
theorem q1071 : (Jvm.Cond.methodLink "PointAtWhoIsLost" (233 : Nat) ({ cls := "PointAtWhoIsLost$Post", name := "kind", desc := "()I" } : Jvm.MethodName)) ∈ lw_all := lw_g (lw_at lw_m5 25 rfl) rfl
theorem q1092 : (Jvm.Cond.instanceMethod ({ cls := "PointAtWhoIsLost", name := "walkerOf", desc := "(II)I" } : Jvm.MethodName)) ∈ lw_all := lw_g (lw_at lw_m5 46 rfl) rfl
theorem q1093 : (Jvm.Cond.selects "PointAtWhoIsLost" ({ cls := "PointAtWhoIsLost", name := "walkerOf", desc := "(II)I" } : Jvm.MethodName) ({ cls := "PointAtWhoIsLost", name := "walkerOf", desc := "(II)I" } : Jvm.MethodName)) ∈ lw_all := lw_g (lw_at lw_m5 47 rfl) rfl
theorem q1094 : (Jvm.Cond.code ({ cls := "PointAtWhoIsLost", name := "walkerOf", desc := "(II)I" } : Jvm.MethodName) prog_1_method_35_code (3 : Nat) (Option.some Jvm.ClassFile.FieldType.int)) ∈ lw_all := lw_g (lw_at lw_m5 48 rfl) rfl
theorem q1095 : (Jvm.Cond.methodLink "PointAtWhoIsLost" (241 : Nat) ({ cls := "PointAtWhoIsLost$Fen", name := "isLost", desc := "(I)Z" } : Jvm.MethodName)) ∈ lw_all := lw_g (lw_at lw_m5 49 rfl) rfl
theorem q1096 : (Jvm.Cond.methodLink "PointAtWhoIsLost" (244 : Nat) ({ cls := "PointAtWhoIsLost$Fen", name := "path", desc := "(II)I" } : Jvm.MethodName)) ∈ lw_all := lw_g (lw_at lw_m5 50 rfl) rfl
theorem q1112 : (Jvm.Cond.laysStatic "PointAtWhoIsLost" "DOWN" "[I") ∈ lw_tbl := lw_at lw_m5 66 rfl
theorem q1114 : (Jvm.Cond.laysStatic "PointAtWhoIsLost" "ACROSS" "[I") ∈ lw_tbl := lw_at lw_m5 68 rfl
theorem q1117 : (Jvm.Cond.instanceMethod ({ cls := "PointAtWhoIsLost", name := "isBog", desc := "(I)I" } : Jvm.MethodName)) ∈ lw_all := lw_g (lw_at lw_m5 71 rfl) rfl
theorem q1118 : (Jvm.Cond.selects "PointAtWhoIsLost" ({ cls := "PointAtWhoIsLost", name := "isBog", desc := "(I)I" } : Jvm.MethodName) ({ cls := "PointAtWhoIsLost", name := "isBog", desc := "(I)I" } : Jvm.MethodName)) ∈ lw_all := lw_g (lw_at lw_m5 72 rfl) rfl
theorem q1119 : (Jvm.Cond.code ({ cls := "PointAtWhoIsLost", name := "isBog", desc := "(I)I" } : Jvm.MethodName) prog_1_method_36_code (2 : Nat) (Option.some Jvm.ClassFile.FieldType.int)) ∈ lw_all := lw_g (lw_at lw_m5 73 rfl) rfl
theorem q1121 : (Jvm.Cond.instanceMethod ({ cls := "PointAtWhoIsLost", name := "way", desc := "(II)I" } : Jvm.MethodName)) ∈ lw_all := lw_g (lw_at lw_m5 75 rfl) rfl
theorem q1122 : (Jvm.Cond.selects "PointAtWhoIsLost" ({ cls := "PointAtWhoIsLost", name := "way", desc := "(II)I" } : Jvm.MethodName) ({ cls := "PointAtWhoIsLost", name := "way", desc := "(II)I" } : Jvm.MethodName)) ∈ lw_all := lw_g (lw_at lw_m5 76 rfl) rfl
theorem q1123 : (Jvm.Cond.code ({ cls := "PointAtWhoIsLost", name := "way", desc := "(II)I" } : Jvm.MethodName) prog_1_method_37_code (3 : Nat) (Option.some Jvm.ClassFile.FieldType.int)) ∈ lw_all := lw_g (lw_at lw_m5 77 rfl) rfl
theorem q1124 : (Jvm.Cond.methodLink "PointAtWhoIsLost" (247 : Nat) ({ cls := "PointAtWhoIsLost", name := "wayOf", desc := "(II)I" } : Jvm.MethodName)) ∈ lw_all := lw_g (lw_at lw_m5 78 rfl) rfl
theorem q1126 : (Jvm.Cond.instanceMethod ({ cls := "PointAtWhoIsLost", name := "arm", desc := "(II)I" } : Jvm.MethodName)) ∈ lw_all := lw_g (lw_at lw_m5 80 rfl) rfl
theorem q1127 : (Jvm.Cond.selects "PointAtWhoIsLost" ({ cls := "PointAtWhoIsLost", name := "arm", desc := "(II)I" } : Jvm.MethodName) ({ cls := "PointAtWhoIsLost", name := "arm", desc := "(II)I" } : Jvm.MethodName)) ∈ lw_all := lw_g (lw_at lw_m5 81 rfl) rfl
theorem q1128 : (Jvm.Cond.code ({ cls := "PointAtWhoIsLost", name := "arm", desc := "(II)I" } : Jvm.MethodName) prog_1_method_39_code (3 : Nat) (Option.some Jvm.ClassFile.FieldType.int)) ∈ lw_all := lw_g (lw_at lw_m5 82 rfl) rfl
theorem q1129 : (Jvm.Cond.methodLink "PointAtWhoIsLost" (253 : Nat) ({ cls := "PointAtWhoIsLost", name := "armAt", desc := "(LPointAtWhoIsLost$Post;I)I" } : Jvm.MethodName)) ∈ lw_all := lw_g (lw_at lw_m5 83 rfl) rfl
theorem q1130 : (Jvm.Cond.privateMethod ({ cls := "PointAtWhoIsLost", name := "armAt", desc := "(LPointAtWhoIsLost$Post;I)I" } : Jvm.MethodName)) ∈ lw_tbl := lw_at lw_m5 84 rfl
theorem q1131 : (Jvm.Cond.instanceMethod ({ cls := "PointAtWhoIsLost", name := "armAt", desc := "(LPointAtWhoIsLost$Post;I)I" } : Jvm.MethodName)) ∈ lw_all := lw_g (lw_at lw_m5 85 rfl) rfl
theorem q1132 : (Jvm.Cond.code ({ cls := "PointAtWhoIsLost", name := "armAt", desc := "(LPointAtWhoIsLost$Post;I)I" } : Jvm.MethodName) prog_1_method_38_code (3 : Nat) (Option.some Jvm.ClassFile.FieldType.int)) ∈ lw_all := lw_g (lw_at lw_m5 86 rfl) rfl
theorem q1133 : (Jvm.Cond.methodLink "PointAtWhoIsLost" (250 : Nat) ({ cls := "PointAtWhoIsLost$Lost", name := "alone", desc := "(I)LPointAtWhoIsLost$Lost;" } : Jvm.MethodName)) ∈ lw_all := lw_g (lw_at lw_m5 87 rfl) rfl
theorem q1138 : (Jvm.Cond.instanceMethod ({ cls := "PointAtWhoIsLost", name := "where", desc := "(III)I" } : Jvm.MethodName)) ∈ lw_all := lw_g (lw_at lw_m5 92 rfl) rfl
theorem q1139 : (Jvm.Cond.selects "PointAtWhoIsLost" ({ cls := "PointAtWhoIsLost", name := "where", desc := "(III)I" } : Jvm.MethodName) ({ cls := "PointAtWhoIsLost", name := "where", desc := "(III)I" } : Jvm.MethodName)) ∈ lw_all := lw_g (lw_at lw_m5 93 rfl) rfl
theorem q1140 : (Jvm.Cond.codeWith ({ cls := "PointAtWhoIsLost", name := "where", desc := "(III)I" } : Jvm.MethodName) prog_1_method_44_code (7 : Nat) (Option.some Jvm.ClassFile.FieldType.int) [((0 : Nat), (30 : Nat), (97 : Nat), (104 : Nat)), ((31 : Nat), (69 : Nat), (97 : Nat), (104 : Nat)), ((70 : Nat), (97 : Nat), (97 : Nat), (104 : Nat))]) ∈ lw_all := lw_g (lw_at lw_m5 94 rfl) rfl
theorem q1141 : (Jvm.Cond.methodLink "PointAtWhoIsLost" (272 : Nat) ({ cls := "PointAtWhoIsLost", name := "pairsIn", desc := "(ZII)[J" } : Jvm.MethodName)) ∈ lw_all := lw_g (lw_at lw_m5 95 rfl) rfl
theorem q1142 : (Jvm.Cond.privateMethod ({ cls := "PointAtWhoIsLost", name := "pairsIn", desc := "(ZII)[J" } : Jvm.MethodName)) ∈ lw_tbl := lw_at lw_m5 96 rfl
theorem q1143 : (Jvm.Cond.instanceMethod ({ cls := "PointAtWhoIsLost", name := "pairsIn", desc := "(ZII)[J" } : Jvm.MethodName)) ∈ lw_all := lw_g (lw_at lw_m5 97 rfl) rfl
theorem q1144 : (Jvm.Cond.code ({ cls := "PointAtWhoIsLost", name := "pairsIn", desc := "(ZII)[J" } : Jvm.MethodName) prog_1_method_41_code (6 : Nat) (Option.some (Jvm.ClassFile.FieldType.array Jvm.ClassFile.FieldType.long))) ∈ lw_all := lw_g (lw_at lw_m5 98 rfl) rfl
theorem q1145 : (Jvm.Cond.methodLink "PointAtWhoIsLost" (257 : Nat) ({ cls := "PointAtWhoIsLost", name := "toldIn", desc := "(ZIII)[J" } : Jvm.MethodName)) ∈ lw_all := lw_g (lw_at lw_m5 99 rfl) rfl
theorem q1146 : (Jvm.Cond.privateMethod ({ cls := "PointAtWhoIsLost", name := "toldIn", desc := "(ZIII)[J" } : Jvm.MethodName)) ∈ lw_tbl := lw_at lw_m5 100 rfl
theorem q1147 : (Jvm.Cond.instanceMethod ({ cls := "PointAtWhoIsLost", name := "toldIn", desc := "(ZIII)[J" } : Jvm.MethodName)) ∈ lw_all := lw_g (lw_at lw_m5 101 rfl) rfl
theorem q1148 : (Jvm.Cond.codeWith ({ cls := "PointAtWhoIsLost", name := "toldIn", desc := "(ZIII)[J" } : Jvm.MethodName) prog_1_method_40_code (8 : Nat) (Option.some (Jvm.ClassFile.FieldType.array Jvm.ClassFile.FieldType.long)) [((49 : Nat), (78 : Nat), (81 : Nat), (121 : Nat))]) ∈ lw_all := lw_g (lw_at lw_m5 102 rfl) rfl
theorem q1149 : (Jvm.Cond.constantLong "PointAtWhoIsLost" (261 : Nat) (-1 : Int64)) ∈ lw_all := lw_g (lw_at lw_m5 103 rfl) rfl
theorem q1150 : (Jvm.Cond.constantLong "PointAtWhoIsLost" (263 : Nat) (8 : Int64)) ∈ lw_all := lw_g (lw_at lw_m5 104 rfl) rfl
theorem q1151 : (Jvm.Cond.methodLink "PointAtWhoIsLost" (276 : Nat) ({ cls := "PointAtWhoIsLost", name := "many", desc := "([JI)I" } : Jvm.MethodName)) ∈ lw_all := lw_g (lw_at lw_m5 105 rfl) rfl
theorem q1152 : (Jvm.Cond.privateMethod ({ cls := "PointAtWhoIsLost", name := "many", desc := "([JI)I" } : Jvm.MethodName)) ∈ lw_tbl := lw_at lw_m5 106 rfl
theorem q1153 : (Jvm.Cond.instanceMethod ({ cls := "PointAtWhoIsLost", name := "many", desc := "([JI)I" } : Jvm.MethodName)) ∈ lw_all := lw_g (lw_at lw_m5 107 rfl) rfl
theorem q1154 : (Jvm.Cond.code ({ cls := "PointAtWhoIsLost", name := "many", desc := "([JI)I" } : Jvm.MethodName) prog_1_method_43_code (5 : Nat) (Option.some Jvm.ClassFile.FieldType.int)) ∈ lw_all := lw_g (lw_at lw_m5 108 rfl) rfl
theorem q1155 : (Jvm.Cond.methodLink "PointAtWhoIsLost" (265 : Nat) ({ cls := "PointAtWhoIsLost$Fen", name := "next", desc := "(I)I" } : Jvm.MethodName)) ∈ lw_all := lw_g (lw_at lw_m5 109 rfl) rfl
theorem q1164 : (Jvm.Cond.methodLink "PointAtWhoIsLost" (268 : Nat) ({ cls := "PointAtWhoIsLost", name := "fits", desc := "([JII)Z" } : Jvm.MethodName)) ∈ lw_all := lw_g (lw_at lw_m5 118 rfl) rfl
theorem q1165 : (Jvm.Cond.privateMethod ({ cls := "PointAtWhoIsLost", name := "fits", desc := "([JII)Z" } : Jvm.MethodName)) ∈ lw_tbl := lw_at lw_m5 119 rfl
theorem q1166 : (Jvm.Cond.instanceMethod ({ cls := "PointAtWhoIsLost", name := "fits", desc := "([JII)Z" } : Jvm.MethodName)) ∈ lw_all := lw_g (lw_at lw_m5 120 rfl) rfl
theorem q1167 : (Jvm.Cond.code ({ cls := "PointAtWhoIsLost", name := "fits", desc := "([JII)Z" } : Jvm.MethodName) prog_1_method_42_code (5 : Nat) (Option.some Jvm.ClassFile.FieldType.boolean)) ∈ lw_all := lw_g (lw_at lw_m5 121 rfl) rfl
theorem q1169 : (Jvm.Cond.instanceMethod ({ cls := "PointAtWhoIsLost", name := "of", desc := "(III)I" } : Jvm.MethodName)) ∈ lw_all := lw_g (lw_at lw_m5 123 rfl) rfl
theorem q1170 : (Jvm.Cond.selects "PointAtWhoIsLost" ({ cls := "PointAtWhoIsLost", name := "of", desc := "(III)I" } : Jvm.MethodName) ({ cls := "PointAtWhoIsLost", name := "of", desc := "(III)I" } : Jvm.MethodName)) ∈ lw_all := lw_g (lw_at lw_m5 124 rfl) rfl
theorem q1171 : (Jvm.Cond.codeWith ({ cls := "PointAtWhoIsLost", name := "of", desc := "(III)I" } : Jvm.MethodName) prog_1_method_48_code (5 : Nat) (Option.some Jvm.ClassFile.FieldType.int) [((0 : Nat), (33 : Nat), (34 : Nat), (104 : Nat))]) ∈ lw_all := lw_g (lw_at lw_m5 125 rfl) rfl
theorem q1172 : (Jvm.Cond.methodLink "PointAtWhoIsLost" (290 : Nat) ({ cls := "PointAtWhoIsLost", name := "nextOf", desc := "([J)I" } : Jvm.MethodName)) ∈ lw_all := lw_g (lw_at lw_m5 126 rfl) rfl
theorem q1173 : (Jvm.Cond.privateMethod ({ cls := "PointAtWhoIsLost", name := "nextOf", desc := "([J)I" } : Jvm.MethodName)) ∈ lw_tbl := lw_at lw_m5 127 rfl
theorem q1174 : (Jvm.Cond.instanceMethod ({ cls := "PointAtWhoIsLost", name := "nextOf", desc := "([J)I" } : Jvm.MethodName)) ∈ lw_all := lw_g (lw_at lw_m5 128 rfl) rfl
theorem q1175 : (Jvm.Cond.code ({ cls := "PointAtWhoIsLost", name := "nextOf", desc := "([J)I" } : Jvm.MethodName) prog_1_method_46_code (6 : Nat) (Option.some Jvm.ClassFile.FieldType.int)) ∈ lw_all := lw_g (lw_at lw_m5 129 rfl) rfl
theorem q1176 : (Jvm.Cond.constant "PointAtWhoIsLost" (283 : Nat) (100000 : Int32)) ∈ lw_all := lw_g (lw_at lw_m5 130 rfl) rfl
theorem q1177 : (Jvm.Cond.methodLink "PointAtWhoIsLost" (284 : Nat) ({ cls := "PointAtWhoIsLost", name := "worstOf", desc := "([JI)I" } : Jvm.MethodName)) ∈ lw_all := lw_g (lw_at lw_m5 131 rfl) rfl
theorem q1178 : (Jvm.Cond.privateMethod ({ cls := "PointAtWhoIsLost", name := "worstOf", desc := "([JI)I" } : Jvm.MethodName)) ∈ lw_tbl := lw_at lw_m5 132 rfl
theorem q1179 : (Jvm.Cond.instanceMethod ({ cls := "PointAtWhoIsLost", name := "worstOf", desc := "([JI)I" } : Jvm.MethodName)) ∈ lw_all := lw_g (lw_at lw_m5 133 rfl) rfl
theorem q1180 : (Jvm.Cond.code ({ cls := "PointAtWhoIsLost", name := "worstOf", desc := "([JI)I" } : Jvm.MethodName) prog_1_method_45_code (7 : Nat) (Option.some Jvm.ClassFile.FieldType.int)) ∈ lw_all := lw_g (lw_at lw_m5 134 rfl) rfl
theorem q1181 : (Jvm.Cond.methodLink "PointAtWhoIsLost" (280 : Nat) ({ cls := "java/lang/Math", name := "max", desc := "(II)I" } : Jvm.MethodName)) ∈ lw_all := lw_g (lw_at lw_m5 135 rfl) rfl
theorem q1182 : (Jvm.Cond.methodLink "PointAtWhoIsLost" (287 : Nat) ({ cls := "java/lang/Math", name := "min", desc := "(II)I" } : Jvm.MethodName)) ∈ lw_all := lw_g (lw_at lw_m5 136 rfl) rfl
theorem q1183 : (Jvm.Cond.methodLink "PointAtWhoIsLost" (294 : Nat) ({ cls := "PointAtWhoIsLost", name := "falseOf", desc := "([J)I" } : Jvm.MethodName)) ∈ lw_all := lw_g (lw_at lw_m5 137 rfl) rfl
theorem q1184 : (Jvm.Cond.privateMethod ({ cls := "PointAtWhoIsLost", name := "falseOf", desc := "([J)I" } : Jvm.MethodName)) ∈ lw_tbl := lw_at lw_m5 138 rfl
theorem q1185 : (Jvm.Cond.instanceMethod ({ cls := "PointAtWhoIsLost", name := "falseOf", desc := "([J)I" } : Jvm.MethodName)) ∈ lw_all := lw_g (lw_at lw_m5 139 rfl) rfl
theorem q1186 : (Jvm.Cond.code ({ cls := "PointAtWhoIsLost", name := "falseOf", desc := "([J)I" } : Jvm.MethodName) prog_1_method_47_code (4 : Nat) (Option.some Jvm.ClassFile.FieldType.int)) ∈ lw_all := lw_g (lw_at lw_m5 140 rfl) rfl
theorem q1188 : (Jvm.Cond.instanceMethod ({ cls := "PointAtWhoIsLost", name := "armed", desc := "(II)I" } : Jvm.MethodName)) ∈ lw_all := lw_g (lw_at lw_m5 142 rfl) rfl
theorem q1189 : (Jvm.Cond.selects "PointAtWhoIsLost" ({ cls := "PointAtWhoIsLost", name := "armed", desc := "(II)I" } : Jvm.MethodName) ({ cls := "PointAtWhoIsLost", name := "armed", desc := "(II)I" } : Jvm.MethodName)) ∈ lw_all := lw_g (lw_at lw_m5 143 rfl) rfl
theorem q1190 : (Jvm.Cond.code ({ cls := "PointAtWhoIsLost", name := "armed", desc := "(II)I" } : Jvm.MethodName) prog_1_method_49_code (5 : Nat) (Option.some Jvm.ClassFile.FieldType.int)) ∈ lw_all := lw_g (lw_at lw_m5 144 rfl) rfl
theorem q1192 : (Jvm.Cond.instanceMethod ({ cls := "PointAtWhoIsLost", name := "alike", desc := "(I)I" } : Jvm.MethodName)) ∈ lw_all := lw_g (lw_at lw_m5 146 rfl) rfl
theorem q1193 : (Jvm.Cond.selects "PointAtWhoIsLost" ({ cls := "PointAtWhoIsLost", name := "alike", desc := "(I)I" } : Jvm.MethodName) ({ cls := "PointAtWhoIsLost", name := "alike", desc := "(I)I" } : Jvm.MethodName)) ∈ lw_all := lw_g (lw_at lw_m5 147 rfl) rfl
theorem q1194 : (Jvm.Cond.code ({ cls := "PointAtWhoIsLost", name := "alike", desc := "(I)I" } : Jvm.MethodName) prog_1_method_50_code (2 : Nat) (Option.some Jvm.ClassFile.FieldType.int)) ∈ lw_all := lw_g (lw_at lw_m5 148 rfl) rfl
theorem q1195 : (Jvm.Cond.methodLink "PointAtWhoIsLost" (297 : Nat) ({ cls := "PointAtWhoIsLost$Fen", name := "isDry", desc := "(J)Z" } : Jvm.MethodName)) ∈ lw_all := lw_g (lw_at lw_m5 149 rfl) rfl
theorem q1196 : (Jvm.Cond.methodLink "PointAtWhoIsLost" (300 : Nat) ({ cls := "PointAtWhoIsLost", name := "allPosts", desc := "()I" } : Jvm.MethodName)) ∈ lw_all := lw_g (lw_at lw_m5 150 rfl) rfl
theorem q1197 : (Jvm.Cond.privateMethod ({ cls := "PointAtWhoIsLost", name := "allPosts", desc := "()I" } : Jvm.MethodName)) ∈ lw_tbl := lw_at lw_m5 151 rfl
theorem q1198 : (Jvm.Cond.instanceMethod ({ cls := "PointAtWhoIsLost", name := "allPosts", desc := "()I" } : Jvm.MethodName)) ∈ lw_all := lw_g (lw_at lw_m5 152 rfl) rfl
theorem q1199 : (Jvm.Cond.code ({ cls := "PointAtWhoIsLost", name := "allPosts", desc := "()I" } : Jvm.MethodName) prog_1_method_61_code (1 : Nat) (Option.some Jvm.ClassFile.FieldType.int)) ∈ lw_all := lw_g (lw_at lw_m5 153 rfl) rfl
theorem q1200 : (Jvm.Cond.methodLink "PointAtWhoIsLost" (303 : Nat) ({ cls := "PointAtWhoIsLost", name := "tells", desc := "(ILPointAtWhoIsLost$Post;)V" } : Jvm.MethodName)) ∈ lw_all := lw_g (lw_at lw_m5 154 rfl) rfl
theorem q1201 : (Jvm.Cond.privateMethod ({ cls := "PointAtWhoIsLost", name := "tells", desc := "(ILPointAtWhoIsLost$Post;)V" } : Jvm.MethodName)) ∈ lw_tbl := lw_at lw_m5 155 rfl
theorem q1202 : (Jvm.Cond.instanceMethod ({ cls := "PointAtWhoIsLost", name := "tells", desc := "(ILPointAtWhoIsLost$Post;)V" } : Jvm.MethodName)) ∈ lw_all := lw_g (lw_at lw_m5 156 rfl) rfl
theorem q1203 : (Jvm.Cond.code ({ cls := "PointAtWhoIsLost", name := "tells", desc := "(ILPointAtWhoIsLost$Post;)V" } : Jvm.MethodName) prog_1_method_57_code (7 : Nat) (Option.none : Option Jvm.ClassFile.FieldType)) ∈ lw_all := lw_g (lw_at lw_m5 157 rfl) rfl
theorem q1204 : (Jvm.Cond.methodLink "PointAtWhoIsLost" (318 : Nat) ({ cls := "PointAtWhoIsLost", name := "has", desc := "(II)Z" } : Jvm.MethodName)) ∈ lw_all := lw_g (lw_at lw_m5 158 rfl) rfl
theorem q1205 : (Jvm.Cond.constantLong "PointAtWhoIsLost" (322 : Nat) (10 : Int64)) ∈ lw_all := lw_g (lw_at lw_m5 159 rfl) rfl
theorem q1206 : (Jvm.Cond.methodLink "PointAtWhoIsLost" (307 : Nat) ({ cls := "PointAtWhoIsLost", name := "manyAlike", desc := "(I)I" } : Jvm.MethodName)) ∈ lw_all := lw_g (lw_at lw_m5 160 rfl) rfl
theorem q1207 : (Jvm.Cond.privateMethod ({ cls := "PointAtWhoIsLost", name := "manyAlike", desc := "(I)I" } : Jvm.MethodName)) ∈ lw_tbl := lw_at lw_m5 161 rfl
theorem q1208 : (Jvm.Cond.instanceMethod ({ cls := "PointAtWhoIsLost", name := "manyAlike", desc := "(I)I" } : Jvm.MethodName)) ∈ lw_all := lw_g (lw_at lw_m5 162 rfl) rfl
theorem q1209 : (Jvm.Cond.code ({ cls := "PointAtWhoIsLost", name := "manyAlike", desc := "(I)I" } : Jvm.MethodName) prog_1_method_58_code (4 : Nat) (Option.some Jvm.ClassFile.FieldType.int)) ∈ lw_all := lw_g (lw_at lw_m5 163 rfl) rfl
theorem q1211 : (Jvm.Cond.instanceMethod ({ cls := "PointAtWhoIsLost", name := "right", desc := "(I)I" } : Jvm.MethodName)) ∈ lw_all := lw_g (lw_at lw_m5 165 rfl) rfl
theorem q1212 : (Jvm.Cond.selects "PointAtWhoIsLost" ({ cls := "PointAtWhoIsLost", name := "right", desc := "(I)I" } : Jvm.MethodName) ({ cls := "PointAtWhoIsLost", name := "right", desc := "(I)I" } : Jvm.MethodName)) ∈ lw_all := lw_g (lw_at lw_m5 166 rfl) rfl
theorem q1213 : (Jvm.Cond.code ({ cls := "PointAtWhoIsLost", name := "right", desc := "(I)I" } : Jvm.MethodName) prog_1_method_51_code (4 : Nat) (Option.some Jvm.ClassFile.FieldType.int)) ∈ lw_all := lw_g (lw_at lw_m5 167 rfl) rfl
theorem q1215 : (Jvm.Cond.instanceMethod ({ cls := "PointAtWhoIsLost", name := "pointing", desc := "(I)I" } : Jvm.MethodName)) ∈ lw_all := lw_g (lw_at lw_m5 169 rfl) rfl
theorem q1216 : (Jvm.Cond.selects "PointAtWhoIsLost" ({ cls := "PointAtWhoIsLost", name := "pointing", desc := "(I)I" } : Jvm.MethodName) ({ cls := "PointAtWhoIsLost", name := "pointing", desc := "(I)I" } : Jvm.MethodName)) ∈ lw_all := lw_g (lw_at lw_m5 170 rfl) rfl
theorem q1217 : (Jvm.Cond.code ({ cls := "PointAtWhoIsLost", name := "pointing", desc := "(I)I" } : Jvm.MethodName) prog_1_method_52_code (4 : Nat) (Option.some Jvm.ClassFile.FieldType.int)) ∈ lw_all := lw_g (lw_at lw_m5 171 rfl) rfl
theorem q1219 : (Jvm.Cond.instanceMethod ({ cls := "PointAtWhoIsLost", name := "trembling", desc := "()I" } : Jvm.MethodName)) ∈ lw_all := lw_g (lw_at lw_m5 173 rfl) rfl
theorem q1220 : (Jvm.Cond.selects "PointAtWhoIsLost" ({ cls := "PointAtWhoIsLost", name := "trembling", desc := "()I" } : Jvm.MethodName) ({ cls := "PointAtWhoIsLost", name := "trembling", desc := "()I" } : Jvm.MethodName)) ∈ lw_all := lw_g (lw_at lw_m5 174 rfl) rfl
theorem q1221 : (Jvm.Cond.code ({ cls := "PointAtWhoIsLost", name := "trembling", desc := "()I" } : Jvm.MethodName) prog_1_method_53_code (3 : Nat) (Option.some Jvm.ClassFile.FieldType.int)) ∈ lw_all := lw_g (lw_at lw_m5 175 rfl) rfl
theorem q1223 : (Jvm.Cond.instanceMethod ({ cls := "PointAtWhoIsLost", name := "bestPair", desc := "()I" } : Jvm.MethodName)) ∈ lw_all := lw_g (lw_at lw_m5 177 rfl) rfl
theorem q1224 : (Jvm.Cond.selects "PointAtWhoIsLost" ({ cls := "PointAtWhoIsLost", name := "bestPair", desc := "()I" } : Jvm.MethodName) ({ cls := "PointAtWhoIsLost", name := "bestPair", desc := "()I" } : Jvm.MethodName)) ∈ lw_all := lw_g (lw_at lw_m5 178 rfl) rfl
theorem q1225 : (Jvm.Cond.code ({ cls := "PointAtWhoIsLost", name := "bestPair", desc := "()I" } : Jvm.MethodName) prog_1_method_54_code (6 : Nat) (Option.some Jvm.ClassFile.FieldType.int)) ∈ lw_all := lw_g (lw_at lw_m5 179 rfl) rfl
theorem q1226 : (Jvm.Cond.methodLink "PointAtWhoIsLost" (310 : Nat) ({ cls := "PointAtWhoIsLost", name := "groups", desc := "(ILPointAtWhoIsLost$Post;)I" } : Jvm.MethodName)) ∈ lw_all := lw_g (lw_at lw_m5 180 rfl) rfl
theorem q1227 : (Jvm.Cond.privateMethod ({ cls := "PointAtWhoIsLost", name := "groups", desc := "(ILPointAtWhoIsLost$Post;)I" } : Jvm.MethodName)) ∈ lw_tbl := lw_at lw_m5 181 rfl
theorem q1228 : (Jvm.Cond.instanceMethod ({ cls := "PointAtWhoIsLost", name := "groups", desc := "(ILPointAtWhoIsLost$Post;)I" } : Jvm.MethodName)) ∈ lw_all := lw_g (lw_at lw_m5 182 rfl) rfl
theorem q1229 : (Jvm.Cond.code ({ cls := "PointAtWhoIsLost", name := "groups", desc := "(ILPointAtWhoIsLost$Post;)I" } : Jvm.MethodName) prog_1_method_60_code (5 : Nat) (Option.some Jvm.ClassFile.FieldType.int)) ∈ lw_all := lw_g (lw_at lw_m5 183 rfl) rfl
theorem q1230 : (Jvm.Cond.methodLink "PointAtWhoIsLost" (324 : Nat) ({ cls := "PointAtWhoIsLost", name := "isFirst", desc := "(I)Z" } : Jvm.MethodName)) ∈ lw_all := lw_g (lw_at lw_m5 184 rfl) rfl
theorem q1231 : (Jvm.Cond.privateMethod ({ cls := "PointAtWhoIsLost", name := "isFirst", desc := "(I)Z" } : Jvm.MethodName)) ∈ lw_tbl := lw_at lw_m5 185 rfl
theorem q1232 : (Jvm.Cond.instanceMethod ({ cls := "PointAtWhoIsLost", name := "isFirst", desc := "(I)Z" } : Jvm.MethodName)) ∈ lw_all := lw_g (lw_at lw_m5 186 rfl) rfl
theorem q1233 : (Jvm.Cond.code ({ cls := "PointAtWhoIsLost", name := "isFirst", desc := "(I)Z" } : Jvm.MethodName) prog_1_method_59_code (3 : Nat) (Option.some Jvm.ClassFile.FieldType.boolean)) ∈ lw_all := lw_g (lw_at lw_m5 187 rfl) rfl
theorem q1235 : (Jvm.Cond.instanceMethod ({ cls := "PointAtWhoIsLost", name := "idlest", desc := "()I" } : Jvm.MethodName)) ∈ lw_all := lw_g (lw_at lw_m5 189 rfl) rfl
theorem q1236 : (Jvm.Cond.selects "PointAtWhoIsLost" ({ cls := "PointAtWhoIsLost", name := "idlest", desc := "()I" } : Jvm.MethodName) ({ cls := "PointAtWhoIsLost", name := "idlest", desc := "()I" } : Jvm.MethodName)) ∈ lw_all := lw_g (lw_at lw_m5 190 rfl) rfl
theorem q1237 : (Jvm.Cond.code ({ cls := "PointAtWhoIsLost", name := "idlest", desc := "()I" } : Jvm.MethodName) prog_1_method_55_code (5 : Nat) (Option.some Jvm.ClassFile.FieldType.int)) ∈ lw_all := lw_g (lw_at lw_m5 191 rfl) rfl
theorem q1239 : (Jvm.Cond.instanceMethod ({ cls := "PointAtWhoIsLost", name := "kinds", desc := "(II)I" } : Jvm.MethodName)) ∈ lw_all := lw_g (lw_at lw_m5 193 rfl) rfl
theorem q1240 : (Jvm.Cond.selects "PointAtWhoIsLost" ({ cls := "PointAtWhoIsLost", name := "kinds", desc := "(II)I" } : Jvm.MethodName) ({ cls := "PointAtWhoIsLost", name := "kinds", desc := "(II)I" } : Jvm.MethodName)) ∈ lw_all := lw_g (lw_at lw_m5 194 rfl) rfl
theorem q1241 : (Jvm.Cond.code ({ cls := "PointAtWhoIsLost", name := "kinds", desc := "(II)I" } : Jvm.MethodName) prog_1_method_56_code (6 : Nat) (Option.some Jvm.ClassFile.FieldType.int)) ∈ lw_all := lw_g (lw_at lw_m5 195 rfl) rfl
theorem q1242 : (Jvm.Cond.methodLink "PointAtWhoIsLost" (314 : Nat) ({ cls := "PointAtWhoIsLost", name := "made", desc := "(IIII)LPointAtWhoIsLost$Post;" } : Jvm.MethodName)) ∈ lw_all := lw_g (lw_at lw_m5 196 rfl) rfl
theorem q1244 : (Jvm.Cond.instanceMethod ({ cls := "PointAtWhoIsLost", name := "apart", desc := "(I)I" } : Jvm.MethodName)) ∈ lw_all := lw_g (lw_at lw_m5 198 rfl) rfl
theorem q1245 : (Jvm.Cond.selects "PointAtWhoIsLost" ({ cls := "PointAtWhoIsLost", name := "apart", desc := "(I)I" } : Jvm.MethodName) ({ cls := "PointAtWhoIsLost", name := "apart", desc := "(I)I" } : Jvm.MethodName)) ∈ lw_all := lw_g (lw_at lw_m5 199 rfl) rfl
theorem q1246 : (Jvm.Cond.code ({ cls := "PointAtWhoIsLost", name := "apart", desc := "(I)I" } : Jvm.MethodName) prog_1_method_64_code (3 : Nat) (Option.some Jvm.ClassFile.FieldType.int)) ∈ lw_all := lw_g (lw_at lw_m5 200 rfl) rfl
theorem q1247 : (Jvm.Cond.methodLink "PointAtWhoIsLost" (327 : Nat) ({ cls := "PointAtWhoIsLost", name := "greatest", desc := "()I" } : Jvm.MethodName)) ∈ lw_all := lw_g (lw_at lw_m5 201 rfl) rfl
theorem q1248 : (Jvm.Cond.privateMethod ({ cls := "PointAtWhoIsLost", name := "greatest", desc := "()I" } : Jvm.MethodName)) ∈ lw_tbl := lw_at lw_m5 202 rfl
theorem q1249 : (Jvm.Cond.instanceMethod ({ cls := "PointAtWhoIsLost", name := "greatest", desc := "()I" } : Jvm.MethodName)) ∈ lw_all := lw_g (lw_at lw_m5 203 rfl) rfl
theorem q1250 : (Jvm.Cond.code ({ cls := "PointAtWhoIsLost", name := "greatest", desc := "()I" } : Jvm.MethodName) prog_1_method_62_code (3 : Nat) (Option.some Jvm.ClassFile.FieldType.int)) ∈ lw_all := lw_g (lw_at lw_m5 204 rfl) rfl
theorem q1251 : (Jvm.Cond.methodLink "PointAtWhoIsLost" (330 : Nat) ({ cls := "PointAtWhoIsLost", name := "blind", desc := "()I" } : Jvm.MethodName)) ∈ lw_all := lw_g (lw_at lw_m5 205 rfl) rfl
theorem q1252 : (Jvm.Cond.privateMethod ({ cls := "PointAtWhoIsLost", name := "blind", desc := "()I" } : Jvm.MethodName)) ∈ lw_tbl := lw_at lw_m5 206 rfl
theorem q1253 : (Jvm.Cond.instanceMethod ({ cls := "PointAtWhoIsLost", name := "blind", desc := "()I" } : Jvm.MethodName)) ∈ lw_all := lw_g (lw_at lw_m5 207 rfl) rfl
theorem q1254 : (Jvm.Cond.code ({ cls := "PointAtWhoIsLost", name := "blind", desc := "()I" } : Jvm.MethodName) prog_1_method_63_code (3 : Nat) (Option.some Jvm.ClassFile.FieldType.int)) ∈ lw_all := lw_g (lw_at lw_m5 208 rfl) rfl
theorem q1256 : (Jvm.Cond.instanceMethod ({ cls := "PointAtWhoIsLost", name := "fewest", desc := "(I)I" } : Jvm.MethodName)) ∈ lw_all := lw_g (lw_at lw_m5 210 rfl) rfl
theorem q1257 : (Jvm.Cond.selects "PointAtWhoIsLost" ({ cls := "PointAtWhoIsLost", name := "fewest", desc := "(I)I" } : Jvm.MethodName) ({ cls := "PointAtWhoIsLost", name := "fewest", desc := "(I)I" } : Jvm.MethodName)) ∈ lw_all := lw_g (lw_at lw_m5 211 rfl) rfl
theorem q1258 : (Jvm.Cond.code ({ cls := "PointAtWhoIsLost", name := "fewest", desc := "(I)I" } : Jvm.MethodName) prog_1_method_65_code (6 : Nat) (Option.some Jvm.ClassFile.FieldType.int)) ∈ lw_all := lw_g (lw_at lw_m5 212 rfl) rfl
theorem q1259 : (Jvm.Cond.methodLink "PointAtWhoIsLost" (333 : Nat) ({ cls := "java/lang/Integer", name := "bitCount", desc := "(I)I" } : Jvm.MethodName)) ∈ lw_all := lw_g (lw_at lw_m5 213 rfl) rfl
theorem q1266 : (Jvm.Cond.instanceMethod ({ cls := "PointAtWhoIsLost", name := "more", desc := "()I" } : Jvm.MethodName)) ∈ lw_all := lw_g (lw_at lw_m5 220 rfl) rfl
theorem q1267 : (Jvm.Cond.selects "PointAtWhoIsLost" ({ cls := "PointAtWhoIsLost", name := "more", desc := "()I" } : Jvm.MethodName) ({ cls := "PointAtWhoIsLost", name := "more", desc := "()I" } : Jvm.MethodName)) ∈ lw_all := lw_g (lw_at lw_m5 221 rfl) rfl
theorem q1268 : (Jvm.Cond.code ({ cls := "PointAtWhoIsLost", name := "more", desc := "()I" } : Jvm.MethodName) prog_1_method_66_code (5 : Nat) (Option.some Jvm.ClassFile.FieldType.int)) ∈ lw_all := lw_g (lw_at lw_m5 222 rfl) rfl
theorem q1270 : (Jvm.Cond.instanceMethod ({ cls := "PointAtWhoIsLost", name := "path", desc := "(II)I" } : Jvm.MethodName)) ∈ lw_all := lw_g (lw_at lw_m5 224 rfl) rfl
theorem q1271 : (Jvm.Cond.selects "PointAtWhoIsLost" ({ cls := "PointAtWhoIsLost", name := "path", desc := "(II)I" } : Jvm.MethodName) ({ cls := "PointAtWhoIsLost", name := "path", desc := "(II)I" } : Jvm.MethodName)) ∈ lw_all := lw_g (lw_at lw_m5 225 rfl) rfl
theorem q1272 : (Jvm.Cond.code ({ cls := "PointAtWhoIsLost", name := "path", desc := "(II)I" } : Jvm.MethodName) prog_1_method_67_code (3 : Nat) (Option.some Jvm.ClassFile.FieldType.int)) ∈ lw_all := lw_g (lw_at lw_m5 226 rfl) rfl
theorem q1274 : (Jvm.Cond.instanceMethod ({ cls := "PointAtWhoIsLost", name := "found", desc := "()I" } : Jvm.MethodName)) ∈ lw_all := lw_g (lw_at lw_m5 228 rfl) rfl
theorem q1275 : (Jvm.Cond.selects "PointAtWhoIsLost" ({ cls := "PointAtWhoIsLost", name := "found", desc := "()I" } : Jvm.MethodName) ({ cls := "PointAtWhoIsLost", name := "found", desc := "()I" } : Jvm.MethodName)) ∈ lw_all := lw_g (lw_at lw_m5 229 rfl) rfl
theorem q1276 : (Jvm.Cond.code ({ cls := "PointAtWhoIsLost", name := "found", desc := "()I" } : Jvm.MethodName) prog_1_method_68_code (7 : Nat) (Option.some Jvm.ClassFile.FieldType.int)) ∈ lw_all := lw_g (lw_at lw_m5 230 rfl) rfl
theorem q1278 : (Jvm.Cond.instanceMethod ({ cls := "PointAtWhoIsLost", name := "leads", desc := "(II)I" } : Jvm.MethodName)) ∈ lw_all := lw_g (lw_at lw_m5 232 rfl) rfl
theorem q1279 : (Jvm.Cond.selects "PointAtWhoIsLost" ({ cls := "PointAtWhoIsLost", name := "leads", desc := "(II)I" } : Jvm.MethodName) ({ cls := "PointAtWhoIsLost", name := "leads", desc := "(II)I" } : Jvm.MethodName)) ∈ lw_all := lw_g (lw_at lw_m5 233 rfl) rfl
theorem q1280 : (Jvm.Cond.code ({ cls := "PointAtWhoIsLost", name := "leads", desc := "(II)I" } : Jvm.MethodName) prog_1_method_69_code (6 : Nat) (Option.some Jvm.ClassFile.FieldType.int)) ∈ lw_all := lw_g (lw_at lw_m5 234 rfl) rfl
theorem q1281 : (Jvm.Cond.methodLink "PointAtWhoIsLost" (338 : Nat) ({ cls := "PointAtWhoIsLost$Fen", name := "spreads", desc := "(I)[I" } : Jvm.MethodName)) ∈ lw_all := lw_g (lw_at lw_m5 235 rfl) rfl
theorem q1282 : (Jvm.Cond.methodLink "PointAtWhoIsLost" (342 : Nat) ({ cls := "PointAtWhoIsLost$Fen", name := "beside", desc := "(II)I" } : Jvm.MethodName)) ∈ lw_all := lw_g (lw_at lw_m5 236 rfl) rfl
theorem q1284 : (Jvm.Cond.instanceMethod ({ cls := "PointAtWhoIsLost", name := "reach", desc := "(II)I" } : Jvm.MethodName)) ∈ lw_all := lw_g (lw_at lw_m5 238 rfl) rfl
theorem q1285 : (Jvm.Cond.selects "PointAtWhoIsLost" ({ cls := "PointAtWhoIsLost", name := "reach", desc := "(II)I" } : Jvm.MethodName) ({ cls := "PointAtWhoIsLost", name := "reach", desc := "(II)I" } : Jvm.MethodName)) ∈ lw_all := lw_g (lw_at lw_m5 239 rfl) rfl
theorem q1286 : (Jvm.Cond.code ({ cls := "PointAtWhoIsLost", name := "reach", desc := "(II)I" } : Jvm.MethodName) prog_1_method_70_code (8 : Nat) (Option.some Jvm.ClassFile.FieldType.int)) ∈ lw_all := lw_g (lw_at lw_m6 0 rfl) rfl
theorem q1288 : (Jvm.Cond.instanceMethod ({ cls := "PointAtWhoIsLost", name := "open", desc := "(I)I" } : Jvm.MethodName)) ∈ lw_all := lw_g (lw_at lw_m6 2 rfl) rfl
theorem q1289 : (Jvm.Cond.selects "PointAtWhoIsLost" ({ cls := "PointAtWhoIsLost", name := "open", desc := "(I)I" } : Jvm.MethodName) ({ cls := "PointAtWhoIsLost", name := "open", desc := "(I)I" } : Jvm.MethodName)) ∈ lw_all := lw_g (lw_at lw_m6 3 rfl) rfl
theorem q1290 : (Jvm.Cond.code ({ cls := "PointAtWhoIsLost", name := "open", desc := "(I)I" } : Jvm.MethodName) prog_1_method_71_code (4 : Nat) (Option.some Jvm.ClassFile.FieldType.int)) ∈ lw_all := lw_g (lw_at lw_m6 4 rfl) rfl
theorem q1292 : (Jvm.Cond.instanceMethod ({ cls := "PointAtWhoIsLost", name := "parts", desc := "()I" } : Jvm.MethodName)) ∈ lw_all := lw_g (lw_at lw_m6 6 rfl) rfl
theorem q1293 : (Jvm.Cond.selects "PointAtWhoIsLost" ({ cls := "PointAtWhoIsLost", name := "parts", desc := "()I" } : Jvm.MethodName) ({ cls := "PointAtWhoIsLost", name := "parts", desc := "()I" } : Jvm.MethodName)) ∈ lw_all := lw_g (lw_at lw_m6 7 rfl) rfl
theorem q1294 : (Jvm.Cond.code ({ cls := "PointAtWhoIsLost", name := "parts", desc := "()I" } : Jvm.MethodName) prog_1_method_72_code (5 : Nat) (Option.some Jvm.ClassFile.FieldType.int)) ∈ lw_all := lw_g (lw_at lw_m6 8 rfl) rfl
theorem q1296 : (Jvm.Cond.instanceMethod ({ cls := "PointAtWhoIsLost", name := "worst", desc := "(I)I" } : Jvm.MethodName)) ∈ lw_all := lw_g (lw_at lw_m6 10 rfl) rfl
theorem q1297 : (Jvm.Cond.selects "PointAtWhoIsLost" ({ cls := "PointAtWhoIsLost", name := "worst", desc := "(I)I" } : Jvm.MethodName) ({ cls := "PointAtWhoIsLost", name := "worst", desc := "(I)I" } : Jvm.MethodName)) ∈ lw_all := lw_g (lw_at lw_m6 11 rfl) rfl
theorem q1298 : (Jvm.Cond.code ({ cls := "PointAtWhoIsLost", name := "worst", desc := "(I)I" } : Jvm.MethodName) prog_1_method_73_code (7 : Nat) (Option.some Jvm.ClassFile.FieldType.int)) ∈ lw_all := lw_g (lw_at lw_m6 12 rfl) rfl
theorem q1300 : (Jvm.Cond.instanceMethod ({ cls := "PointAtWhoIsLost", name := "meet", desc := "()I" } : Jvm.MethodName)) ∈ lw_all := lw_g (lw_at lw_m6 14 rfl) rfl
theorem q1301 : (Jvm.Cond.selects "PointAtWhoIsLost" ({ cls := "PointAtWhoIsLost", name := "meet", desc := "()I" } : Jvm.MethodName) ({ cls := "PointAtWhoIsLost", name := "meet", desc := "()I" } : Jvm.MethodName)) ∈ lw_all := lw_g (lw_at lw_m6 15 rfl) rfl
theorem q1302 : (Jvm.Cond.code ({ cls := "PointAtWhoIsLost", name := "meet", desc := "()I" } : Jvm.MethodName) prog_1_method_75_code (5 : Nat) (Option.some Jvm.ClassFile.FieldType.int)) ∈ lw_all := lw_g (lw_at lw_m6 16 rfl) rfl
theorem q1303 : (Jvm.Cond.methodLink "PointAtWhoIsLost" (348 : Nat) ({ cls := "PointAtWhoIsLost", name := "longest", desc := "(I)I" } : Jvm.MethodName)) ∈ lw_all := lw_g (lw_at lw_m6 17 rfl) rfl
theorem q1304 : (Jvm.Cond.privateMethod ({ cls := "PointAtWhoIsLost", name := "longest", desc := "(I)I" } : Jvm.MethodName)) ∈ lw_tbl := lw_at lw_m6 18 rfl
theorem q1305 : (Jvm.Cond.instanceMethod ({ cls := "PointAtWhoIsLost", name := "longest", desc := "(I)I" } : Jvm.MethodName)) ∈ lw_all := lw_g (lw_at lw_m6 19 rfl) rfl
theorem q1306 : (Jvm.Cond.code ({ cls := "PointAtWhoIsLost", name := "longest", desc := "(I)I" } : Jvm.MethodName) prog_1_method_74_code (5 : Nat) (Option.some Jvm.ClassFile.FieldType.int)) ∈ lw_all := lw_g (lw_at lw_m6 20 rfl) rfl
theorem q1308 : (Jvm.Cond.instanceMethod ({ cls := "PointAtWhoIsLost", name := "judge", desc := "(III)I" } : Jvm.MethodName)) ∈ lw_all := lw_g (lw_at lw_m6 22 rfl) rfl
theorem q1309 : (Jvm.Cond.selects "PointAtWhoIsLost" ({ cls := "PointAtWhoIsLost", name := "judge", desc := "(III)I" } : Jvm.MethodName) ({ cls := "PointAtWhoIsLost", name := "judge", desc := "(III)I" } : Jvm.MethodName)) ∈ lw_all := lw_g (lw_at lw_m6 23 rfl) rfl
theorem q1310 : (Jvm.Cond.codeWith ({ cls := "PointAtWhoIsLost", name := "judge", desc := "(III)I" } : Jvm.MethodName) prog_1_method_77_code (5 : Nat) (Option.some Jvm.ClassFile.FieldType.int) [((0 : Nat), (20 : Nat), (21 : Nat), (104 : Nat))]) ∈ lw_all := lw_g (lw_at lw_m6 24 rfl) rfl
theorem q1311 : (Jvm.Cond.methodLink "PointAtWhoIsLost" (354 : Nat) ({ cls := "PointAtWhoIsLost", name := "wrongIn", desc := "([JI)I" } : Jvm.MethodName)) ∈ lw_all := lw_g (lw_at lw_m6 25 rfl) rfl
theorem q1312 : (Jvm.Cond.privateMethod ({ cls := "PointAtWhoIsLost", name := "wrongIn", desc := "([JI)I" } : Jvm.MethodName)) ∈ lw_tbl := lw_at lw_m6 26 rfl
theorem q1313 : (Jvm.Cond.instanceMethod ({ cls := "PointAtWhoIsLost", name := "wrongIn", desc := "([JI)I" } : Jvm.MethodName)) ∈ lw_all := lw_g (lw_at lw_m6 27 rfl) rfl
theorem q1314 : (Jvm.Cond.code ({ cls := "PointAtWhoIsLost", name := "wrongIn", desc := "([JI)I" } : Jvm.MethodName) prog_1_method_76_code (5 : Nat) (Option.some Jvm.ClassFile.FieldType.int)) ∈ lw_all := lw_g (lw_at lw_m6 28 rfl) rfl
theorem q1315 : (Jvm.Cond.methodLink "PointAtWhoIsLost" (351 : Nat) ({ cls := "PointAtWhoIsLost", name := "far", desc := "(II)I" } : Jvm.MethodName)) ∈ lw_all := lw_g (lw_at lw_m6 29 rfl) rfl
theorem q1317 : (Jvm.Cond.instanceMethod ({ cls := "PointAtWhoIsLost", name := "nears", desc := "(III)I" } : Jvm.MethodName)) ∈ lw_all := lw_g (lw_at lw_m6 31 rfl) rfl
theorem q1318 : (Jvm.Cond.selects "PointAtWhoIsLost" ({ cls := "PointAtWhoIsLost", name := "nears", desc := "(III)I" } : Jvm.MethodName) ({ cls := "PointAtWhoIsLost", name := "nears", desc := "(III)I" } : Jvm.MethodName)) ∈ lw_all := lw_g (lw_at lw_m6 32 rfl) rfl
theorem q1319 : (Jvm.Cond.codeWith ({ cls := "PointAtWhoIsLost", name := "nears", desc := "(III)I" } : Jvm.MethodName) prog_1_method_79_code (12 : Nat) (Option.some Jvm.ClassFile.FieldType.int) [((0 : Nat), (111 : Nat), (112 : Nat), (104 : Nat))]) ∈ lw_all := lw_g (lw_at lw_m6 33 rfl) rfl
theorem q1320 : (Jvm.Cond.methodLink "PointAtWhoIsLost" (357 : Nat) ({ cls := "PointAtWhoIsLost", name := "walkIn", desc := "(III)[J" } : Jvm.MethodName)) ∈ lw_all := lw_g (lw_at lw_m6 34 rfl) rfl
theorem q1321 : (Jvm.Cond.privateMethod ({ cls := "PointAtWhoIsLost", name := "walkIn", desc := "(III)[J" } : Jvm.MethodName)) ∈ lw_tbl := lw_at lw_m6 35 rfl
theorem q1322 : (Jvm.Cond.instanceMethod ({ cls := "PointAtWhoIsLost", name := "walkIn", desc := "(III)[J" } : Jvm.MethodName)) ∈ lw_all := lw_g (lw_at lw_m6 36 rfl) rfl
theorem q1323 : (Jvm.Cond.code ({ cls := "PointAtWhoIsLost", name := "walkIn", desc := "(III)[J" } : Jvm.MethodName) prog_1_method_78_code (5 : Nat) (Option.some (Jvm.ClassFile.FieldType.array Jvm.ClassFile.FieldType.long))) ∈ lw_all := lw_g (lw_at lw_m6 37 rfl) rfl
theorem q1325 : (Jvm.Cond.instanceMethod ({ cls := "PointAtWhoIsLost", name := "done", desc := "(III)I" } : Jvm.MethodName)) ∈ lw_all := lw_g (lw_at lw_m6 39 rfl) rfl
theorem q1326 : (Jvm.Cond.selects "PointAtWhoIsLost" ({ cls := "PointAtWhoIsLost", name := "done", desc := "(III)I" } : Jvm.MethodName) ({ cls := "PointAtWhoIsLost", name := "done", desc := "(III)I" } : Jvm.MethodName)) ∈ lw_all := lw_g (lw_at lw_m6 40 rfl) rfl
theorem q1327 : (Jvm.Cond.codeWith ({ cls := "PointAtWhoIsLost", name := "done", desc := "(III)I" } : Jvm.MethodName) prog_1_method_80_code (6 : Nat) (Option.some Jvm.ClassFile.FieldType.int) [((0 : Nat), (51 : Nat), (52 : Nat), (104 : Nat))]) ∈ lw_all := lw_g (lw_at lw_m6 41 rfl) rfl
theorem q1328 : (Jvm.Cond.methodLink "PointAtWhoIsLost" (361 : Nat) ({ cls := "PointAtWhoIsLost$Fen", name := "stands", desc := "(IIZ)V" } : Jvm.MethodName)) ∈ lw_all := lw_g (lw_at lw_m6 42 rfl) rfl
theorem q1334 : (Jvm.Cond.instanceMethod ({ cls := "PointAtWhoIsLost", name := "goes", desc := "(II)I" } : Jvm.MethodName)) ∈ lw_all := lw_g (lw_at lw_m6 48 rfl) rfl
theorem q1335 : (Jvm.Cond.selects "PointAtWhoIsLost" ({ cls := "PointAtWhoIsLost", name := "goes", desc := "(II)I" } : Jvm.MethodName) ({ cls := "PointAtWhoIsLost", name := "goes", desc := "(II)I" } : Jvm.MethodName)) ∈ lw_all := lw_g (lw_at lw_m6 49 rfl) rfl
theorem q1336 : (Jvm.Cond.code ({ cls := "PointAtWhoIsLost", name := "goes", desc := "(II)I" } : Jvm.MethodName) prog_1_method_81_code (5 : Nat) (Option.some Jvm.ClassFile.FieldType.int)) ∈ lw_all := lw_g (lw_at lw_m6 50 rfl) rfl
theorem q1338 : (Jvm.Cond.instanceMethod ({ cls := "PointAtWhoIsLost", name := "days", desc := "(I)I" } : Jvm.MethodName)) ∈ lw_all := lw_g (lw_at lw_m6 52 rfl) rfl
theorem q1339 : (Jvm.Cond.selects "PointAtWhoIsLost" ({ cls := "PointAtWhoIsLost", name := "days", desc := "(I)I" } : Jvm.MethodName) ({ cls := "PointAtWhoIsLost", name := "days", desc := "(I)I" } : Jvm.MethodName)) ∈ lw_all := lw_g (lw_at lw_m6 53 rfl) rfl
theorem q1340 : (Jvm.Cond.code ({ cls := "PointAtWhoIsLost", name := "days", desc := "(I)I" } : Jvm.MethodName) prog_1_method_83_code (3 : Nat) (Option.some Jvm.ClassFile.FieldType.int)) ∈ lw_all := lw_g (lw_at lw_m6 54 rfl) rfl
theorem q1341 : (Jvm.Cond.methodLink "PointAtWhoIsLost" (367 : Nat) ({ cls := "PointAtWhoIsLost$Fen", name := "day", desc := "()V" } : Jvm.MethodName)) ∈ lw_all := lw_g (lw_at lw_m6 55 rfl) rfl
theorem q1355 : (Jvm.Cond.methodLink "PointAtWhoIsLost" (370 : Nat) ({ cls := "PointAtWhoIsLost", name := "manyLost", desc := "()I" } : Jvm.MethodName)) ∈ lw_all := lw_g (lw_at lw_m6 69 rfl) rfl
theorem q1356 : (Jvm.Cond.privateMethod ({ cls := "PointAtWhoIsLost", name := "manyLost", desc := "()I" } : Jvm.MethodName)) ∈ lw_tbl := lw_at lw_m6 70 rfl
theorem q1357 : (Jvm.Cond.instanceMethod ({ cls := "PointAtWhoIsLost", name := "manyLost", desc := "()I" } : Jvm.MethodName)) ∈ lw_all := lw_g (lw_at lw_m6 71 rfl) rfl
theorem q1358 : (Jvm.Cond.code ({ cls := "PointAtWhoIsLost", name := "manyLost", desc := "()I" } : Jvm.MethodName) prog_1_method_82_code (1 : Nat) (Option.some Jvm.ClassFile.FieldType.int)) ∈ lw_all := lw_g (lw_at lw_m6 72 rfl) rfl
theorem q1360 : (Jvm.Cond.instanceMethod ({ cls := "PointAtWhoIsLost", name := "seed", desc := "(I)I" } : Jvm.MethodName)) ∈ lw_all := lw_g (lw_at lw_m6 74 rfl) rfl
theorem q1361 : (Jvm.Cond.selects "PointAtWhoIsLost" ({ cls := "PointAtWhoIsLost", name := "seed", desc := "(I)I" } : Jvm.MethodName) ({ cls := "PointAtWhoIsLost", name := "seed", desc := "(I)I" } : Jvm.MethodName)) ∈ lw_all := lw_g (lw_at lw_m6 75 rfl) rfl
theorem q1362 : (Jvm.Cond.code ({ cls := "PointAtWhoIsLost", name := "seed", desc := "(I)I" } : Jvm.MethodName) prog_1_method_84_code (3 : Nat) (Option.some Jvm.ClassFile.FieldType.int)) ∈ lw_all := lw_g (lw_at lw_m6 76 rfl) rfl
theorem q1364 : (Jvm.Cond.instanceMethod ({ cls := "PointAtWhoIsLost", name := "image", desc := "()I" } : Jvm.MethodName)) ∈ lw_all := lw_g (lw_at lw_m6 78 rfl) rfl
theorem q1365 : (Jvm.Cond.selects "PointAtWhoIsLost" ({ cls := "PointAtWhoIsLost", name := "image", desc := "()I" } : Jvm.MethodName) ({ cls := "PointAtWhoIsLost", name := "image", desc := "()I" } : Jvm.MethodName)) ∈ lw_all := lw_g (lw_at lw_m6 79 rfl) rfl
theorem q1366 : (Jvm.Cond.code ({ cls := "PointAtWhoIsLost", name := "image", desc := "()I" } : Jvm.MethodName) prog_1_method_85_code (1 : Nat) (Option.some Jvm.ClassFile.FieldType.int)) ∈ lw_all := lw_g (lw_at lw_m6 80 rfl) rfl
theorem q1368 : (Jvm.Cond.instanceMethod ({ cls := "PointAtWhoIsLost", name := "back", desc := "()I" } : Jvm.MethodName)) ∈ lw_all := lw_g (lw_at lw_m6 82 rfl) rfl
theorem q1369 : (Jvm.Cond.selects "PointAtWhoIsLost" ({ cls := "PointAtWhoIsLost", name := "back", desc := "()I" } : Jvm.MethodName) ({ cls := "PointAtWhoIsLost", name := "back", desc := "()I" } : Jvm.MethodName)) ∈ lw_all := lw_g (lw_at lw_m6 83 rfl) rfl
theorem q1370 : (Jvm.Cond.code ({ cls := "PointAtWhoIsLost", name := "back", desc := "()I" } : Jvm.MethodName) prog_1_method_86_code (1 : Nat) (Option.some Jvm.ClassFile.FieldType.int)) ∈ lw_all := lw_g (lw_at lw_m6 84 rfl) rfl
theorem q1372 : (Jvm.Cond.instanceMethod ({ cls := "PointAtWhoIsLost", name := "status", desc := "(I)I" } : Jvm.MethodName)) ∈ lw_all := lw_g (lw_at lw_m6 86 rfl) rfl
theorem q1373 : (Jvm.Cond.selects "PointAtWhoIsLost" ({ cls := "PointAtWhoIsLost", name := "status", desc := "(I)I" } : Jvm.MethodName) ({ cls := "PointAtWhoIsLost", name := "status", desc := "(I)I" } : Jvm.MethodName)) ∈ lw_all := lw_g (lw_at lw_m6 87 rfl) rfl
theorem q1374 : (Jvm.Cond.code ({ cls := "PointAtWhoIsLost", name := "status", desc := "(I)I" } : Jvm.MethodName) prog_1_method_88_code (2 : Nat) (Option.some Jvm.ClassFile.FieldType.int)) ∈ lw_all := lw_g (lw_at lw_m6 88 rfl) rfl
theorem q1375 : (Jvm.Cond.methodLink "PointAtWhoIsLost" (379 : Nat) ({ cls := "PointAtWhoIsLost$Fen", name := "manyBogs", desc := "()I" } : Jvm.MethodName)) ∈ lw_all := lw_g (lw_at lw_m6 89 rfl) rfl
theorem q1380 : (Jvm.Cond.methodLink "PointAtWhoIsLost" (382 : Nat) ({ cls := "PointAtWhoIsLost", name := "shelved", desc := "()I" } : Jvm.MethodName)) ∈ lw_all := lw_g (lw_at lw_m6 94 rfl) rfl
theorem q1381 : (Jvm.Cond.privateMethod ({ cls := "PointAtWhoIsLost", name := "shelved", desc := "()I" } : Jvm.MethodName)) ∈ lw_tbl := lw_at lw_m6 95 rfl
theorem q1382 : (Jvm.Cond.instanceMethod ({ cls := "PointAtWhoIsLost", name := "shelved", desc := "()I" } : Jvm.MethodName)) ∈ lw_all := lw_g (lw_at lw_m6 96 rfl) rfl
theorem q1383 : (Jvm.Cond.code ({ cls := "PointAtWhoIsLost", name := "shelved", desc := "()I" } : Jvm.MethodName) prog_1_method_87_code (3 : Nat) (Option.some Jvm.ClassFile.FieldType.int)) ∈ lw_all := lw_g (lw_at lw_m6 97 rfl) rfl
theorem in_X0 : ∀ w ∈ wsX00, w ∈ lw_all := lw_in wsX00 [229, 231, 233, 235, 237, 239, 241, 243] (by decide +kernel) (by decide +kernel)
theorem q88 : (Jvm.Cond.initialized "PointAtWhoIsLost$Fen") ∈ lw_all := lw_g (lw_at lw_m1 2 rfl) rfl
theorem q130 : (Jvm.Cond.instantiable "PointAtWhoIsLost$Fen" (11 : Nat)) ∈ lw_all := lw_g (lw_at lw_m1 44 rfl) rfl
theorem q132 : (Jvm.Cond.instanceMethod ({ cls := "PointAtWhoIsLost$Fen", name := "<init>", desc := "()V" } : Jvm.MethodName)) ∈ lw_all := lw_g (lw_at lw_m1 46 rfl) rfl
theorem q133 : (Jvm.Cond.code ({ cls := "PointAtWhoIsLost$Fen", name := "<init>", desc := "()V" } : Jvm.MethodName) prog_3_method_1_code (1 : Nat) (Option.none : Option Jvm.ClassFile.FieldType)) ∈ lw_all := lw_g (lw_at lw_m1 47 rfl) rfl
theorem q134 : (Jvm.Cond.methodLink "PointAtWhoIsLost$Fen" (3 : Nat) ({ cls := "java/lang/Object", name := "<init>", desc := "()V" } : Jvm.MethodName)) ∈ lw_all := lw_g (lw_at lw_m1 48 rfl) rfl
theorem q135 : (Jvm.Cond.classLink "PointAtWhoIsLost$Fen" (15 : Nat) "PointAtWhoIsLost$Post") ∈ lw_all := lw_g (lw_at lw_m1 49 rfl) rfl
theorem q137 : (Jvm.Cond.classLink "PointAtWhoIsLost$Fen" (27 : Nat) "PointAtWhoIsLost$Lost") ∈ lw_all := lw_g (lw_at lw_m1 51 rfl) rfl
theorem q139 : (Jvm.Cond.methodLinkNest "PointAtWhoIsLost$Fen" (29 : Nat) ({ cls := "PointAtWhoIsLost$Lost", name := "<init>", desc := "()V" } : Jvm.MethodName) "PointAtWhoIsLost") ∈ lw_tbl := lw_at lw_m1 53 rfl
theorem q148 : (Jvm.Cond.fieldLink "PointAtWhoIsLost$Fen" (94 : Nat) "PointAtWhoIsLost$Lost" "cell" "[I") ∈ lw_all := lw_g (lw_at lw_m1 62 rfl) rfl
theorem q152 : (Jvm.Cond.fieldLink "PointAtWhoIsLost$Fen" (88 : Nat) "PointAtWhoIsLost$Lost" "many" "I") ∈ lw_all := lw_g (lw_at lw_m1 66 rfl) rfl
theorem q160 : (Jvm.Cond.fieldLink "PointAtWhoIsLost$Fen" (9 : Nat) "PointAtWhoIsLost$Fen" "bog" "[I") ∈ lw_all := lw_g (lw_at lw_m1 74 rfl) rfl
theorem q161 : (Jvm.Cond.fieldLink "PointAtWhoIsLost$Fen" (17 : Nat) "PointAtWhoIsLost$Fen" "post" "[LPointAtWhoIsLost$Post;") ∈ lw_all := lw_g (lw_at lw_m1 75 rfl) rfl
theorem q163 : (Jvm.Cond.fieldLink "PointAtWhoIsLost$Fen" (21 : Nat) "PointAtWhoIsLost$Fen" "cell" "[I") ∈ lw_all := lw_g (lw_at lw_m1 77 rfl) rfl
theorem q165 : (Jvm.Cond.fieldLink "PointAtWhoIsLost$Fen" (24 : Nat) "PointAtWhoIsLost$Fen" "sure" "[I") ∈ lw_all := lw_g (lw_at lw_m1 79 rfl) rfl
theorem q167 : (Jvm.Cond.fieldLink "PointAtWhoIsLost$Fen" (30 : Nat) "PointAtWhoIsLost$Fen" "lost" "LPointAtWhoIsLost$Lost;") ∈ lw_all := lw_g (lw_at lw_m1 81 rfl) rfl
theorem q168 : (Jvm.Cond.fieldLink "PointAtWhoIsLost$Fen" (34 : Nat) "PointAtWhoIsLost$Fen" "away" "[I") ∈ lw_all := lw_g (lw_at lw_m1 82 rfl) rfl
theorem q170 : (Jvm.Cond.fieldLink "PointAtWhoIsLost$Fen" (37 : Nat) "PointAtWhoIsLost$Fen" "side" "I") ∈ lw_all := lw_g (lw_at lw_m1 84 rfl) rfl
theorem q173 : (Jvm.Cond.fieldLink "PointAtWhoIsLost$Fen" (51 : Nat) "PointAtWhoIsLost$Fen" "home" "I") ∈ lw_all := lw_g (lw_at lw_m1 87 rfl) rfl
theorem q176 : (Jvm.Cond.fieldLink "PointAtWhoIsLost$Fen" (54 : Nat) "PointAtWhoIsLost$Fen" "posts" "I") ∈ lw_all := lw_g (lw_at lw_m1 90 rfl) rfl
theorem q179 : (Jvm.Cond.fieldLink "PointAtWhoIsLost$Fen" (57 : Nat) "PointAtWhoIsLost$Fen" "walkers" "I") ∈ lw_all := lw_g (lw_at lw_m1 93 rfl) rfl
theorem q182 : (Jvm.Cond.fieldLink "PointAtWhoIsLost$Fen" (41 : Nat) "PointAtWhoIsLost$Fen" "seed" "I") ∈ lw_all := lw_g (lw_at lw_m1 96 rfl) rfl
theorem q184 : (Jvm.Cond.laysFinal "PointAtWhoIsLost$Fen" "PointAtWhoIsLost$Fen" "bog" "[I") ∈ lw_all := lw_g (lw_at lw_m1 98 rfl) rfl
theorem q185 : (Jvm.Cond.soleField "PointAtWhoIsLost$Fen" "bog") ∈ lw_all := lw_g (lw_at lw_m1 99 rfl) rfl
theorem q186 : (Jvm.Cond.laysFinal "PointAtWhoIsLost$Fen" "PointAtWhoIsLost$Fen" "post" "[LPointAtWhoIsLost$Post;") ∈ lw_all := lw_g (lw_at lw_m1 100 rfl) rfl
theorem q187 : (Jvm.Cond.soleField "PointAtWhoIsLost$Fen" "post") ∈ lw_all := lw_g (lw_at lw_m1 101 rfl) rfl
theorem q188 : (Jvm.Cond.laysFinal "PointAtWhoIsLost$Fen" "PointAtWhoIsLost$Fen" "cell" "[I") ∈ lw_all := lw_g (lw_at lw_m1 102 rfl) rfl
theorem q189 : (Jvm.Cond.soleField "PointAtWhoIsLost$Fen" "cell") ∈ lw_all := lw_g (lw_at lw_m1 103 rfl) rfl
theorem q190 : (Jvm.Cond.laysFinal "PointAtWhoIsLost$Fen" "PointAtWhoIsLost$Fen" "sure" "[I") ∈ lw_all := lw_g (lw_at lw_m1 104 rfl) rfl
theorem q191 : (Jvm.Cond.soleField "PointAtWhoIsLost$Fen" "sure") ∈ lw_all := lw_g (lw_at lw_m1 105 rfl) rfl
theorem q192 : (Jvm.Cond.laysFinal "PointAtWhoIsLost$Fen" "PointAtWhoIsLost$Fen" "lost" "LPointAtWhoIsLost$Lost;") ∈ lw_all := lw_g (lw_at lw_m1 106 rfl) rfl
theorem q193 : (Jvm.Cond.soleField "PointAtWhoIsLost$Fen" "lost") ∈ lw_all := lw_g (lw_at lw_m1 107 rfl) rfl
theorem q194 : (Jvm.Cond.laysFinal "PointAtWhoIsLost$Fen" "PointAtWhoIsLost$Fen" "away" "[I") ∈ lw_all := lw_g (lw_at lw_m1 108 rfl) rfl
theorem q195 : (Jvm.Cond.soleField "PointAtWhoIsLost$Fen" "away") ∈ lw_all := lw_g (lw_at lw_m1 109 rfl) rfl
theorem q196 : (Jvm.Cond.lays "PointAtWhoIsLost$Fen" "PointAtWhoIsLost$Fen" "side" "I") ∈ lw_all := lw_g (lw_at lw_m1 110 rfl) rfl
theorem q197 : (Jvm.Cond.soleField "PointAtWhoIsLost$Fen" "side") ∈ lw_all := lw_g (lw_at lw_m1 111 rfl) rfl
theorem q198 : (Jvm.Cond.lays "PointAtWhoIsLost$Fen" "PointAtWhoIsLost$Fen" "home" "I") ∈ lw_all := lw_g (lw_at lw_m1 112 rfl) rfl
theorem q199 : (Jvm.Cond.soleField "PointAtWhoIsLost$Fen" "home") ∈ lw_all := lw_g (lw_at lw_m1 113 rfl) rfl
theorem q200 : (Jvm.Cond.lays "PointAtWhoIsLost$Fen" "PointAtWhoIsLost$Fen" "posts" "I") ∈ lw_all := lw_g (lw_at lw_m1 114 rfl) rfl
theorem q201 : (Jvm.Cond.soleField "PointAtWhoIsLost$Fen" "posts") ∈ lw_all := lw_g (lw_at lw_m1 115 rfl) rfl
theorem q202 : (Jvm.Cond.lays "PointAtWhoIsLost$Fen" "PointAtWhoIsLost$Fen" "walkers" "I") ∈ lw_all := lw_g (lw_at lw_m1 116 rfl) rfl
theorem q203 : (Jvm.Cond.soleField "PointAtWhoIsLost$Fen" "walkers") ∈ lw_all := lw_g (lw_at lw_m1 117 rfl) rfl
theorem q204 : (Jvm.Cond.lays "PointAtWhoIsLost$Fen" "PointAtWhoIsLost$Fen" "seed" "I") ∈ lw_all := lw_g (lw_at lw_m1 118 rfl) rfl
theorem q205 : (Jvm.Cond.soleField "PointAtWhoIsLost$Fen" "seed") ∈ lw_all := lw_g (lw_at lw_m1 119 rfl) rfl
theorem q206 : (Jvm.Cond.superclass "PointAtWhoIsLost$Fen" "java/lang/Object") ∈ lw_all := lw_g (lw_at lw_m1 120 rfl) rfl
theorem q482 : (Jvm.Cond.instanceMethod ({ cls := "PointAtWhoIsLost$Fen", name := "isPost", desc := "(J)Z" } : Jvm.MethodName)) ∈ lw_all := lw_g (lw_at lw_m2 156 rfl) rfl
theorem q483 : (Jvm.Cond.selects "PointAtWhoIsLost$Fen" ({ cls := "PointAtWhoIsLost$Fen", name := "isPost", desc := "(J)Z" } : Jvm.MethodName) ({ cls := "PointAtWhoIsLost$Fen", name := "isPost", desc := "(J)Z" } : Jvm.MethodName)) ∈ lw_all := lw_g (lw_at lw_m2 157 rfl) rfl
theorem q484 : (Jvm.Cond.code ({ cls := "PointAtWhoIsLost$Fen", name := "isPost", desc := "(J)Z" } : Jvm.MethodName) prog_3_method_11_code (3 : Nat) (Option.some Jvm.ClassFile.FieldType.boolean)) ∈ lw_all := lw_g (lw_at lw_m2 158 rfl) rfl
theorem q509 : (Jvm.Cond.instanceMethod ({ cls := "PointAtWhoIsLost$Fen", name := "lost", desc := "()LPointAtWhoIsLost$Lost;" } : Jvm.MethodName)) ∈ lw_all := lw_g (lw_at lw_m2 183 rfl) rfl
theorem q510 : (Jvm.Cond.selects "PointAtWhoIsLost$Fen" ({ cls := "PointAtWhoIsLost$Fen", name := "lost", desc := "()LPointAtWhoIsLost$Lost;" } : Jvm.MethodName) ({ cls := "PointAtWhoIsLost$Fen", name := "lost", desc := "()LPointAtWhoIsLost$Lost;" } : Jvm.MethodName)) ∈ lw_all := lw_g (lw_at lw_m2 184 rfl) rfl
theorem q511 : (Jvm.Cond.code ({ cls := "PointAtWhoIsLost$Fen", name := "lost", desc := "()LPointAtWhoIsLost$Lost;" } : Jvm.MethodName) prog_3_method_14_code (2 : Nat) (Option.some (Jvm.ClassFile.FieldType.object "PointAtWhoIsLost$Lost"))) ∈ lw_all := lw_g (lw_at lw_m2 185 rfl) rfl
theorem q512 : (Jvm.Cond.methodLink "PointAtWhoIsLost$Fen" (91 : Nat) ({ cls := "PointAtWhoIsLost$Fen", name := "isLost", desc := "(I)Z" } : Jvm.MethodName)) ∈ lw_all := lw_g (lw_at lw_m2 186 rfl) rfl
theorem q513 : (Jvm.Cond.instanceMethod ({ cls := "PointAtWhoIsLost$Fen", name := "isLost", desc := "(I)Z" } : Jvm.MethodName)) ∈ lw_all := lw_g (lw_at lw_m2 187 rfl) rfl
theorem q514 : (Jvm.Cond.selects "PointAtWhoIsLost$Fen" ({ cls := "PointAtWhoIsLost$Fen", name := "isLost", desc := "(I)Z" } : Jvm.MethodName) ({ cls := "PointAtWhoIsLost$Fen", name := "isLost", desc := "(I)Z" } : Jvm.MethodName)) ∈ lw_all := lw_g (lw_at lw_m2 188 rfl) rfl
theorem q515 : (Jvm.Cond.code ({ cls := "PointAtWhoIsLost$Fen", name := "isLost", desc := "(I)Z" } : Jvm.MethodName) prog_3_method_13_code (2 : Nat) (Option.some Jvm.ClassFile.FieldType.boolean)) ∈ lw_all := lw_g (lw_at lw_m2 189 rfl) rfl
theorem q578 : (Jvm.Cond.instanceMethod ({ cls := "PointAtWhoIsLost$Fen", name := "isCell", desc := "(J)Z" } : Jvm.MethodName)) ∈ lw_all := lw_g (lw_at lw_m3 12 rfl) rfl
theorem q579 : (Jvm.Cond.selects "PointAtWhoIsLost$Fen" ({ cls := "PointAtWhoIsLost$Fen", name := "isCell", desc := "(J)Z" } : Jvm.MethodName) ({ cls := "PointAtWhoIsLost$Fen", name := "isCell", desc := "(J)Z" } : Jvm.MethodName)) ∈ lw_all := lw_g (lw_at lw_m3 13 rfl) rfl
theorem q580 : (Jvm.Cond.code ({ cls := "PointAtWhoIsLost$Fen", name := "isCell", desc := "(J)Z" } : Jvm.MethodName) prog_3_method_5_code (3 : Nat) (Option.some Jvm.ClassFile.FieldType.boolean)) ∈ lw_all := lw_g (lw_at lw_m3 14 rfl) rfl
theorem q581 : (Jvm.Cond.constantLong "PointAtWhoIsLost$Fen" (64 : Nat) (10 : Int64)) ∈ lw_all := lw_g (lw_at lw_m3 15 rfl) rfl
theorem q583 : (Jvm.Cond.instanceMethod ({ cls := "PointAtWhoIsLost$Fen", name := "mayBog", desc := "(I)Z" } : Jvm.MethodName)) ∈ lw_all := lw_g (lw_at lw_m3 17 rfl) rfl
theorem q584 : (Jvm.Cond.selects "PointAtWhoIsLost$Fen" ({ cls := "PointAtWhoIsLost$Fen", name := "mayBog", desc := "(I)Z" } : Jvm.MethodName) ({ cls := "PointAtWhoIsLost$Fen", name := "mayBog", desc := "(I)Z" } : Jvm.MethodName)) ∈ lw_all := lw_g (lw_at lw_m3 18 rfl) rfl
theorem q585 : (Jvm.Cond.code ({ cls := "PointAtWhoIsLost$Fen", name := "mayBog", desc := "(I)Z" } : Jvm.MethodName) prog_3_method_9_code (4 : Nat) (Option.some Jvm.ClassFile.FieldType.boolean)) ∈ lw_all := lw_g (lw_at lw_m3 19 rfl) rfl
theorem q587 : (Jvm.Cond.instanceMethod ({ cls := "PointAtWhoIsLost$Fen", name := "isBog", desc := "(I)Z" } : Jvm.MethodName)) ∈ lw_all := lw_g (lw_at lw_m3 21 rfl) rfl
theorem q588 : (Jvm.Cond.selects "PointAtWhoIsLost$Fen" ({ cls := "PointAtWhoIsLost$Fen", name := "isBog", desc := "(I)Z" } : Jvm.MethodName) ({ cls := "PointAtWhoIsLost$Fen", name := "isBog", desc := "(I)Z" } : Jvm.MethodName)) ∈ lw_all := lw_g (lw_at lw_m3 22 rfl) rfl
theorem q589 : (Jvm.Cond.code ({ cls := "PointAtWhoIsLost$Fen", name := "isBog", desc := "(I)Z" } : Jvm.MethodName) prog_3_method_6_code (2 : Nat) (Option.some Jvm.ClassFile.FieldType.boolean)) ∈ lw_all := lw_g (lw_at lw_m3 23 rfl) rfl
theorem q590 : (Jvm.Cond.methodLinkNest "PointAtWhoIsLost$Fen" (66 : Nat) ({ cls := "PointAtWhoIsLost", name := "has", desc := "(II)Z" } : Jvm.MethodName) "PointAtWhoIsLost") ∈ lw_tbl := lw_at lw_m3 24 rfl
theorem q594 : (Jvm.Cond.instanceMethod ({ cls := "PointAtWhoIsLost$Fen", name := "bog", desc := "(IZ)V" } : Jvm.MethodName)) ∈ lw_all := lw_g (lw_at lw_m3 28 rfl) rfl
theorem q595 : (Jvm.Cond.selects "PointAtWhoIsLost$Fen" ({ cls := "PointAtWhoIsLost$Fen", name := "bog", desc := "(IZ)V" } : Jvm.MethodName) ({ cls := "PointAtWhoIsLost$Fen", name := "bog", desc := "(IZ)V" } : Jvm.MethodName)) ∈ lw_all := lw_g (lw_at lw_m3 29 rfl) rfl
theorem q596 : (Jvm.Cond.code ({ cls := "PointAtWhoIsLost$Fen", name := "bog", desc := "(IZ)V" } : Jvm.MethodName) prog_3_method_8_code (3 : Nat) (Option.none : Option Jvm.ClassFile.FieldType)) ∈ lw_all := lw_g (lw_at lw_m3 30 rfl) rfl
theorem q606 : (Jvm.Cond.instanceMethod ({ cls := "PointAtWhoIsLost$Fen", name := "addsPost", desc := "(III)I" } : Jvm.MethodName)) ∈ lw_all := lw_g (lw_at lw_m3 40 rfl) rfl
theorem q607 : (Jvm.Cond.selects "PointAtWhoIsLost$Fen" ({ cls := "PointAtWhoIsLost$Fen", name := "addsPost", desc := "(III)I" } : Jvm.MethodName) ({ cls := "PointAtWhoIsLost$Fen", name := "addsPost", desc := "(III)I" } : Jvm.MethodName)) ∈ lw_all := lw_g (lw_at lw_m3 41 rfl) rfl
theorem q608 : (Jvm.Cond.code ({ cls := "PointAtWhoIsLost$Fen", name := "addsPost", desc := "(III)I" } : Jvm.MethodName) prog_3_method_3_code (4 : Nat) (Option.some Jvm.ClassFile.FieldType.int)) ∈ lw_all := lw_g (lw_at lw_m3 42 rfl) rfl
theorem q609 : (Jvm.Cond.methodLinkNest "PointAtWhoIsLost$Fen" (60 : Nat) ({ cls := "PointAtWhoIsLost", name := "made", desc := "(IIII)LPointAtWhoIsLost$Post;" } : Jvm.MethodName) "PointAtWhoIsLost") ∈ lw_tbl := lw_at lw_m3 43 rfl
theorem q685 : (Jvm.Cond.instanceMethod ({ cls := "PointAtWhoIsLost$Fen", name := "addsWalker", desc := "(II)I" } : Jvm.MethodName)) ∈ lw_all := lw_g (lw_at lw_m3 119 rfl) rfl
theorem q686 : (Jvm.Cond.selects "PointAtWhoIsLost$Fen" ({ cls := "PointAtWhoIsLost$Fen", name := "addsWalker", desc := "(II)I" } : Jvm.MethodName) ({ cls := "PointAtWhoIsLost$Fen", name := "addsWalker", desc := "(II)I" } : Jvm.MethodName)) ∈ lw_all := lw_g (lw_at lw_m3 120 rfl) rfl
theorem q687 : (Jvm.Cond.code ({ cls := "PointAtWhoIsLost$Fen", name := "addsWalker", desc := "(II)I" } : Jvm.MethodName) prog_3_method_4_code (3 : Nat) (Option.some Jvm.ClassFile.FieldType.int)) ∈ lw_all := lw_g (lw_at lw_m3 121 rfl) rfl
theorem q693 : (Jvm.Cond.instanceMethod ({ cls := "PointAtWhoIsLost$Fen", name := "isWalker", desc := "(I)Z" } : Jvm.MethodName)) ∈ lw_all := lw_g (lw_at lw_m3 127 rfl) rfl
theorem q694 : (Jvm.Cond.selects "PointAtWhoIsLost$Fen" ({ cls := "PointAtWhoIsLost$Fen", name := "isWalker", desc := "(I)Z" } : Jvm.MethodName) ({ cls := "PointAtWhoIsLost$Fen", name := "isWalker", desc := "(I)Z" } : Jvm.MethodName)) ∈ lw_all := lw_g (lw_at lw_m3 128 rfl) rfl
theorem q695 : (Jvm.Cond.code ({ cls := "PointAtWhoIsLost$Fen", name := "isWalker", desc := "(I)Z" } : Jvm.MethodName) prog_3_method_12_code (2 : Nat) (Option.some Jvm.ClassFile.FieldType.boolean)) ∈ lw_all := lw_g (lw_at lw_m3 129 rfl) rfl
theorem q696 : (Jvm.Cond.methodLinkNest "PointAtWhoIsLost$Fen" (84 : Nat) ({ cls := "PointAtWhoIsLost", name := "isIn", desc := "(III)Z" } : Jvm.MethodName) "PointAtWhoIsLost") ∈ lw_tbl := lw_at lw_m3 130 rfl
theorem q713 : (Jvm.Cond.instanceMethod ({ cls := "PointAtWhoIsLost$Fen", name := "copied", desc := "()LPointAtWhoIsLost$Fen;" } : Jvm.MethodName)) ∈ lw_all := lw_g (lw_at lw_m3 147 rfl) rfl
theorem q714 : (Jvm.Cond.selects "PointAtWhoIsLost$Fen" ({ cls := "PointAtWhoIsLost$Fen", name := "copied", desc := "()LPointAtWhoIsLost$Fen;" } : Jvm.MethodName) ({ cls := "PointAtWhoIsLost$Fen", name := "copied", desc := "()LPointAtWhoIsLost$Fen;" } : Jvm.MethodName)) ∈ lw_all := lw_g (lw_at lw_m3 148 rfl) rfl
theorem q715 : (Jvm.Cond.code ({ cls := "PointAtWhoIsLost$Fen", name := "copied", desc := "()LPointAtWhoIsLost$Fen;" } : Jvm.MethodName) prog_3_method_2_code (2 : Nat) (Option.some (Jvm.ClassFile.FieldType.object "PointAtWhoIsLost$Fen"))) ∈ lw_all := lw_g (lw_at lw_m3 149 rfl) rfl
theorem q716 : (Jvm.Cond.classLink "PointAtWhoIsLost$Fen" (10 : Nat) "PointAtWhoIsLost$Fen") ∈ lw_all := lw_g (lw_at lw_m3 150 rfl) rfl
theorem q717 : (Jvm.Cond.methodLink "PointAtWhoIsLost$Fen" (44 : Nat) ({ cls := "PointAtWhoIsLost$Fen", name := "<init>", desc := "()V" } : Jvm.MethodName)) ∈ lw_all := lw_g (lw_at lw_m3 151 rfl) rfl
theorem q718 : (Jvm.Cond.methodLink "PointAtWhoIsLost$Fen" (45 : Nat) ({ cls := "java/lang/System", name := "arraycopy", desc := "(Ljava/lang/Object;ILjava/lang/Object;II)V" } : Jvm.MethodName)) ∈ lw_all := lw_g (lw_at lw_m3 152 rfl) rfl
theorem q1097 : (Jvm.Cond.instanceMethod ({ cls := "PointAtWhoIsLost$Fen", name := "path", desc := "(II)I" } : Jvm.MethodName)) ∈ lw_all := lw_g (lw_at lw_m5 51 rfl) rfl
theorem q1098 : (Jvm.Cond.selects "PointAtWhoIsLost$Fen" ({ cls := "PointAtWhoIsLost$Fen", name := "path", desc := "(II)I" } : Jvm.MethodName) ({ cls := "PointAtWhoIsLost$Fen", name := "path", desc := "(II)I" } : Jvm.MethodName)) ∈ lw_all := lw_g (lw_at lw_m5 52 rfl) rfl
theorem q1099 : (Jvm.Cond.code ({ cls := "PointAtWhoIsLost$Fen", name := "path", desc := "(II)I" } : Jvm.MethodName) prog_3_method_18_code (3 : Nat) (Option.some Jvm.ClassFile.FieldType.int)) ∈ lw_all := lw_g (lw_at lw_m5 53 rfl) rfl
theorem q1100 : (Jvm.Cond.methodLink "PointAtWhoIsLost$Fen" (114 : Nat) ({ cls := "PointAtWhoIsLost$Fen", name := "spreads", desc := "(I)[I" } : Jvm.MethodName)) ∈ lw_all := lw_g (lw_at lw_m5 54 rfl) rfl
theorem q1101 : (Jvm.Cond.instanceMethod ({ cls := "PointAtWhoIsLost$Fen", name := "spreads", desc := "(I)[I" } : Jvm.MethodName)) ∈ lw_all := lw_g (lw_at lw_m5 55 rfl) rfl
theorem q1102 : (Jvm.Cond.selects "PointAtWhoIsLost$Fen" ({ cls := "PointAtWhoIsLost$Fen", name := "spreads", desc := "(I)[I" } : Jvm.MethodName) ({ cls := "PointAtWhoIsLost$Fen", name := "spreads", desc := "(I)[I" } : Jvm.MethodName)) ∈ lw_all := lw_g (lw_at lw_m5 56 rfl) rfl
theorem q1103 : (Jvm.Cond.code ({ cls := "PointAtWhoIsLost$Fen", name := "spreads", desc := "(I)[I" } : Jvm.MethodName) prog_3_method_17_code (6 : Nat) (Option.some (Jvm.ClassFile.FieldType.array Jvm.ClassFile.FieldType.int))) ∈ lw_all := lw_g (lw_at lw_m5 57 rfl) rfl
theorem q1104 : (Jvm.Cond.methodLink "PointAtWhoIsLost$Fen" (104 : Nat) ({ cls := "java/util/Arrays", name := "fill", desc := "([II)V" } : Jvm.MethodName)) ∈ lw_all := lw_g (lw_at lw_m5 58 rfl) rfl
theorem q1107 : (Jvm.Cond.methodLink "PointAtWhoIsLost$Fen" (110 : Nat) ({ cls := "PointAtWhoIsLost$Fen", name := "beside", desc := "(II)I" } : Jvm.MethodName)) ∈ lw_all := lw_g (lw_at lw_m5 61 rfl) rfl
theorem q1108 : (Jvm.Cond.instanceMethod ({ cls := "PointAtWhoIsLost$Fen", name := "beside", desc := "(II)I" } : Jvm.MethodName)) ∈ lw_all := lw_g (lw_at lw_m5 62 rfl) rfl
theorem q1109 : (Jvm.Cond.selects "PointAtWhoIsLost$Fen" ({ cls := "PointAtWhoIsLost$Fen", name := "beside", desc := "(II)I" } : Jvm.MethodName) ({ cls := "PointAtWhoIsLost$Fen", name := "beside", desc := "(II)I" } : Jvm.MethodName)) ∈ lw_all := lw_g (lw_at lw_m5 63 rfl) rfl
theorem q1110 : (Jvm.Cond.code ({ cls := "PointAtWhoIsLost$Fen", name := "beside", desc := "(II)I" } : Jvm.MethodName) prog_3_method_16_code (6 : Nat) (Option.some Jvm.ClassFile.FieldType.int)) ∈ lw_all := lw_g (lw_at lw_m5 64 rfl) rfl
theorem q1111 : (Jvm.Cond.fieldLinkNest "PointAtWhoIsLost$Fen" (98 : Nat) "PointAtWhoIsLost" "DOWN" "[I" "PointAtWhoIsLost") ∈ lw_tbl := lw_at lw_m5 65 rfl
theorem q1113 : (Jvm.Cond.fieldLinkNest "PointAtWhoIsLost$Fen" (101 : Nat) "PointAtWhoIsLost" "ACROSS" "[I" "PointAtWhoIsLost") ∈ lw_tbl := lw_at lw_m5 67 rfl
theorem q1115 : (Jvm.Cond.methodLink "PointAtWhoIsLost$Fen" (74 : Nat) ({ cls := "PointAtWhoIsLost$Fen", name := "isBog", desc := "(I)Z" } : Jvm.MethodName)) ∈ lw_all := lw_g (lw_at lw_m5 69 rfl) rfl
theorem q1156 : (Jvm.Cond.instanceMethod ({ cls := "PointAtWhoIsLost$Fen", name := "next", desc := "(I)I" } : Jvm.MethodName)) ∈ lw_all := lw_g (lw_at lw_m5 110 rfl) rfl
theorem q1157 : (Jvm.Cond.selects "PointAtWhoIsLost$Fen" ({ cls := "PointAtWhoIsLost$Fen", name := "next", desc := "(I)I" } : Jvm.MethodName) ({ cls := "PointAtWhoIsLost$Fen", name := "next", desc := "(I)I" } : Jvm.MethodName)) ∈ lw_all := lw_g (lw_at lw_m5 111 rfl) rfl
theorem q1158 : (Jvm.Cond.code ({ cls := "PointAtWhoIsLost$Fen", name := "next", desc := "(I)I" } : Jvm.MethodName) prog_3_method_15_code (3 : Nat) (Option.some Jvm.ClassFile.FieldType.int)) ∈ lw_all := lw_g (lw_at lw_m5 112 rfl) rfl
theorem q1159 : (Jvm.Cond.methodLink "PointAtWhoIsLost$Fen" (95 : Nat) ({ cls := "PointAtWhoIsLost$Fen", name := "isDry", desc := "(J)Z" } : Jvm.MethodName)) ∈ lw_all := lw_g (lw_at lw_m5 113 rfl) rfl
theorem q1160 : (Jvm.Cond.instanceMethod ({ cls := "PointAtWhoIsLost$Fen", name := "isDry", desc := "(J)Z" } : Jvm.MethodName)) ∈ lw_all := lw_g (lw_at lw_m5 114 rfl) rfl
theorem q1161 : (Jvm.Cond.selects "PointAtWhoIsLost$Fen" ({ cls := "PointAtWhoIsLost$Fen", name := "isDry", desc := "(J)Z" } : Jvm.MethodName) ({ cls := "PointAtWhoIsLost$Fen", name := "isDry", desc := "(J)Z" } : Jvm.MethodName)) ∈ lw_all := lw_g (lw_at lw_m5 115 rfl) rfl
theorem q1162 : (Jvm.Cond.code ({ cls := "PointAtWhoIsLost$Fen", name := "isDry", desc := "(J)Z" } : Jvm.MethodName) prog_3_method_7_code (3 : Nat) (Option.some Jvm.ClassFile.FieldType.boolean)) ∈ lw_all := lw_g (lw_at lw_m5 116 rfl) rfl
theorem q1163 : (Jvm.Cond.methodLink "PointAtWhoIsLost$Fen" (70 : Nat) ({ cls := "PointAtWhoIsLost$Fen", name := "isCell", desc := "(J)Z" } : Jvm.MethodName)) ∈ lw_all := lw_g (lw_at lw_m5 117 rfl) rfl
theorem q1329 : (Jvm.Cond.instanceMethod ({ cls := "PointAtWhoIsLost$Fen", name := "stands", desc := "(IIZ)V" } : Jvm.MethodName)) ∈ lw_all := lw_g (lw_at lw_m6 43 rfl) rfl
theorem q1330 : (Jvm.Cond.selects "PointAtWhoIsLost$Fen" ({ cls := "PointAtWhoIsLost$Fen", name := "stands", desc := "(IIZ)V" } : Jvm.MethodName) ({ cls := "PointAtWhoIsLost$Fen", name := "stands", desc := "(IIZ)V" } : Jvm.MethodName)) ∈ lw_all := lw_g (lw_at lw_m6 44 rfl) rfl
theorem q1331 : (Jvm.Cond.code ({ cls := "PointAtWhoIsLost$Fen", name := "stands", desc := "(IIZ)V" } : Jvm.MethodName) prog_3_method_19_code (4 : Nat) (Option.none : Option Jvm.ClassFile.FieldType)) ∈ lw_all := lw_g (lw_at lw_m6 45 rfl) rfl
theorem q1332 : (Jvm.Cond.methodLink "PointAtWhoIsLost$Fen" (118 : Nat) ({ cls := "java/lang/Math", name := "max", desc := "(II)I" } : Jvm.MethodName)) ∈ lw_all := lw_g (lw_at lw_m6 46 rfl) rfl
theorem q1342 : (Jvm.Cond.instanceMethod ({ cls := "PointAtWhoIsLost$Fen", name := "day", desc := "()V" } : Jvm.MethodName)) ∈ lw_all := lw_g (lw_at lw_m6 56 rfl) rfl
theorem q1343 : (Jvm.Cond.selects "PointAtWhoIsLost$Fen" ({ cls := "PointAtWhoIsLost$Fen", name := "day", desc := "()V" } : Jvm.MethodName) ({ cls := "PointAtWhoIsLost$Fen", name := "day", desc := "()V" } : Jvm.MethodName)) ∈ lw_all := lw_g (lw_at lw_m6 57 rfl) rfl
theorem q1344 : (Jvm.Cond.code ({ cls := "PointAtWhoIsLost$Fen", name := "day", desc := "()V" } : Jvm.MethodName) prog_3_method_21_code (4 : Nat) (Option.none : Option Jvm.ClassFile.FieldType)) ∈ lw_all := lw_g (lw_at lw_m6 58 rfl) rfl
theorem q1345 : (Jvm.Cond.methodLink "PointAtWhoIsLost$Fen" (127 : Nat) ({ cls := "PointAtWhoIsLost$Fen", name := "draw", desc := "(I)I" } : Jvm.MethodName)) ∈ lw_all := lw_g (lw_at lw_m6 59 rfl) rfl
theorem q1346 : (Jvm.Cond.instanceMethod ({ cls := "PointAtWhoIsLost$Fen", name := "draw", desc := "(I)I" } : Jvm.MethodName)) ∈ lw_all := lw_g (lw_at lw_m6 60 rfl) rfl
theorem q1347 : (Jvm.Cond.selects "PointAtWhoIsLost$Fen" ({ cls := "PointAtWhoIsLost$Fen", name := "draw", desc := "(I)I" } : Jvm.MethodName) ({ cls := "PointAtWhoIsLost$Fen", name := "draw", desc := "(I)I" } : Jvm.MethodName)) ∈ lw_all := lw_g (lw_at lw_m6 61 rfl) rfl
theorem q1348 : (Jvm.Cond.code ({ cls := "PointAtWhoIsLost$Fen", name := "draw", desc := "(I)I" } : Jvm.MethodName) prog_3_method_22_code (2 : Nat) (Option.some Jvm.ClassFile.FieldType.int)) ∈ lw_all := lw_g (lw_at lw_m6 62 rfl) rfl
theorem q1349 : (Jvm.Cond.constant "PointAtWhoIsLost$Fen" (134 : Nat) (1103515245 : Int32)) ∈ lw_all := lw_g (lw_at lw_m6 63 rfl) rfl
theorem q1350 : (Jvm.Cond.methodLink "PointAtWhoIsLost$Fen" (123 : Nat) ({ cls := "PointAtWhoIsLost$Fen", name := "stands", desc := "(IIZ)V" } : Jvm.MethodName)) ∈ lw_all := lw_g (lw_at lw_m6 64 rfl) rfl
theorem q1351 : (Jvm.Cond.methodLink "PointAtWhoIsLost$Fen" (130 : Nat) ({ cls := "PointAtWhoIsLost$Fen", name := "homeward", desc := "(I)V" } : Jvm.MethodName)) ∈ lw_all := lw_g (lw_at lw_m6 65 rfl) rfl
theorem q1352 : (Jvm.Cond.privateMethod ({ cls := "PointAtWhoIsLost$Fen", name := "homeward", desc := "(I)V" } : Jvm.MethodName)) ∈ lw_tbl := lw_at lw_m6 66 rfl
theorem q1353 : (Jvm.Cond.instanceMethod ({ cls := "PointAtWhoIsLost$Fen", name := "homeward", desc := "(I)V" } : Jvm.MethodName)) ∈ lw_all := lw_g (lw_at lw_m6 67 rfl) rfl
theorem q1354 : (Jvm.Cond.code ({ cls := "PointAtWhoIsLost$Fen", name := "homeward", desc := "(I)V" } : Jvm.MethodName) prog_3_method_20_code (4 : Nat) (Option.none : Option Jvm.ClassFile.FieldType)) ∈ lw_all := lw_g (lw_at lw_m6 68 rfl) rfl
theorem q1376 : (Jvm.Cond.instanceMethod ({ cls := "PointAtWhoIsLost$Fen", name := "manyBogs", desc := "()I" } : Jvm.MethodName)) ∈ lw_all := lw_g (lw_at lw_m6 90 rfl) rfl
theorem q1377 : (Jvm.Cond.selects "PointAtWhoIsLost$Fen" ({ cls := "PointAtWhoIsLost$Fen", name := "manyBogs", desc := "()I" } : Jvm.MethodName) ({ cls := "PointAtWhoIsLost$Fen", name := "manyBogs", desc := "()I" } : Jvm.MethodName)) ∈ lw_all := lw_g (lw_at lw_m6 91 rfl) rfl
theorem q1378 : (Jvm.Cond.code ({ cls := "PointAtWhoIsLost$Fen", name := "manyBogs", desc := "()I" } : Jvm.MethodName) prog_3_method_10_code (6 : Nat) (Option.some Jvm.ClassFile.FieldType.int)) ∈ lw_all := lw_g (lw_at lw_m6 92 rfl) rfl
theorem q1379 : (Jvm.Cond.methodLink "PointAtWhoIsLost$Fen" (78 : Nat) ({ cls := "java/lang/Integer", name := "bitCount", desc := "(I)I" } : Jvm.MethodName)) ∈ lw_all := lw_g (lw_at lw_m6 93 rfl) rfl
theorem in_X1 : ∀ w ∈ wsX10, w ∈ lw_all := lw_in wsX10 [184, 186, 188, 190, 192, 194, 196, 198, 200, 202, 204] (by decide +kernel) (by decide +kernel)
theorem q89 : (Jvm.Cond.initialized "PointAtWhoIsLost$Lost") ∈ lw_all := lw_g (lw_at lw_m1 3 rfl) rfl
theorem q138 : (Jvm.Cond.instantiable "PointAtWhoIsLost$Lost" (2 : Nat)) ∈ lw_all := lw_g (lw_at lw_m1 52 rfl) rfl
theorem q140 : (Jvm.Cond.instanceMethod ({ cls := "PointAtWhoIsLost$Lost", name := "<init>", desc := "()V" } : Jvm.MethodName)) ∈ lw_all := lw_g (lw_at lw_m1 54 rfl) rfl
theorem q141 : (Jvm.Cond.code ({ cls := "PointAtWhoIsLost$Lost", name := "<init>", desc := "()V" } : Jvm.MethodName) prog_6_method_1_code (1 : Nat) (Option.none : Option Jvm.ClassFile.FieldType)) ∈ lw_all := lw_g (lw_at lw_m1 55 rfl) rfl
theorem q142 : (Jvm.Cond.methodLink "PointAtWhoIsLost$Lost" (3 : Nat) ({ cls := "java/lang/Object", name := "<init>", desc := "()V" } : Jvm.MethodName)) ∈ lw_all := lw_g (lw_at lw_m1 56 rfl) rfl
theorem q143 : (Jvm.Cond.fieldLink "PointAtWhoIsLost$Lost" (9 : Nat) "PointAtWhoIsLost$Lost" "cell" "[I") ∈ lw_all := lw_g (lw_at lw_m1 57 rfl) rfl
theorem q149 : (Jvm.Cond.fieldLink "PointAtWhoIsLost$Lost" (15 : Nat) "PointAtWhoIsLost$Lost" "many" "I") ∈ lw_all := lw_g (lw_at lw_m1 63 rfl) rfl
theorem q154 : (Jvm.Cond.laysFinal "PointAtWhoIsLost$Lost" "PointAtWhoIsLost$Lost" "cell" "[I") ∈ lw_all := lw_g (lw_at lw_m1 68 rfl) rfl
theorem q155 : (Jvm.Cond.soleField "PointAtWhoIsLost$Lost" "cell") ∈ lw_all := lw_g (lw_at lw_m1 69 rfl) rfl
theorem q156 : (Jvm.Cond.lays "PointAtWhoIsLost$Lost" "PointAtWhoIsLost$Lost" "many" "I") ∈ lw_all := lw_g (lw_at lw_m1 70 rfl) rfl
theorem q157 : (Jvm.Cond.soleField "PointAtWhoIsLost$Lost" "many") ∈ lw_all := lw_g (lw_at lw_m1 71 rfl) rfl
theorem q158 : (Jvm.Cond.superclass "PointAtWhoIsLost$Lost" "java/lang/Object") ∈ lw_all := lw_g (lw_at lw_m1 72 rfl) rfl
theorem q524 : (Jvm.Cond.instanceMethod ({ cls := "PointAtWhoIsLost$Lost", name := "nearest", desc := "(I)I" } : Jvm.MethodName)) ∈ lw_all := lw_g (lw_at lw_m2 198 rfl) rfl
theorem q525 : (Jvm.Cond.selects "PointAtWhoIsLost$Lost" ({ cls := "PointAtWhoIsLost$Lost", name := "nearest", desc := "(I)I" } : Jvm.MethodName) ({ cls := "PointAtWhoIsLost$Lost", name := "nearest", desc := "(I)I" } : Jvm.MethodName)) ∈ lw_all := lw_g (lw_at lw_m2 199 rfl) rfl
theorem q526 : (Jvm.Cond.code ({ cls := "PointAtWhoIsLost$Lost", name := "nearest", desc := "(I)I" } : Jvm.MethodName) prog_6_method_3_code (4 : Nat) (Option.some Jvm.ClassFile.FieldType.int)) ∈ lw_all := lw_g (lw_at lw_m2 200 rfl) rfl
theorem q527 : (Jvm.Cond.methodLinkNest "PointAtWhoIsLost$Lost" (19 : Nat) ({ cls := "PointAtWhoIsLost", name := "far", desc := "(II)I" } : Jvm.MethodName) "PointAtWhoIsLost") ∈ lw_tbl := lw_at lw_m2 201 rfl
theorem q1134 : (Jvm.Cond.instanceMethod ({ cls := "PointAtWhoIsLost$Lost", name := "alone", desc := "(I)LPointAtWhoIsLost$Lost;" } : Jvm.MethodName)) ∈ lw_all := lw_g (lw_at lw_m5 88 rfl) rfl
theorem q1135 : (Jvm.Cond.selects "PointAtWhoIsLost$Lost" ({ cls := "PointAtWhoIsLost$Lost", name := "alone", desc := "(I)LPointAtWhoIsLost$Lost;" } : Jvm.MethodName) ({ cls := "PointAtWhoIsLost$Lost", name := "alone", desc := "(I)LPointAtWhoIsLost$Lost;" } : Jvm.MethodName)) ∈ lw_all := lw_g (lw_at lw_m5 89 rfl) rfl
theorem q1136 : (Jvm.Cond.code ({ cls := "PointAtWhoIsLost$Lost", name := "alone", desc := "(I)LPointAtWhoIsLost$Lost;" } : Jvm.MethodName) prog_6_method_2_code (2 : Nat) (Option.some (Jvm.ClassFile.FieldType.object "PointAtWhoIsLost$Lost"))) ∈ lw_all := lw_g (lw_at lw_m5 90 rfl) rfl
theorem in_X2 : ∀ w ∈ wsX20, w ∈ lw_all := lw_in wsX20 [154, 156] (by decide +kernel) (by decide +kernel)
theorem q90 : (Jvm.Cond.initialized "PointAtWhoIsLost$Sheet") ∈ lw_all := lw_g (lw_at lw_m1 4 rfl) rfl
theorem q211 : (Jvm.Cond.instantiable "PointAtWhoIsLost$Sheet" (1 : Nat)) ∈ lw_all := lw_g (lw_at lw_m1 125 rfl) rfl
theorem q213 : (Jvm.Cond.instanceMethod ({ cls := "PointAtWhoIsLost$Sheet", name := "<init>", desc := "()V" } : Jvm.MethodName)) ∈ lw_all := lw_g (lw_at lw_m1 127 rfl) rfl
theorem q214 : (Jvm.Cond.code ({ cls := "PointAtWhoIsLost$Sheet", name := "<init>", desc := "()V" } : Jvm.MethodName) prog_12_method_1_code (1 : Nat) (Option.none : Option Jvm.ClassFile.FieldType)) ∈ lw_all := lw_g (lw_at lw_m1 128 rfl) rfl
theorem q215 : (Jvm.Cond.methodLink "PointAtWhoIsLost$Sheet" (1 : Nat) ({ cls := "java/lang/Object", name := "<init>", desc := "()V" } : Jvm.MethodName)) ∈ lw_all := lw_g (lw_at lw_m1 129 rfl) rfl
theorem q217 : (Jvm.Cond.lays "PointAtWhoIsLost$Sheet" "PointAtWhoIsLost$Sheet" "held" "Ljava/lang/Object;") ∈ lw_all := lw_g (lw_at lw_m1 131 rfl) rfl
theorem q218 : (Jvm.Cond.soleField "PointAtWhoIsLost$Sheet" "held") ∈ lw_all := lw_g (lw_at lw_m1 132 rfl) rfl
theorem q219 : (Jvm.Cond.superclass "PointAtWhoIsLost$Sheet" "java/lang/Object") ∈ lw_all := lw_g (lw_at lw_m1 133 rfl) rfl
theorem in_X3 : ∀ w ∈ wsX30, w ∈ lw_all := lw_in wsX30 [217] (by decide +kernel) (by decide +kernel)
theorem q91 : (Jvm.Cond.initialized "PointAtWhoIsLostModel") ∈ lw_all := lw_g (lw_at lw_m1 5 rfl) rfl
theorem q1385 : (Jvm.Cond.instantiable "PointAtWhoIsLostModel" (28 : Nat)) ∈ lw_all := lw_g (lw_at lw_m6 99 rfl) rfl
theorem q1387 : (Jvm.Cond.instanceMethod ({ cls := "PointAtWhoIsLostModel", name := "<init>", desc := "()V" } : Jvm.MethodName)) ∈ lw_all := lw_g (lw_at lw_m6 101 rfl) rfl
theorem q1388 : (Jvm.Cond.code ({ cls := "PointAtWhoIsLostModel", name := "<init>", desc := "()V" } : Jvm.MethodName) prog_16_method_1_code (2 : Nat) (Option.none : Option Jvm.ClassFile.FieldType)) ∈ lw_all := lw_g (lw_at lw_m6 102 rfl) rfl
theorem q1389 : (Jvm.Cond.methodLink "PointAtWhoIsLostModel" (1 : Nat) ({ cls := "java/lang/Object", name := "<init>", desc := "()V" } : Jvm.MethodName)) ∈ lw_all := lw_g (lw_at lw_m6 103 rfl) rfl
theorem q1390 : (Jvm.Cond.fieldLink "PointAtWhoIsLostModel" (60 : Nat) "PointAtWhoIsLostModel" "n" "I") ∈ lw_all := lw_g (lw_at lw_m6 104 rfl) rfl
theorem q1391 : (Jvm.Cond.fieldLink "PointAtWhoIsLostModel" (7 : Nat) "PointAtWhoIsLostModel" "bogs" "[Z") ∈ lw_all := lw_g (lw_at lw_m6 105 rfl) rfl
theorem q1392 : (Jvm.Cond.fieldLink "PointAtWhoIsLostModel" (114 : Nat) "PointAtWhoIsLostModel" "home" "I") ∈ lw_all := lw_g (lw_at lw_m6 106 rfl) rfl
theorem q1393 : (Jvm.Cond.fieldLink "PointAtWhoIsLostModel" (73 : Nat) "PointAtWhoIsLostModel" "posts" "I") ∈ lw_all := lw_g (lw_at lw_m6 107 rfl) rfl
theorem q1394 : (Jvm.Cond.fieldLink "PointAtWhoIsLostModel" (13 : Nat) "PointAtWhoIsLostModel" "kind" "[I") ∈ lw_all := lw_g (lw_at lw_m6 108 rfl) rfl
theorem q1395 : (Jvm.Cond.fieldLink "PointAtWhoIsLostModel" (17 : Nat) "PointAtWhoIsLostModel" "own" "[I") ∈ lw_all := lw_g (lw_at lw_m6 109 rfl) rfl
theorem q1396 : (Jvm.Cond.fieldLink "PointAtWhoIsLostModel" (20 : Nat) "PointAtWhoIsLostModel" "cell" "[I") ∈ lw_all := lw_g (lw_at lw_m6 110 rfl) rfl
theorem q1397 : (Jvm.Cond.fieldLink "PointAtWhoIsLostModel" (76 : Nat) "PointAtWhoIsLostModel" "walkers" "I") ∈ lw_all := lw_g (lw_at lw_m6 111 rfl) rfl
theorem q1398 : (Jvm.Cond.fieldLink "PointAtWhoIsLostModel" (23 : Nat) "PointAtWhoIsLostModel" "place" "[I") ∈ lw_all := lw_g (lw_at lw_m6 112 rfl) rfl
theorem q1399 : (Jvm.Cond.fieldLink "PointAtWhoIsLostModel" (26 : Nat) "PointAtWhoIsLostModel" "certain" "[I") ∈ lw_all := lw_g (lw_at lw_m6 113 rfl) rfl
theorem q1400 : (Jvm.Cond.fieldLink "PointAtWhoIsLostModel" (64 : Nat) "PointAtWhoIsLostModel" "seed" "I") ∈ lw_all := lw_g (lw_at lw_m6 114 rfl) rfl
theorem q1401 : (Jvm.Cond.fieldLink "PointAtWhoIsLostModel" (131 : Nat) "PointAtWhoIsLostModel" "taped" "I") ∈ lw_all := lw_g (lw_at lw_m6 115 rfl) rfl
theorem q1402 : (Jvm.Cond.fieldLink "PointAtWhoIsLostModel" (29 : Nat) "PointAtWhoIsLostModel" "tape" "[I") ∈ lw_all := lw_g (lw_at lw_m6 116 rfl) rfl
theorem q1403 : (Jvm.Cond.fieldLink "PointAtWhoIsLostModel" (137 : Nat) "PointAtWhoIsLostModel" "from" "I") ∈ lw_all := lw_g (lw_at lw_m6 117 rfl) rfl
theorem q1404 : (Jvm.Cond.fieldLink "PointAtWhoIsLostModel" (134 : Nat) "PointAtWhoIsLostModel" "to" "I") ∈ lw_all := lw_g (lw_at lw_m6 118 rfl) rfl
theorem q1405 : (Jvm.Cond.fieldLink "PointAtWhoIsLostModel" (140 : Nat) "PointAtWhoIsLostModel" "token" "I") ∈ lw_all := lw_g (lw_at lw_m6 119 rfl) rfl
theorem q1406 : (Jvm.Cond.fieldLink "PointAtWhoIsLostModel" (149 : Nat) "PointAtWhoIsLostModel" "value" "I") ∈ lw_all := lw_g (lw_at lw_m6 120 rfl) rfl
theorem q1407 : (Jvm.Cond.fieldLink "PointAtWhoIsLostModel" (32 : Nat) "PointAtWhoIsLostModel" "holding" "[I") ∈ lw_all := lw_g (lw_at lw_m6 121 rfl) rfl
theorem q1408 : (Jvm.Cond.fieldLink "PointAtWhoIsLostModel" (35 : Nat) "PointAtWhoIsLostModel" "rowLength" "[I") ∈ lw_all := lw_g (lw_at lw_m6 122 rfl) rfl
theorem q1409 : (Jvm.Cond.fieldLink "PointAtWhoIsLostModel" (38 : Nat) "PointAtWhoIsLostModel" "rowOf" "[J") ∈ lw_all := lw_g (lw_at lw_m6 123 rfl) rfl
theorem q1410 : (Jvm.Cond.fieldLink "PointAtWhoIsLostModel" (42 : Nat) "PointAtWhoIsLostModel" "refusals" "[I") ∈ lw_all := lw_g (lw_at lw_m6 124 rfl) rfl
theorem q1411 : (Jvm.Cond.fieldLink "PointAtWhoIsLostModel" (331 : Nat) "PointAtWhoIsLostModel" "imaged" "Z") ∈ lw_all := lw_g (lw_at lw_m6 125 rfl) rfl
theorem q1412 : (Jvm.Cond.fieldLink "PointAtWhoIsLostModel" (45 : Nat) "PointAtWhoIsLostModel" "old" "[I") ∈ lw_all := lw_g (lw_at lw_m6 126 rfl) rfl
theorem q1413 : (Jvm.Cond.fieldLink "PointAtWhoIsLostModel" (48 : Nat) "PointAtWhoIsLostModel" "ahead" "[I") ∈ lw_all := lw_g (lw_at lw_m6 127 rfl) rfl
theorem q1414 : (Jvm.Cond.fieldLink "PointAtWhoIsLostModel" (204 : Nat) "PointAtWhoIsLostModel" "lost" "I") ∈ lw_all := lw_g (lw_at lw_m6 128 rfl) rfl
theorem q1415 : (Jvm.Cond.fieldLink "PointAtWhoIsLostModel" (51 : Nat) "PointAtWhoIsLostModel" "lostAt" "[I") ∈ lw_all := lw_g (lw_at lw_m6 129 rfl) rfl
theorem q1416 : (Jvm.Cond.fieldLink "PointAtWhoIsLostModel" (54 : Nat) "PointAtWhoIsLostModel" "far" "[I") ∈ lw_all := lw_g (lw_at lw_m6 130 rfl) rfl
theorem q1417 : (Jvm.Cond.fieldLink "PointAtWhoIsLostModel" (57 : Nat) "PointAtWhoIsLostModel" "group" "[I") ∈ lw_all := lw_g (lw_at lw_m6 131 rfl) rfl
theorem q1418 : (Jvm.Cond.lays "PointAtWhoIsLostModel" "PointAtWhoIsLostModel" "n" "I") ∈ lw_all := lw_g (lw_at lw_m6 132 rfl) rfl
theorem q1419 : (Jvm.Cond.soleField "PointAtWhoIsLostModel" "n") ∈ lw_all := lw_g (lw_at lw_m6 133 rfl) rfl
theorem q1420 : (Jvm.Cond.laysFinal "PointAtWhoIsLostModel" "PointAtWhoIsLostModel" "bogs" "[Z") ∈ lw_all := lw_g (lw_at lw_m6 134 rfl) rfl
theorem q1421 : (Jvm.Cond.soleField "PointAtWhoIsLostModel" "bogs") ∈ lw_all := lw_g (lw_at lw_m6 135 rfl) rfl
theorem q1422 : (Jvm.Cond.lays "PointAtWhoIsLostModel" "PointAtWhoIsLostModel" "home" "I") ∈ lw_all := lw_g (lw_at lw_m6 136 rfl) rfl
theorem q1423 : (Jvm.Cond.soleField "PointAtWhoIsLostModel" "home") ∈ lw_all := lw_g (lw_at lw_m6 137 rfl) rfl
theorem q1424 : (Jvm.Cond.lays "PointAtWhoIsLostModel" "PointAtWhoIsLostModel" "posts" "I") ∈ lw_all := lw_g (lw_at lw_m6 138 rfl) rfl
theorem q1425 : (Jvm.Cond.soleField "PointAtWhoIsLostModel" "posts") ∈ lw_all := lw_g (lw_at lw_m6 139 rfl) rfl
theorem q1426 : (Jvm.Cond.laysFinal "PointAtWhoIsLostModel" "PointAtWhoIsLostModel" "kind" "[I") ∈ lw_all := lw_g (lw_at lw_m6 140 rfl) rfl
theorem q1427 : (Jvm.Cond.soleField "PointAtWhoIsLostModel" "kind") ∈ lw_all := lw_g (lw_at lw_m6 141 rfl) rfl
theorem q1428 : (Jvm.Cond.laysFinal "PointAtWhoIsLostModel" "PointAtWhoIsLostModel" "own" "[I") ∈ lw_all := lw_g (lw_at lw_m6 142 rfl) rfl
theorem q1429 : (Jvm.Cond.soleField "PointAtWhoIsLostModel" "own") ∈ lw_all := lw_g (lw_at lw_m6 143 rfl) rfl
theorem q1430 : (Jvm.Cond.laysFinal "PointAtWhoIsLostModel" "PointAtWhoIsLostModel" "cell" "[I") ∈ lw_all := lw_g (lw_at lw_m6 144 rfl) rfl
theorem q1431 : (Jvm.Cond.soleField "PointAtWhoIsLostModel" "cell") ∈ lw_all := lw_g (lw_at lw_m6 145 rfl) rfl
theorem q1432 : (Jvm.Cond.lays "PointAtWhoIsLostModel" "PointAtWhoIsLostModel" "walkers" "I") ∈ lw_all := lw_g (lw_at lw_m6 146 rfl) rfl
theorem q1433 : (Jvm.Cond.soleField "PointAtWhoIsLostModel" "walkers") ∈ lw_all := lw_g (lw_at lw_m6 147 rfl) rfl
theorem q1434 : (Jvm.Cond.laysFinal "PointAtWhoIsLostModel" "PointAtWhoIsLostModel" "place" "[I") ∈ lw_all := lw_g (lw_at lw_m6 148 rfl) rfl
theorem q1435 : (Jvm.Cond.soleField "PointAtWhoIsLostModel" "place") ∈ lw_all := lw_g (lw_at lw_m6 149 rfl) rfl
theorem q1436 : (Jvm.Cond.laysFinal "PointAtWhoIsLostModel" "PointAtWhoIsLostModel" "certain" "[I") ∈ lw_all := lw_g (lw_at lw_m6 150 rfl) rfl
theorem q1437 : (Jvm.Cond.soleField "PointAtWhoIsLostModel" "certain") ∈ lw_all := lw_g (lw_at lw_m6 151 rfl) rfl
theorem q1438 : (Jvm.Cond.lays "PointAtWhoIsLostModel" "PointAtWhoIsLostModel" "seed" "I") ∈ lw_all := lw_g (lw_at lw_m6 152 rfl) rfl
theorem q1439 : (Jvm.Cond.soleField "PointAtWhoIsLostModel" "seed") ∈ lw_all := lw_g (lw_at lw_m6 153 rfl) rfl
theorem q1440 : (Jvm.Cond.lays "PointAtWhoIsLostModel" "PointAtWhoIsLostModel" "taped" "I") ∈ lw_all := lw_g (lw_at lw_m6 154 rfl) rfl
theorem q1441 : (Jvm.Cond.soleField "PointAtWhoIsLostModel" "taped") ∈ lw_all := lw_g (lw_at lw_m6 155 rfl) rfl
theorem q1442 : (Jvm.Cond.laysFinal "PointAtWhoIsLostModel" "PointAtWhoIsLostModel" "tape" "[I") ∈ lw_all := lw_g (lw_at lw_m6 156 rfl) rfl
theorem q1443 : (Jvm.Cond.soleField "PointAtWhoIsLostModel" "tape") ∈ lw_all := lw_g (lw_at lw_m6 157 rfl) rfl
theorem q1444 : (Jvm.Cond.lays "PointAtWhoIsLostModel" "PointAtWhoIsLostModel" "from" "I") ∈ lw_all := lw_g (lw_at lw_m6 158 rfl) rfl
theorem q1445 : (Jvm.Cond.soleField "PointAtWhoIsLostModel" "from") ∈ lw_all := lw_g (lw_at lw_m6 159 rfl) rfl
theorem q1446 : (Jvm.Cond.lays "PointAtWhoIsLostModel" "PointAtWhoIsLostModel" "to" "I") ∈ lw_all := lw_g (lw_at lw_m6 160 rfl) rfl
theorem q1447 : (Jvm.Cond.soleField "PointAtWhoIsLostModel" "to") ∈ lw_all := lw_g (lw_at lw_m6 161 rfl) rfl
theorem q1448 : (Jvm.Cond.lays "PointAtWhoIsLostModel" "PointAtWhoIsLostModel" "token" "I") ∈ lw_all := lw_g (lw_at lw_m6 162 rfl) rfl
theorem q1449 : (Jvm.Cond.soleField "PointAtWhoIsLostModel" "token") ∈ lw_all := lw_g (lw_at lw_m6 163 rfl) rfl
theorem q1450 : (Jvm.Cond.lays "PointAtWhoIsLostModel" "PointAtWhoIsLostModel" "value" "I") ∈ lw_all := lw_g (lw_at lw_m6 164 rfl) rfl
theorem q1451 : (Jvm.Cond.soleField "PointAtWhoIsLostModel" "value") ∈ lw_all := lw_g (lw_at lw_m6 165 rfl) rfl
theorem q1452 : (Jvm.Cond.laysFinal "PointAtWhoIsLostModel" "PointAtWhoIsLostModel" "holding" "[I") ∈ lw_all := lw_g (lw_at lw_m6 166 rfl) rfl
theorem q1453 : (Jvm.Cond.soleField "PointAtWhoIsLostModel" "holding") ∈ lw_all := lw_g (lw_at lw_m6 167 rfl) rfl
theorem q1454 : (Jvm.Cond.laysFinal "PointAtWhoIsLostModel" "PointAtWhoIsLostModel" "rowLength" "[I") ∈ lw_all := lw_g (lw_at lw_m6 168 rfl) rfl
theorem q1455 : (Jvm.Cond.soleField "PointAtWhoIsLostModel" "rowLength") ∈ lw_all := lw_g (lw_at lw_m6 169 rfl) rfl
theorem q1456 : (Jvm.Cond.laysFinal "PointAtWhoIsLostModel" "PointAtWhoIsLostModel" "rowOf" "[J") ∈ lw_all := lw_g (lw_at lw_m6 170 rfl) rfl
theorem q1457 : (Jvm.Cond.soleField "PointAtWhoIsLostModel" "rowOf") ∈ lw_all := lw_g (lw_at lw_m6 171 rfl) rfl
theorem q1458 : (Jvm.Cond.laysFinal "PointAtWhoIsLostModel" "PointAtWhoIsLostModel" "refusals" "[I") ∈ lw_all := lw_g (lw_at lw_m6 172 rfl) rfl
theorem q1459 : (Jvm.Cond.soleField "PointAtWhoIsLostModel" "refusals") ∈ lw_all := lw_g (lw_at lw_m6 173 rfl) rfl
theorem q1460 : (Jvm.Cond.lays "PointAtWhoIsLostModel" "PointAtWhoIsLostModel" "imaged" "Z") ∈ lw_all := lw_g (lw_at lw_m6 174 rfl) rfl
theorem q1461 : (Jvm.Cond.soleField "PointAtWhoIsLostModel" "imaged") ∈ lw_all := lw_g (lw_at lw_m6 175 rfl) rfl
theorem q1462 : (Jvm.Cond.laysFinal "PointAtWhoIsLostModel" "PointAtWhoIsLostModel" "old" "[I") ∈ lw_all := lw_g (lw_at lw_m6 176 rfl) rfl
theorem q1463 : (Jvm.Cond.soleField "PointAtWhoIsLostModel" "old") ∈ lw_all := lw_g (lw_at lw_m6 177 rfl) rfl
theorem q1464 : (Jvm.Cond.laysFinal "PointAtWhoIsLostModel" "PointAtWhoIsLostModel" "ahead" "[I") ∈ lw_all := lw_g (lw_at lw_m6 178 rfl) rfl
theorem q1465 : (Jvm.Cond.soleField "PointAtWhoIsLostModel" "ahead") ∈ lw_all := lw_g (lw_at lw_m6 179 rfl) rfl
theorem q1466 : (Jvm.Cond.lays "PointAtWhoIsLostModel" "PointAtWhoIsLostModel" "lost" "I") ∈ lw_all := lw_g (lw_at lw_m6 180 rfl) rfl
theorem q1467 : (Jvm.Cond.soleField "PointAtWhoIsLostModel" "lost") ∈ lw_all := lw_g (lw_at lw_m6 181 rfl) rfl
theorem q1468 : (Jvm.Cond.laysFinal "PointAtWhoIsLostModel" "PointAtWhoIsLostModel" "lostAt" "[I") ∈ lw_all := lw_g (lw_at lw_m6 182 rfl) rfl
theorem q1469 : (Jvm.Cond.soleField "PointAtWhoIsLostModel" "lostAt") ∈ lw_all := lw_g (lw_at lw_m6 183 rfl) rfl
theorem q1470 : (Jvm.Cond.laysFinal "PointAtWhoIsLostModel" "PointAtWhoIsLostModel" "far" "[I") ∈ lw_all := lw_g (lw_at lw_m6 184 rfl) rfl
theorem q1471 : (Jvm.Cond.soleField "PointAtWhoIsLostModel" "far") ∈ lw_all := lw_g (lw_at lw_m6 185 rfl) rfl
theorem q1472 : (Jvm.Cond.laysFinal "PointAtWhoIsLostModel" "PointAtWhoIsLostModel" "group" "[I") ∈ lw_all := lw_g (lw_at lw_m6 186 rfl) rfl
theorem q1473 : (Jvm.Cond.soleField "PointAtWhoIsLostModel" "group") ∈ lw_all := lw_g (lw_at lw_m6 187 rfl) rfl
theorem q1474 : (Jvm.Cond.superclass "PointAtWhoIsLostModel" "java/lang/Object") ∈ lw_all := lw_g (lw_at lw_m6 188 rfl) rfl
theorem q1476 : (Jvm.Cond.instanceMethod ({ cls := "PointAtWhoIsLostModel", name := "row", desc := "(III)I" } : Jvm.MethodName)) ∈ lw_all := lw_g (lw_at lw_m6 190 rfl) rfl
theorem q1477 : (Jvm.Cond.selects "PointAtWhoIsLostModel" ({ cls := "PointAtWhoIsLostModel", name := "row", desc := "(III)I" } : Jvm.MethodName) ({ cls := "PointAtWhoIsLostModel", name := "row", desc := "(III)I" } : Jvm.MethodName)) ∈ lw_all := lw_g (lw_at lw_m6 191 rfl) rfl
theorem q1478 : (Jvm.Cond.code ({ cls := "PointAtWhoIsLostModel", name := "row", desc := "(III)I" } : Jvm.MethodName) prog_16_method_10_code (5 : Nat) (Option.some Jvm.ClassFile.FieldType.int)) ∈ lw_all := lw_g (lw_at lw_m6 192 rfl) rfl
theorem q1479 : (Jvm.Cond.methodLink "PointAtWhoIsLostModel" (83 : Nat) ({ cls := "PointAtWhoIsLostModel", name := "isShelf", desc := "(I)Z" } : Jvm.MethodName)) ∈ lw_all := lw_g (lw_at lw_m6 193 rfl) rfl
theorem q1480 : (Jvm.Cond.static ({ cls := "PointAtWhoIsLostModel", name := "isShelf", desc := "(I)Z" } : Jvm.MethodName)) ∈ lw_all := lw_g (lw_at lw_m6 194 rfl) rfl
theorem q1481 : (Jvm.Cond.code ({ cls := "PointAtWhoIsLostModel", name := "isShelf", desc := "(I)Z" } : Jvm.MethodName) prog_16_method_8_code (1 : Nat) (Option.some Jvm.ClassFile.FieldType.boolean)) ∈ lw_all := lw_g (lw_at lw_m6 195 rfl) rfl
theorem q1482 : (Jvm.Cond.methodLink "PointAtWhoIsLostModel" (79 : Nat) ({ cls := "PointAtWhoIsLostModel", name := "within", desc := "(III)Z" } : Jvm.MethodName)) ∈ lw_all := lw_g (lw_at lw_m6 196 rfl) rfl
theorem q1483 : (Jvm.Cond.static ({ cls := "PointAtWhoIsLostModel", name := "within", desc := "(III)Z" } : Jvm.MethodName)) ∈ lw_all := lw_g (lw_at lw_m6 197 rfl) rfl
theorem q1484 : (Jvm.Cond.code ({ cls := "PointAtWhoIsLostModel", name := "within", desc := "(III)Z" } : Jvm.MethodName) prog_16_method_3_code (3 : Nat) (Option.some Jvm.ClassFile.FieldType.boolean)) ∈ lw_all := lw_g (lw_at lw_m6 198 rfl) rfl
theorem q1485 : (Jvm.Cond.methodLink "PointAtWhoIsLostModel" (87 : Nat) ({ cls := "PointAtWhoIsLostModel", name := "no", desc := "(I)I" } : Jvm.MethodName)) ∈ lw_all := lw_g (lw_at lw_m6 199 rfl) rfl
theorem q1486 : (Jvm.Cond.privateMethod ({ cls := "PointAtWhoIsLostModel", name := "no", desc := "(I)I" } : Jvm.MethodName)) ∈ lw_tbl := lw_at lw_m6 200 rfl
theorem q1487 : (Jvm.Cond.instanceMethod ({ cls := "PointAtWhoIsLostModel", name := "no", desc := "(I)I" } : Jvm.MethodName)) ∈ lw_all := lw_g (lw_at lw_m6 201 rfl) rfl
theorem q1488 : (Jvm.Cond.code ({ cls := "PointAtWhoIsLostModel", name := "no", desc := "(I)I" } : Jvm.MethodName) prog_16_method_2_code (2 : Nat) (Option.some Jvm.ClassFile.FieldType.int)) ∈ lw_all := lw_g (lw_at lw_m6 202 rfl) rfl
theorem q1490 : (Jvm.Cond.instanceMethod ({ cls := "PointAtWhoIsLostModel", name := "set", desc := "(IIJ)I" } : Jvm.MethodName)) ∈ lw_all := lw_g (lw_at lw_m6 204 rfl) rfl
theorem q1491 : (Jvm.Cond.selects "PointAtWhoIsLostModel" ({ cls := "PointAtWhoIsLostModel", name := "set", desc := "(IIJ)I" } : Jvm.MethodName) ({ cls := "PointAtWhoIsLostModel", name := "set", desc := "(IIJ)I" } : Jvm.MethodName)) ∈ lw_all := lw_g (lw_at lw_m6 205 rfl) rfl
theorem q1492 : (Jvm.Cond.code ({ cls := "PointAtWhoIsLostModel", name := "set", desc := "(IIJ)I" } : Jvm.MethodName) prog_16_method_13_code (5 : Nat) (Option.some Jvm.ClassFile.FieldType.int)) ∈ lw_all := lw_g (lw_at lw_m6 206 rfl) rfl
theorem q1493 : (Jvm.Cond.methodLink "PointAtWhoIsLostModel" (91 : Nat) ({ cls := "PointAtWhoIsLostModel", name := "isRow", desc := "(I)Z" } : Jvm.MethodName)) ∈ lw_all := lw_g (lw_at lw_m6 207 rfl) rfl
theorem q1494 : (Jvm.Cond.privateMethod ({ cls := "PointAtWhoIsLostModel", name := "isRow", desc := "(I)Z" } : Jvm.MethodName)) ∈ lw_tbl := lw_at lw_m6 208 rfl
theorem q1495 : (Jvm.Cond.instanceMethod ({ cls := "PointAtWhoIsLostModel", name := "isRow", desc := "(I)Z" } : Jvm.MethodName)) ∈ lw_all := lw_g (lw_at lw_m6 209 rfl) rfl
theorem q1496 : (Jvm.Cond.code ({ cls := "PointAtWhoIsLostModel", name := "isRow", desc := "(I)Z" } : Jvm.MethodName) prog_16_method_9_code (2 : Nat) (Option.some Jvm.ClassFile.FieldType.boolean)) ∈ lw_all := lw_g (lw_at lw_m6 210 rfl) rfl
theorem q1497 : (Jvm.Cond.methodLink "PointAtWhoIsLostModel" (94 : Nat) ({ cls := "PointAtWhoIsLostModel", name := "noRow", desc := "(I)I" } : Jvm.MethodName)) ∈ lw_all := lw_g (lw_at lw_m6 211 rfl) rfl
theorem q1498 : (Jvm.Cond.privateMethod ({ cls := "PointAtWhoIsLostModel", name := "noRow", desc := "(I)I" } : Jvm.MethodName)) ∈ lw_tbl := lw_at lw_m6 212 rfl
theorem q1499 : (Jvm.Cond.instanceMethod ({ cls := "PointAtWhoIsLostModel", name := "noRow", desc := "(I)I" } : Jvm.MethodName)) ∈ lw_all := lw_g (lw_at lw_m6 213 rfl) rfl
theorem q1500 : (Jvm.Cond.code ({ cls := "PointAtWhoIsLostModel", name := "noRow", desc := "(I)I" } : Jvm.MethodName) prog_16_method_11_code (2 : Nat) (Option.some Jvm.ClassFile.FieldType.int)) ∈ lw_all := lw_g (lw_at lw_m6 214 rfl) rfl
theorem q1501 : (Jvm.Cond.methodLink "PointAtWhoIsLostModel" (97 : Nat) ({ cls := "PointAtWhoIsLostModel", name := "kept", desc := "(IJ)J" } : Jvm.MethodName)) ∈ lw_all := lw_g (lw_at lw_m6 215 rfl) rfl
theorem q1502 : (Jvm.Cond.static ({ cls := "PointAtWhoIsLostModel", name := "kept", desc := "(IJ)J" } : Jvm.MethodName)) ∈ lw_all := lw_g (lw_at lw_m6 216 rfl) rfl
theorem q1503 : (Jvm.Cond.code ({ cls := "PointAtWhoIsLostModel", name := "kept", desc := "(IJ)J" } : Jvm.MethodName) prog_16_method_12_code (3 : Nat) (Option.some Jvm.ClassFile.FieldType.long)) ∈ lw_all := lw_g (lw_at lw_m6 217 rfl) rfl
theorem q1505 : (Jvm.Cond.instanceMethod ({ cls := "PointAtWhoIsLostModel", name := "copy", desc := "(IIIII)I" } : Jvm.MethodName)) ∈ lw_all := lw_g (lw_at lw_m6 219 rfl) rfl
theorem q1506 : (Jvm.Cond.selects "PointAtWhoIsLostModel" ({ cls := "PointAtWhoIsLostModel", name := "copy", desc := "(IIIII)I" } : Jvm.MethodName) ({ cls := "PointAtWhoIsLostModel", name := "copy", desc := "(IIIII)I" } : Jvm.MethodName)) ∈ lw_all := lw_g (lw_at lw_m6 220 rfl) rfl
theorem q1507 : (Jvm.Cond.code ({ cls := "PointAtWhoIsLostModel", name := "copy", desc := "(IIIII)I" } : Jvm.MethodName) prog_16_method_14_code (7 : Nat) (Option.some Jvm.ClassFile.FieldType.int)) ∈ lw_all := lw_g (lw_at lw_m6 221 rfl) rfl
theorem q1509 : (Jvm.Cond.instanceMethod ({ cls := "PointAtWhoIsLostModel", name := "element", desc := "(II)J" } : Jvm.MethodName)) ∈ lw_all := lw_g (lw_at lw_m6 223 rfl) rfl
theorem q1510 : (Jvm.Cond.selects "PointAtWhoIsLostModel" ({ cls := "PointAtWhoIsLostModel", name := "element", desc := "(II)J" } : Jvm.MethodName) ({ cls := "PointAtWhoIsLostModel", name := "element", desc := "(II)J" } : Jvm.MethodName)) ∈ lw_all := lw_g (lw_at lw_m6 224 rfl) rfl
theorem q1511 : (Jvm.Cond.code ({ cls := "PointAtWhoIsLostModel", name := "element", desc := "(II)J" } : Jvm.MethodName) prog_16_method_15_code (3 : Nat) (Option.some Jvm.ClassFile.FieldType.long)) ∈ lw_all := lw_g (lw_at lw_m6 225 rfl) rfl
theorem q1513 : (Jvm.Cond.instanceMethod ({ cls := "PointAtWhoIsLostModel", name := "holds", desc := "(I)I" } : Jvm.MethodName)) ∈ lw_all := lw_g (lw_at lw_m6 227 rfl) rfl
theorem q1514 : (Jvm.Cond.selects "PointAtWhoIsLostModel" ({ cls := "PointAtWhoIsLostModel", name := "holds", desc := "(I)I" } : Jvm.MethodName) ({ cls := "PointAtWhoIsLostModel", name := "holds", desc := "(I)I" } : Jvm.MethodName)) ∈ lw_all := lw_g (lw_at lw_m6 228 rfl) rfl
theorem q1515 : (Jvm.Cond.code ({ cls := "PointAtWhoIsLostModel", name := "holds", desc := "(I)I" } : Jvm.MethodName) prog_16_method_16_code (2 : Nat) (Option.some Jvm.ClassFile.FieldType.int)) ∈ lw_all := lw_g (lw_at lw_m6 229 rfl) rfl
theorem q1517 : (Jvm.Cond.instanceMethod ({ cls := "PointAtWhoIsLostModel", name := "show", desc := "(II)I" } : Jvm.MethodName)) ∈ lw_all := lw_g (lw_at lw_m6 231 rfl) rfl
theorem q1518 : (Jvm.Cond.selects "PointAtWhoIsLostModel" ({ cls := "PointAtWhoIsLostModel", name := "show", desc := "(II)I" } : Jvm.MethodName) ({ cls := "PointAtWhoIsLostModel", name := "show", desc := "(II)I" } : Jvm.MethodName)) ∈ lw_all := lw_g (lw_at lw_m6 232 rfl) rfl
theorem q1519 : (Jvm.Cond.code ({ cls := "PointAtWhoIsLostModel", name := "show", desc := "(II)I" } : Jvm.MethodName) prog_16_method_17_code (3 : Nat) (Option.some Jvm.ClassFile.FieldType.int)) ∈ lw_all := lw_g (lw_at lw_m6 233 rfl) rfl
theorem q1520 : (Jvm.Cond.methodLink "PointAtWhoIsLostModel" (101 : Nat) ({ cls := "PointAtWhoIsLostModel", name := "isPost", desc := "(J)Z" } : Jvm.MethodName)) ∈ lw_all := lw_g (lw_at lw_m6 234 rfl) rfl
theorem q1521 : (Jvm.Cond.privateMethod ({ cls := "PointAtWhoIsLostModel", name := "isPost", desc := "(J)Z" } : Jvm.MethodName)) ∈ lw_tbl := lw_at lw_m6 235 rfl
theorem q1522 : (Jvm.Cond.instanceMethod ({ cls := "PointAtWhoIsLostModel", name := "isPost", desc := "(J)Z" } : Jvm.MethodName)) ∈ lw_all := lw_g (lw_at lw_m6 236 rfl) rfl
theorem q1523 : (Jvm.Cond.code ({ cls := "PointAtWhoIsLostModel", name := "isPost", desc := "(J)Z" } : Jvm.MethodName) prog_16_method_6_code (3 : Nat) (Option.some Jvm.ClassFile.FieldType.boolean)) ∈ lw_all := lw_g (lw_at lw_m6 237 rfl) rfl
theorem q1525 : (Jvm.Cond.instanceMethod ({ cls := "PointAtWhoIsLostModel", name := "says", desc := "(II)I" } : Jvm.MethodName)) ∈ lw_all := lw_g (lw_at lw_m6 239 rfl) rfl
theorem q1526 : (Jvm.Cond.selects "PointAtWhoIsLostModel" ({ cls := "PointAtWhoIsLostModel", name := "says", desc := "(II)I" } : Jvm.MethodName) ({ cls := "PointAtWhoIsLostModel", name := "says", desc := "(II)I" } : Jvm.MethodName)) ∈ lw_all := lw_g (lw_at lw_m7 0 rfl) rfl
theorem q1527 : (Jvm.Cond.code ({ cls := "PointAtWhoIsLostModel", name := "says", desc := "(II)I" } : Jvm.MethodName) prog_16_method_19_code (4 : Nat) (Option.some Jvm.ClassFile.FieldType.int)) ∈ lw_all := lw_g (lw_at lw_m7 1 rfl) rfl
theorem q1528 : (Jvm.Cond.methodLink "PointAtWhoIsLostModel" (104 : Nat) ({ cls := "PointAtWhoIsLostModel", name := "isUnder", desc := "(II)Z" } : Jvm.MethodName)) ∈ lw_all := lw_g (lw_at lw_m7 2 rfl) rfl
theorem q1529 : (Jvm.Cond.static ({ cls := "PointAtWhoIsLostModel", name := "isUnder", desc := "(II)Z" } : Jvm.MethodName)) ∈ lw_all := lw_g (lw_at lw_m7 3 rfl) rfl
theorem q1530 : (Jvm.Cond.code ({ cls := "PointAtWhoIsLostModel", name := "isUnder", desc := "(II)Z" } : Jvm.MethodName) prog_16_method_18_code (2 : Nat) (Option.some Jvm.ClassFile.FieldType.boolean)) ∈ lw_all := lw_g (lw_at lw_m7 4 rfl) rfl
theorem q1531 : (Jvm.Cond.methodLink "PointAtWhoIsLostModel" (108 : Nat) ({ cls := "PointAtWhoIsLostModel", name := "asThingsAre", desc := "()V" } : Jvm.MethodName)) ∈ lw_all := lw_g (lw_at lw_m7 5 rfl) rfl
theorem q1532 : (Jvm.Cond.privateMethod ({ cls := "PointAtWhoIsLostModel", name := "asThingsAre", desc := "()V" } : Jvm.MethodName)) ∈ lw_tbl := lw_at lw_m7 6 rfl
theorem q1533 : (Jvm.Cond.instanceMethod ({ cls := "PointAtWhoIsLostModel", name := "asThingsAre", desc := "()V" } : Jvm.MethodName)) ∈ lw_all := lw_g (lw_at lw_m7 7 rfl) rfl
theorem q1534 : (Jvm.Cond.code ({ cls := "PointAtWhoIsLostModel", name := "asThingsAre", desc := "()V" } : Jvm.MethodName) prog_16_method_43_code (2 : Nat) (Option.none : Option Jvm.ClassFile.FieldType)) ∈ lw_all := lw_g (lw_at lw_m7 8 rfl) rfl
theorem q1535 : (Jvm.Cond.methodLink "PointAtWhoIsLostModel" (207 : Nat) ({ cls := "PointAtWhoIsLostModel", name := "isLost", desc := "(I)Z" } : Jvm.MethodName)) ∈ lw_all := lw_g (lw_at lw_m7 9 rfl) rfl
theorem q1536 : (Jvm.Cond.privateMethod ({ cls := "PointAtWhoIsLostModel", name := "isLost", desc := "(I)Z" } : Jvm.MethodName)) ∈ lw_tbl := lw_at lw_m7 10 rfl
theorem q1537 : (Jvm.Cond.instanceMethod ({ cls := "PointAtWhoIsLostModel", name := "isLost", desc := "(I)Z" } : Jvm.MethodName)) ∈ lw_all := lw_g (lw_at lw_m7 11 rfl) rfl
theorem q1538 : (Jvm.Cond.code ({ cls := "PointAtWhoIsLostModel", name := "isLost", desc := "(I)Z" } : Jvm.MethodName) prog_16_method_29_code (2 : Nat) (Option.some Jvm.ClassFile.FieldType.boolean)) ∈ lw_all := lw_g (lw_at lw_m7 12 rfl) rfl
theorem q1539 : (Jvm.Cond.methodLink "PointAtWhoIsLostModel" (111 : Nat) ({ cls := "PointAtWhoIsLostModel", name := "armOf", desc := "(I)I" } : Jvm.MethodName)) ∈ lw_all := lw_g (lw_at lw_m7 13 rfl) rfl
theorem q1540 : (Jvm.Cond.privateMethod ({ cls := "PointAtWhoIsLostModel", name := "armOf", desc := "(I)I" } : Jvm.MethodName)) ∈ lw_tbl := lw_at lw_m7 14 rfl
theorem q1541 : (Jvm.Cond.instanceMethod ({ cls := "PointAtWhoIsLostModel", name := "armOf", desc := "(I)I" } : Jvm.MethodName)) ∈ lw_all := lw_g (lw_at lw_m7 15 rfl) rfl
theorem q1542 : (Jvm.Cond.code ({ cls := "PointAtWhoIsLostModel", name := "armOf", desc := "(I)I" } : Jvm.MethodName) prog_16_method_50_code (2 : Nat) (Option.some Jvm.ClassFile.FieldType.int)) ∈ lw_all := lw_g (lw_at lw_m7 16 rfl) rfl
theorem q1543 : (Jvm.Cond.methodLink "PointAtWhoIsLostModel" (219 : Nat) ({ cls := "PointAtWhoIsLostModel", name := "keenArm", desc := "(I)I" } : Jvm.MethodName)) ∈ lw_all := lw_g (lw_at lw_m7 17 rfl) rfl
theorem q1544 : (Jvm.Cond.privateMethod ({ cls := "PointAtWhoIsLostModel", name := "keenArm", desc := "(I)I" } : Jvm.MethodName)) ∈ lw_tbl := lw_at lw_m7 18 rfl
theorem q1545 : (Jvm.Cond.instanceMethod ({ cls := "PointAtWhoIsLostModel", name := "keenArm", desc := "(I)I" } : Jvm.MethodName)) ∈ lw_all := lw_g (lw_at lw_m7 19 rfl) rfl
theorem q1546 : (Jvm.Cond.code ({ cls := "PointAtWhoIsLostModel", name := "keenArm", desc := "(I)I" } : Jvm.MethodName) prog_16_method_46_code (4 : Nat) (Option.some Jvm.ClassFile.FieldType.int)) ∈ lw_all := lw_g (lw_at lw_m7 20 rfl) rfl
theorem q1547 : (Jvm.Cond.methodLink "PointAtWhoIsLostModel" (210 : Nat) ({ cls := "PointAtWhoIsLostModel", name := "steps", desc := "(II)I" } : Jvm.MethodName)) ∈ lw_all := lw_g (lw_at lw_m7 21 rfl) rfl
theorem q1548 : (Jvm.Cond.static ({ cls := "PointAtWhoIsLostModel", name := "steps", desc := "(II)I" } : Jvm.MethodName)) ∈ lw_all := lw_g (lw_at lw_m7 22 rfl) rfl
theorem q1549 : (Jvm.Cond.code ({ cls := "PointAtWhoIsLostModel", name := "steps", desc := "(II)I" } : Jvm.MethodName) prog_16_method_42_code (2 : Nat) (Option.some Jvm.ClassFile.FieldType.int)) ∈ lw_all := lw_g (lw_at lw_m7 23 rfl) rfl
theorem q1550 : (Jvm.Cond.methodLink "PointAtWhoIsLostModel" (196 : Nat) ({ cls := "java/lang/Math", name := "abs", desc := "(I)I" } : Jvm.MethodName)) ∈ lw_all := lw_g (lw_at lw_m7 24 rfl) rfl
theorem q1551 : (Jvm.Cond.methodLink "PointAtWhoIsLostModel" (213 : Nat) ({ cls := "PointAtWhoIsLostModel", name := "wayTo", desc := "(II)I" } : Jvm.MethodName)) ∈ lw_all := lw_g (lw_at lw_m7 25 rfl) rfl
theorem q1552 : (Jvm.Cond.static ({ cls := "PointAtWhoIsLostModel", name := "wayTo", desc := "(II)I" } : Jvm.MethodName)) ∈ lw_all := lw_g (lw_at lw_m7 26 rfl) rfl
theorem q1553 : (Jvm.Cond.code ({ cls := "PointAtWhoIsLostModel", name := "wayTo", desc := "(II)I" } : Jvm.MethodName) prog_16_method_41_code (2 : Nat) (Option.some Jvm.ClassFile.FieldType.int)) ∈ lw_all := lw_g (lw_at lw_m7 27 rfl) rfl
theorem q1554 : (Jvm.Cond.methodLink "PointAtWhoIsLostModel" (201 : Nat) ({ cls := "PointAtWhoIsLostModel", name := "wayBy", desc := "(II)I" } : Jvm.MethodName)) ∈ lw_all := lw_g (lw_at lw_m7 28 rfl) rfl
theorem q1555 : (Jvm.Cond.static ({ cls := "PointAtWhoIsLostModel", name := "wayBy", desc := "(II)I" } : Jvm.MethodName)) ∈ lw_all := lw_g (lw_at lw_m7 29 rfl) rfl
theorem q1556 : (Jvm.Cond.code ({ cls := "PointAtWhoIsLostModel", name := "wayBy", desc := "(II)I" } : Jvm.MethodName) prog_16_method_40_code (4 : Nat) (Option.some Jvm.ClassFile.FieldType.int)) ∈ lw_all := lw_g (lw_at lw_m7 30 rfl) rfl
theorem q1557 : (Jvm.Cond.methodLink "PointAtWhoIsLostModel" (222 : Nat) ({ cls := "PointAtWhoIsLostModel", name := "lazyArm", desc := "(I)I" } : Jvm.MethodName)) ∈ lw_all := lw_g (lw_at lw_m7 31 rfl) rfl
theorem q1558 : (Jvm.Cond.privateMethod ({ cls := "PointAtWhoIsLostModel", name := "lazyArm", desc := "(I)I" } : Jvm.MethodName)) ∈ lw_tbl := lw_at lw_m7 32 rfl
theorem q1559 : (Jvm.Cond.instanceMethod ({ cls := "PointAtWhoIsLostModel", name := "lazyArm", desc := "(I)I" } : Jvm.MethodName)) ∈ lw_all := lw_g (lw_at lw_m7 33 rfl) rfl
theorem q1560 : (Jvm.Cond.code ({ cls := "PointAtWhoIsLostModel", name := "lazyArm", desc := "(I)I" } : Jvm.MethodName) prog_16_method_48_code (2 : Nat) (Option.some Jvm.ClassFile.FieldType.int)) ∈ lw_all := lw_g (lw_at lw_m7 34 rfl) rfl
theorem q1561 : (Jvm.Cond.methodLink "PointAtWhoIsLostModel" (216 : Nat) ({ cls := "PointAtWhoIsLostModel", name := "plainArm", desc := "(I)I" } : Jvm.MethodName)) ∈ lw_all := lw_g (lw_at lw_m7 35 rfl) rfl
theorem q1562 : (Jvm.Cond.privateMethod ({ cls := "PointAtWhoIsLostModel", name := "plainArm", desc := "(I)I" } : Jvm.MethodName)) ∈ lw_tbl := lw_at lw_m7 36 rfl
theorem q1563 : (Jvm.Cond.instanceMethod ({ cls := "PointAtWhoIsLostModel", name := "plainArm", desc := "(I)I" } : Jvm.MethodName)) ∈ lw_all := lw_g (lw_at lw_m7 37 rfl) rfl
theorem q1564 : (Jvm.Cond.code ({ cls := "PointAtWhoIsLostModel", name := "plainArm", desc := "(I)I" } : Jvm.MethodName) prog_16_method_47_code (2 : Nat) (Option.some Jvm.ClassFile.FieldType.int)) ∈ lw_all := lw_g (lw_at lw_m7 38 rfl) rfl
theorem q1565 : (Jvm.Cond.methodLink "PointAtWhoIsLostModel" (225 : Nat) ({ cls := "PointAtWhoIsLostModel", name := "turned", desc := "(II)I" } : Jvm.MethodName)) ∈ lw_all := lw_g (lw_at lw_m7 39 rfl) rfl
theorem q1566 : (Jvm.Cond.static ({ cls := "PointAtWhoIsLostModel", name := "turned", desc := "(II)I" } : Jvm.MethodName)) ∈ lw_all := lw_g (lw_at lw_m7 40 rfl) rfl
theorem q1567 : (Jvm.Cond.code ({ cls := "PointAtWhoIsLostModel", name := "turned", desc := "(II)I" } : Jvm.MethodName) prog_16_method_45_code (2 : Nat) (Option.some Jvm.ClassFile.FieldType.int)) ∈ lw_all := lw_g (lw_at lw_m7 41 rfl) rfl
theorem q1568 : (Jvm.Cond.methodLink "PointAtWhoIsLostModel" (228 : Nat) ({ cls := "PointAtWhoIsLostModel", name := "tornArm", desc := "(I)I" } : Jvm.MethodName)) ∈ lw_all := lw_g (lw_at lw_m7 42 rfl) rfl
theorem q1569 : (Jvm.Cond.privateMethod ({ cls := "PointAtWhoIsLostModel", name := "tornArm", desc := "(I)I" } : Jvm.MethodName)) ∈ lw_tbl := lw_at lw_m7 43 rfl
theorem q1570 : (Jvm.Cond.instanceMethod ({ cls := "PointAtWhoIsLostModel", name := "tornArm", desc := "(I)I" } : Jvm.MethodName)) ∈ lw_all := lw_g (lw_at lw_m7 44 rfl) rfl
theorem q1571 : (Jvm.Cond.code ({ cls := "PointAtWhoIsLostModel", name := "tornArm", desc := "(I)I" } : Jvm.MethodName) prog_16_method_49_code (5 : Nat) (Option.some Jvm.ClassFile.FieldType.int)) ∈ lw_all := lw_g (lw_at lw_m7 45 rfl) rfl
theorem q1573 : (Jvm.Cond.instanceMethod ({ cls := "PointAtWhoIsLostModel", name := "side", desc := "(I)I" } : Jvm.MethodName)) ∈ lw_all := lw_g (lw_at lw_m7 47 rfl) rfl
theorem q1574 : (Jvm.Cond.selects "PointAtWhoIsLostModel" ({ cls := "PointAtWhoIsLostModel", name := "side", desc := "(I)I" } : Jvm.MethodName) ({ cls := "PointAtWhoIsLostModel", name := "side", desc := "(I)I" } : Jvm.MethodName)) ∈ lw_all := lw_g (lw_at lw_m7 48 rfl) rfl
theorem q1575 : (Jvm.Cond.code ({ cls := "PointAtWhoIsLostModel", name := "side", desc := "(I)I" } : Jvm.MethodName) prog_16_method_20_code (3 : Nat) (Option.some Jvm.ClassFile.FieldType.int)) ∈ lw_all := lw_g (lw_at lw_m7 49 rfl) rfl
theorem q1577 : (Jvm.Cond.instanceMethod ({ cls := "PointAtWhoIsLostModel", name := "bog", desc := "(IZ)I" } : Jvm.MethodName)) ∈ lw_all := lw_g (lw_at lw_m7 51 rfl) rfl
theorem q1578 : (Jvm.Cond.selects "PointAtWhoIsLostModel" ({ cls := "PointAtWhoIsLostModel", name := "bog", desc := "(IZ)I" } : Jvm.MethodName) ({ cls := "PointAtWhoIsLostModel", name := "bog", desc := "(IZ)I" } : Jvm.MethodName)) ∈ lw_all := lw_g (lw_at lw_m7 52 rfl) rfl
theorem q1579 : (Jvm.Cond.code ({ cls := "PointAtWhoIsLostModel", name := "bog", desc := "(IZ)I" } : Jvm.MethodName) prog_16_method_22_code (4 : Nat) (Option.some Jvm.ClassFile.FieldType.int)) ∈ lw_all := lw_g (lw_at lw_m7 53 rfl) rfl
theorem q1580 : (Jvm.Cond.methodLink "PointAtWhoIsLostModel" (69 : Nat) ({ cls := "PointAtWhoIsLostModel", name := "isCell", desc := "(J)Z" } : Jvm.MethodName)) ∈ lw_all := lw_g (lw_at lw_m7 54 rfl) rfl
theorem q1581 : (Jvm.Cond.privateMethod ({ cls := "PointAtWhoIsLostModel", name := "isCell", desc := "(J)Z" } : Jvm.MethodName)) ∈ lw_tbl := lw_at lw_m7 55 rfl
theorem q1582 : (Jvm.Cond.instanceMethod ({ cls := "PointAtWhoIsLostModel", name := "isCell", desc := "(J)Z" } : Jvm.MethodName)) ∈ lw_all := lw_g (lw_at lw_m7 56 rfl) rfl
theorem q1583 : (Jvm.Cond.code ({ cls := "PointAtWhoIsLostModel", name := "isCell", desc := "(J)Z" } : Jvm.MethodName) prog_16_method_4_code (3 : Nat) (Option.some Jvm.ClassFile.FieldType.boolean)) ∈ lw_all := lw_g (lw_at lw_m7 57 rfl) rfl
theorem q1584 : (Jvm.Cond.constantLong "PointAtWhoIsLostModel" (67 : Nat) (10 : Int64)) ∈ lw_all := lw_g (lw_at lw_m7 58 rfl) rfl
theorem q1585 : (Jvm.Cond.methodLink "PointAtWhoIsLostModel" (117 : Nat) ({ cls := "PointAtWhoIsLostModel", name := "isWalkerAt", desc := "(I)Z" } : Jvm.MethodName)) ∈ lw_all := lw_g (lw_at lw_m7 59 rfl) rfl
theorem q1586 : (Jvm.Cond.privateMethod ({ cls := "PointAtWhoIsLostModel", name := "isWalkerAt", desc := "(I)Z" } : Jvm.MethodName)) ∈ lw_tbl := lw_at lw_m7 60 rfl
theorem q1587 : (Jvm.Cond.instanceMethod ({ cls := "PointAtWhoIsLostModel", name := "isWalkerAt", desc := "(I)Z" } : Jvm.MethodName)) ∈ lw_all := lw_g (lw_at lw_m7 61 rfl) rfl
theorem q1588 : (Jvm.Cond.code ({ cls := "PointAtWhoIsLostModel", name := "isWalkerAt", desc := "(I)Z" } : Jvm.MethodName) prog_16_method_21_code (3 : Nat) (Option.some Jvm.ClassFile.FieldType.boolean)) ∈ lw_all := lw_g (lw_at lw_m7 62 rfl) rfl
theorem q1590 : (Jvm.Cond.instanceMethod ({ cls := "PointAtWhoIsLostModel", name := "home", desc := "(I)I" } : Jvm.MethodName)) ∈ lw_all := lw_g (lw_at lw_m7 64 rfl) rfl
theorem q1591 : (Jvm.Cond.selects "PointAtWhoIsLostModel" ({ cls := "PointAtWhoIsLostModel", name := "home", desc := "(I)I" } : Jvm.MethodName) ({ cls := "PointAtWhoIsLostModel", name := "home", desc := "(I)I" } : Jvm.MethodName)) ∈ lw_all := lw_g (lw_at lw_m7 65 rfl) rfl
theorem q1592 : (Jvm.Cond.code ({ cls := "PointAtWhoIsLostModel", name := "home", desc := "(I)I" } : Jvm.MethodName) prog_16_method_23_code (3 : Nat) (Option.some Jvm.ClassFile.FieldType.int)) ∈ lw_all := lw_g (lw_at lw_m7 66 rfl) rfl
theorem q1594 : (Jvm.Cond.instanceMethod ({ cls := "PointAtWhoIsLostModel", name := "post", desc := "(III)I" } : Jvm.MethodName)) ∈ lw_all := lw_g (lw_at lw_m7 68 rfl) rfl
theorem q1595 : (Jvm.Cond.selects "PointAtWhoIsLostModel" ({ cls := "PointAtWhoIsLostModel", name := "post", desc := "(III)I" } : Jvm.MethodName) ({ cls := "PointAtWhoIsLostModel", name := "post", desc := "(III)I" } : Jvm.MethodName)) ∈ lw_all := lw_g (lw_at lw_m7 69 rfl) rfl
theorem q1596 : (Jvm.Cond.code ({ cls := "PointAtWhoIsLostModel", name := "post", desc := "(III)I" } : Jvm.MethodName) prog_16_method_25_code (4 : Nat) (Option.some Jvm.ClassFile.FieldType.int)) ∈ lw_all := lw_g (lw_at lw_m7 70 rfl) rfl
theorem q1597 : (Jvm.Cond.methodLink "PointAtWhoIsLostModel" (120 : Nat) ({ cls := "PointAtWhoIsLostModel", name := "newPost", desc := "(III)I" } : Jvm.MethodName)) ∈ lw_all := lw_g (lw_at lw_m7 71 rfl) rfl
theorem q1598 : (Jvm.Cond.privateMethod ({ cls := "PointAtWhoIsLostModel", name := "newPost", desc := "(III)I" } : Jvm.MethodName)) ∈ lw_tbl := lw_at lw_m7 72 rfl
theorem q1599 : (Jvm.Cond.instanceMethod ({ cls := "PointAtWhoIsLostModel", name := "newPost", desc := "(III)I" } : Jvm.MethodName)) ∈ lw_all := lw_g (lw_at lw_m7 73 rfl) rfl
theorem q1600 : (Jvm.Cond.code ({ cls := "PointAtWhoIsLostModel", name := "newPost", desc := "(III)I" } : Jvm.MethodName) prog_16_method_24_code (4 : Nat) (Option.some Jvm.ClassFile.FieldType.int)) ∈ lw_all := lw_g (lw_at lw_m7 74 rfl) rfl
theorem q1602 : (Jvm.Cond.instanceMethod ({ cls := "PointAtWhoIsLostModel", name := "walker", desc := "(II)I" } : Jvm.MethodName)) ∈ lw_all := lw_g (lw_at lw_m7 76 rfl) rfl
theorem q1603 : (Jvm.Cond.selects "PointAtWhoIsLostModel" ({ cls := "PointAtWhoIsLostModel", name := "walker", desc := "(II)I" } : Jvm.MethodName) ({ cls := "PointAtWhoIsLostModel", name := "walker", desc := "(II)I" } : Jvm.MethodName)) ∈ lw_all := lw_g (lw_at lw_m7 77 rfl) rfl
theorem q1604 : (Jvm.Cond.code ({ cls := "PointAtWhoIsLostModel", name := "walker", desc := "(II)I" } : Jvm.MethodName) prog_16_method_27_code (3 : Nat) (Option.some Jvm.ClassFile.FieldType.int)) ∈ lw_all := lw_g (lw_at lw_m7 78 rfl) rfl
theorem q1605 : (Jvm.Cond.methodLink "PointAtWhoIsLostModel" (124 : Nat) ({ cls := "PointAtWhoIsLostModel", name := "newWalker", desc := "(II)I" } : Jvm.MethodName)) ∈ lw_all := lw_g (lw_at lw_m7 79 rfl) rfl
theorem q1606 : (Jvm.Cond.privateMethod ({ cls := "PointAtWhoIsLostModel", name := "newWalker", desc := "(II)I" } : Jvm.MethodName)) ∈ lw_tbl := lw_at lw_m7 80 rfl
theorem q1607 : (Jvm.Cond.instanceMethod ({ cls := "PointAtWhoIsLostModel", name := "newWalker", desc := "(II)I" } : Jvm.MethodName)) ∈ lw_all := lw_g (lw_at lw_m7 81 rfl) rfl
theorem q1608 : (Jvm.Cond.code ({ cls := "PointAtWhoIsLostModel", name := "newWalker", desc := "(II)I" } : Jvm.MethodName) prog_16_method_26_code (3 : Nat) (Option.some Jvm.ClassFile.FieldType.int)) ∈ lw_all := lw_g (lw_at lw_m7 82 rfl) rfl
theorem q1610 : (Jvm.Cond.instanceMethod ({ cls := "PointAtWhoIsLostModel", name := "sure", desc := "(II)I" } : Jvm.MethodName)) ∈ lw_all := lw_g (lw_at lw_m7 84 rfl) rfl
theorem q1611 : (Jvm.Cond.selects "PointAtWhoIsLostModel" ({ cls := "PointAtWhoIsLostModel", name := "sure", desc := "(II)I" } : Jvm.MethodName) ({ cls := "PointAtWhoIsLostModel", name := "sure", desc := "(II)I" } : Jvm.MethodName)) ∈ lw_all := lw_g (lw_at lw_m7 85 rfl) rfl
theorem q1612 : (Jvm.Cond.code ({ cls := "PointAtWhoIsLostModel", name := "sure", desc := "(II)I" } : Jvm.MethodName) prog_16_method_28_code (4 : Nat) (Option.some Jvm.ClassFile.FieldType.int)) ∈ lw_all := lw_g (lw_at lw_m7 86 rfl) rfl
theorem q1613 : (Jvm.Cond.methodLink "PointAtWhoIsLostModel" (128 : Nat) ({ cls := "PointAtWhoIsLostModel", name := "isWalker", desc := "(I)Z" } : Jvm.MethodName)) ∈ lw_all := lw_g (lw_at lw_m7 87 rfl) rfl
theorem q1614 : (Jvm.Cond.privateMethod ({ cls := "PointAtWhoIsLostModel", name := "isWalker", desc := "(I)Z" } : Jvm.MethodName)) ∈ lw_tbl := lw_at lw_m7 88 rfl
theorem q1615 : (Jvm.Cond.instanceMethod ({ cls := "PointAtWhoIsLostModel", name := "isWalker", desc := "(I)Z" } : Jvm.MethodName)) ∈ lw_all := lw_g (lw_at lw_m7 89 rfl) rfl
theorem q1616 : (Jvm.Cond.code ({ cls := "PointAtWhoIsLostModel", name := "isWalker", desc := "(I)Z" } : Jvm.MethodName) prog_16_method_7_code (2 : Nat) (Option.some Jvm.ClassFile.FieldType.boolean)) ∈ lw_all := lw_g (lw_at lw_m7 90 rfl) rfl
theorem q1618 : (Jvm.Cond.instanceMethod ({ cls := "PointAtWhoIsLostModel", name := "feed", desc := "(I)I" } : Jvm.MethodName)) ∈ lw_all := lw_g (lw_at lw_m7 92 rfl) rfl
theorem q1619 : (Jvm.Cond.selects "PointAtWhoIsLostModel" ({ cls := "PointAtWhoIsLostModel", name := "feed", desc := "(I)I" } : Jvm.MethodName) ({ cls := "PointAtWhoIsLostModel", name := "feed", desc := "(I)I" } : Jvm.MethodName)) ∈ lw_all := lw_g (lw_at lw_m7 93 rfl) rfl
theorem q1620 : (Jvm.Cond.code ({ cls := "PointAtWhoIsLostModel", name := "feed", desc := "(I)I" } : Jvm.MethodName) prog_16_method_30_code (2 : Nat) (Option.some Jvm.ClassFile.FieldType.int)) ∈ lw_all := lw_g (lw_at lw_m7 94 rfl) rfl
theorem q1622 : (Jvm.Cond.instanceMethod ({ cls := "PointAtWhoIsLostModel", name := "wipe", desc := "()I" } : Jvm.MethodName)) ∈ lw_all := lw_g (lw_at lw_m7 96 rfl) rfl
theorem q1623 : (Jvm.Cond.selects "PointAtWhoIsLostModel" ({ cls := "PointAtWhoIsLostModel", name := "wipe", desc := "()I" } : Jvm.MethodName) ({ cls := "PointAtWhoIsLostModel", name := "wipe", desc := "()I" } : Jvm.MethodName)) ∈ lw_all := lw_g (lw_at lw_m7 97 rfl) rfl
theorem q1624 : (Jvm.Cond.code ({ cls := "PointAtWhoIsLostModel", name := "wipe", desc := "()I" } : Jvm.MethodName) prog_16_method_31_code (2 : Nat) (Option.some Jvm.ClassFile.FieldType.int)) ∈ lw_all := lw_g (lw_at lw_m7 98 rfl) rfl
theorem q1626 : (Jvm.Cond.instanceMethod ({ cls := "PointAtWhoIsLostModel", name := "fen", desc := "()I" } : Jvm.MethodName)) ∈ lw_all := lw_g (lw_at lw_m7 100 rfl) rfl
theorem q1627 : (Jvm.Cond.selects "PointAtWhoIsLostModel" ({ cls := "PointAtWhoIsLostModel", name := "fen", desc := "()I" } : Jvm.MethodName) ({ cls := "PointAtWhoIsLostModel", name := "fen", desc := "()I" } : Jvm.MethodName)) ∈ lw_all := lw_g (lw_at lw_m7 101 rfl) rfl
theorem q1628 : (Jvm.Cond.code ({ cls := "PointAtWhoIsLostModel", name := "fen", desc := "()I" } : Jvm.MethodName) prog_16_method_39_code (3 : Nat) (Option.some Jvm.ClassFile.FieldType.int)) ∈ lw_all := lw_g (lw_at lw_m7 102 rfl) rfl
theorem q1629 : (Jvm.Cond.methodLink "PointAtWhoIsLostModel" (185 : Nat) ({ cls := "PointAtWhoIsLostModel", name := "keep", desc := "([I)V" } : Jvm.MethodName)) ∈ lw_all := lw_g (lw_at lw_m7 103 rfl) rfl
theorem q1630 : (Jvm.Cond.privateMethod ({ cls := "PointAtWhoIsLostModel", name := "keep", desc := "([I)V" } : Jvm.MethodName)) ∈ lw_tbl := lw_at lw_m7 104 rfl
theorem q1631 : (Jvm.Cond.instanceMethod ({ cls := "PointAtWhoIsLostModel", name := "keep", desc := "([I)V" } : Jvm.MethodName)) ∈ lw_all := lw_g (lw_at lw_m7 105 rfl) rfl
theorem q1632 : (Jvm.Cond.code ({ cls := "PointAtWhoIsLostModel", name := "keep", desc := "([I)V" } : Jvm.MethodName) prog_16_method_109_code (3 : Nat) (Option.none : Option Jvm.ClassFile.FieldType)) ∈ lw_all := lw_g (lw_at lw_m7 106 rfl) rfl
theorem q1633 : (Jvm.Cond.methodLink "PointAtWhoIsLostModel" (162 : Nat) ({ cls := "PointAtWhoIsLostModel", name := "next", desc := "()V" } : Jvm.MethodName)) ∈ lw_all := lw_g (lw_at lw_m7 107 rfl) rfl
theorem q1634 : (Jvm.Cond.privateMethod ({ cls := "PointAtWhoIsLostModel", name := "next", desc := "()V" } : Jvm.MethodName)) ∈ lw_tbl := lw_at lw_m7 108 rfl
theorem q1635 : (Jvm.Cond.instanceMethod ({ cls := "PointAtWhoIsLostModel", name := "next", desc := "()V" } : Jvm.MethodName)) ∈ lw_all := lw_g (lw_at lw_m7 109 rfl) rfl
theorem q1636 : (Jvm.Cond.code ({ cls := "PointAtWhoIsLostModel", name := "next", desc := "()V" } : Jvm.MethodName) prog_16_method_34_code (2 : Nat) (Option.none : Option Jvm.ClassFile.FieldType)) ∈ lw_all := lw_g (lw_at lw_m7 110 rfl) rfl
theorem q1637 : (Jvm.Cond.methodLink "PointAtWhoIsLostModel" (143 : Nat) ({ cls := "PointAtWhoIsLostModel", name := "isLetter", desc := "(I)Z" } : Jvm.MethodName)) ∈ lw_all := lw_g (lw_at lw_m7 111 rfl) rfl
theorem q1638 : (Jvm.Cond.static ({ cls := "PointAtWhoIsLostModel", name := "isLetter", desc := "(I)Z" } : Jvm.MethodName)) ∈ lw_all := lw_g (lw_at lw_m7 112 rfl) rfl
theorem q1639 : (Jvm.Cond.code ({ cls := "PointAtWhoIsLostModel", name := "isLetter", desc := "(I)Z" } : Jvm.MethodName) prog_16_method_32_code (1 : Nat) (Option.some Jvm.ClassFile.FieldType.boolean)) ∈ lw_all := lw_g (lw_at lw_m7 113 rfl) rfl
theorem q1640 : (Jvm.Cond.methodLink "PointAtWhoIsLostModel" (146 : Nat) ({ cls := "PointAtWhoIsLostModel", name := "isDigit", desc := "(I)Z" } : Jvm.MethodName)) ∈ lw_all := lw_g (lw_at lw_m7 114 rfl) rfl
theorem q1641 : (Jvm.Cond.static ({ cls := "PointAtWhoIsLostModel", name := "isDigit", desc := "(I)Z" } : Jvm.MethodName)) ∈ lw_all := lw_g (lw_at lw_m7 115 rfl) rfl
theorem q1642 : (Jvm.Cond.code ({ cls := "PointAtWhoIsLostModel", name := "isDigit", desc := "(I)Z" } : Jvm.MethodName) prog_16_method_33_code (1 : Nat) (Option.some Jvm.ClassFile.FieldType.boolean)) ∈ lw_all := lw_g (lw_at lw_m7 116 rfl) rfl
theorem q1643 : (Jvm.Cond.methodLink "PointAtWhoIsLostModel" (189 : Nat) ({ cls := "PointAtWhoIsLostModel", name := "statement", desc := "()Z" } : Jvm.MethodName)) ∈ lw_all := lw_g (lw_at lw_m7 117 rfl) rfl
theorem q1644 : (Jvm.Cond.privateMethod ({ cls := "PointAtWhoIsLostModel", name := "statement", desc := "()Z" } : Jvm.MethodName)) ∈ lw_tbl := lw_at lw_m7 118 rfl
theorem q1645 : (Jvm.Cond.instanceMethod ({ cls := "PointAtWhoIsLostModel", name := "statement", desc := "()Z" } : Jvm.MethodName)) ∈ lw_all := lw_g (lw_at lw_m7 119 rfl) rfl
theorem q1646 : (Jvm.Cond.code ({ cls := "PointAtWhoIsLostModel", name := "statement", desc := "()Z" } : Jvm.MethodName) prog_16_method_38_code (4 : Nat) (Option.some Jvm.ClassFile.FieldType.boolean)) ∈ lw_all := lw_g (lw_at lw_m7 120 rfl) rfl
theorem q1647 : (Jvm.Cond.stringRef "PointAtWhoIsLostModel" (168 : Nat) "side") ∈ lw_tbl := lw_at lw_m7 121 rfl
theorem q1648 : (Jvm.Cond.methodLink "PointAtWhoIsLostModel" (170 : Nat) ({ cls := "PointAtWhoIsLostModel", name := "isWord", desc := "(Ljava/lang/String;)Z" } : Jvm.MethodName)) ∈ lw_all := lw_g (lw_at lw_m7 122 rfl) rfl
theorem q1649 : (Jvm.Cond.privateMethod ({ cls := "PointAtWhoIsLostModel", name := "isWord", desc := "(Ljava/lang/String;)Z" } : Jvm.MethodName)) ∈ lw_tbl := lw_at lw_m7 123 rfl
theorem q1650 : (Jvm.Cond.instanceMethod ({ cls := "PointAtWhoIsLostModel", name := "isWord", desc := "(Ljava/lang/String;)Z" } : Jvm.MethodName)) ∈ lw_all := lw_g (lw_at lw_m7 124 rfl) rfl
theorem q1651 : (Jvm.Cond.code ({ cls := "PointAtWhoIsLostModel", name := "isWord", desc := "(Ljava/lang/String;)Z" } : Jvm.MethodName) prog_16_method_35_code (3 : Nat) (Option.some Jvm.ClassFile.FieldType.boolean)) ∈ lw_all := lw_g (lw_at lw_m7 125 rfl) rfl
theorem q1652 : (Jvm.Cond.methodLink "PointAtWhoIsLostModel" (152 : Nat) ({ cls := "java/lang/String", name := "length", desc := "()I" } : Jvm.MethodName)) ∈ lw_all := lw_g (lw_at lw_m7 126 rfl) rfl
theorem q1660 : (Jvm.Cond.methodLink "PointAtWhoIsLostModel" (158 : Nat) ({ cls := "java/lang/String", name := "charAt", desc := "(I)C" } : Jvm.MethodName)) ∈ lw_all := lw_g (lw_at lw_m7 134 rfl) rfl
theorem q1671 : (Jvm.Cond.methodLink "PointAtWhoIsLostModel" (165 : Nat) ({ cls := "PointAtWhoIsLostModel", name := "number", desc := "(II)I" } : Jvm.MethodName)) ∈ lw_all := lw_g (lw_at lw_m7 145 rfl) rfl
theorem q1672 : (Jvm.Cond.privateMethod ({ cls := "PointAtWhoIsLostModel", name := "number", desc := "(II)I" } : Jvm.MethodName)) ∈ lw_tbl := lw_at lw_m7 146 rfl
theorem q1673 : (Jvm.Cond.instanceMethod ({ cls := "PointAtWhoIsLostModel", name := "number", desc := "(II)I" } : Jvm.MethodName)) ∈ lw_all := lw_g (lw_at lw_m7 147 rfl) rfl
theorem q1674 : (Jvm.Cond.code ({ cls := "PointAtWhoIsLostModel", name := "number", desc := "(II)I" } : Jvm.MethodName) prog_16_method_36_code (3 : Nat) (Option.some Jvm.ClassFile.FieldType.int)) ∈ lw_all := lw_g (lw_at lw_m7 148 rfl) rfl
theorem q1675 : (Jvm.Cond.stringRef "PointAtWhoIsLostModel" (174 : Nat) "post") ∈ lw_tbl := lw_at lw_m7 149 rfl
theorem q1676 : (Jvm.Cond.methodLink "PointAtWhoIsLostModel" (176 : Nat) ({ cls := "PointAtWhoIsLostModel", name := "place", desc := "()I" } : Jvm.MethodName)) ∈ lw_all := lw_g (lw_at lw_m7 150 rfl) rfl
theorem q1677 : (Jvm.Cond.privateMethod ({ cls := "PointAtWhoIsLostModel", name := "place", desc := "()I" } : Jvm.MethodName)) ∈ lw_tbl := lw_at lw_m7 151 rfl
theorem q1678 : (Jvm.Cond.instanceMethod ({ cls := "PointAtWhoIsLostModel", name := "place", desc := "()I" } : Jvm.MethodName)) ∈ lw_all := lw_g (lw_at lw_m7 152 rfl) rfl
theorem q1679 : (Jvm.Cond.code ({ cls := "PointAtWhoIsLostModel", name := "place", desc := "()I" } : Jvm.MethodName) prog_16_method_37_code (2 : Nat) (Option.some Jvm.ClassFile.FieldType.int)) ∈ lw_all := lw_g (lw_at lw_m7 153 rfl) rfl
theorem q1680 : (Jvm.Cond.stringRef "PointAtWhoIsLostModel" (178 : Nat) "walker") ∈ lw_tbl := lw_at lw_m7 154 rfl
theorem q1681 : (Jvm.Cond.stringRef "PointAtWhoIsLostModel" (180 : Nat) "bog") ∈ lw_tbl := lw_at lw_m7 155 rfl
theorem q1682 : (Jvm.Cond.stringRef "PointAtWhoIsLostModel" (182 : Nat) "dry") ∈ lw_tbl := lw_at lw_m7 156 rfl
theorem q1683 : (Jvm.Cond.stringRef "PointAtWhoIsLostModel" (184 : Nat) "home") ∈ lw_tbl := lw_at lw_m7 157 rfl
theorem q1684 : (Jvm.Cond.methodLink "PointAtWhoIsLostModel" (193 : Nat) ({ cls := "PointAtWhoIsLostModel", name := "again", desc := "([I)V" } : Jvm.MethodName)) ∈ lw_all := lw_g (lw_at lw_m7 158 rfl) rfl
theorem q1685 : (Jvm.Cond.privateMethod ({ cls := "PointAtWhoIsLostModel", name := "again", desc := "([I)V" } : Jvm.MethodName)) ∈ lw_tbl := lw_at lw_m7 159 rfl
theorem q1686 : (Jvm.Cond.instanceMethod ({ cls := "PointAtWhoIsLostModel", name := "again", desc := "([I)V" } : Jvm.MethodName)) ∈ lw_all := lw_g (lw_at lw_m7 160 rfl) rfl
theorem q1687 : (Jvm.Cond.code ({ cls := "PointAtWhoIsLostModel", name := "again", desc := "([I)V" } : Jvm.MethodName) prog_16_method_110_code (3 : Nat) (Option.none : Option Jvm.ClassFile.FieldType)) ∈ lw_all := lw_g (lw_at lw_m7 161 rfl) rfl
theorem q1689 : (Jvm.Cond.instanceMethod ({ cls := "PointAtWhoIsLostModel", name := "postOf", desc := "(II)I" } : Jvm.MethodName)) ∈ lw_all := lw_g (lw_at lw_m7 163 rfl) rfl
theorem q1690 : (Jvm.Cond.selects "PointAtWhoIsLostModel" ({ cls := "PointAtWhoIsLostModel", name := "postOf", desc := "(II)I" } : Jvm.MethodName) ({ cls := "PointAtWhoIsLostModel", name := "postOf", desc := "(II)I" } : Jvm.MethodName)) ∈ lw_all := lw_g (lw_at lw_m7 164 rfl) rfl
theorem q1691 : (Jvm.Cond.code ({ cls := "PointAtWhoIsLostModel", name := "postOf", desc := "(II)I" } : Jvm.MethodName) prog_16_method_52_code (3 : Nat) (Option.some Jvm.ClassFile.FieldType.int)) ∈ lw_all := lw_g (lw_at lw_m7 165 rfl) rfl
theorem q1693 : (Jvm.Cond.instanceMethod ({ cls := "PointAtWhoIsLostModel", name := "walkerOf", desc := "(II)I" } : Jvm.MethodName)) ∈ lw_all := lw_g (lw_at lw_m7 167 rfl) rfl
theorem q1694 : (Jvm.Cond.selects "PointAtWhoIsLostModel" ({ cls := "PointAtWhoIsLostModel", name := "walkerOf", desc := "(II)I" } : Jvm.MethodName) ({ cls := "PointAtWhoIsLostModel", name := "walkerOf", desc := "(II)I" } : Jvm.MethodName)) ∈ lw_all := lw_g (lw_at lw_m7 168 rfl) rfl
theorem q1695 : (Jvm.Cond.code ({ cls := "PointAtWhoIsLostModel", name := "walkerOf", desc := "(II)I" } : Jvm.MethodName) prog_16_method_53_code (3 : Nat) (Option.some Jvm.ClassFile.FieldType.int)) ∈ lw_all := lw_g (lw_at lw_m7 169 rfl) rfl
theorem q1696 : (Jvm.Cond.methodLink "PointAtWhoIsLostModel" (235 : Nat) ({ cls := "PointAtWhoIsLostModel", name := "pathOf", desc := "(II)I" } : Jvm.MethodName)) ∈ lw_all := lw_g (lw_at lw_m7 170 rfl) rfl
theorem q1697 : (Jvm.Cond.privateMethod ({ cls := "PointAtWhoIsLostModel", name := "pathOf", desc := "(II)I" } : Jvm.MethodName)) ∈ lw_tbl := lw_at lw_m7 171 rfl
theorem q1698 : (Jvm.Cond.instanceMethod ({ cls := "PointAtWhoIsLostModel", name := "pathOf", desc := "(II)I" } : Jvm.MethodName)) ∈ lw_all := lw_g (lw_at lw_m7 172 rfl) rfl
theorem q1699 : (Jvm.Cond.code ({ cls := "PointAtWhoIsLostModel", name := "pathOf", desc := "(II)I" } : Jvm.MethodName) prog_16_method_86_code (3 : Nat) (Option.some Jvm.ClassFile.FieldType.int)) ∈ lw_all := lw_g (lw_at lw_m7 173 rfl) rfl
theorem q1700 : (Jvm.Cond.methodLink "PointAtWhoIsLostModel" (303 : Nat) ({ cls := "PointAtWhoIsLostModel", name := "walks", desc := "(I)V" } : Jvm.MethodName)) ∈ lw_all := lw_g (lw_at lw_m7 174 rfl) rfl
theorem q1701 : (Jvm.Cond.privateMethod ({ cls := "PointAtWhoIsLostModel", name := "walks", desc := "(I)V" } : Jvm.MethodName)) ∈ lw_tbl := lw_at lw_m7 175 rfl
theorem q1702 : (Jvm.Cond.instanceMethod ({ cls := "PointAtWhoIsLostModel", name := "walks", desc := "(I)V" } : Jvm.MethodName)) ∈ lw_all := lw_g (lw_at lw_m7 176 rfl) rfl
theorem q1703 : (Jvm.Cond.code ({ cls := "PointAtWhoIsLostModel", name := "walks", desc := "(I)V" } : Jvm.MethodName) prog_16_method_85_code (6 : Nat) (Option.none : Option Jvm.ClassFile.FieldType)) ∈ lw_all := lw_g (lw_at lw_m7 177 rfl) rfl
theorem q1704 : (Jvm.Cond.methodLink "PointAtWhoIsLostModel" (300 : Nat) ({ cls := "PointAtWhoIsLostModel", name := "can", desc := "(II)Z" } : Jvm.MethodName)) ∈ lw_all := lw_g (lw_at lw_m7 178 rfl) rfl
theorem q1705 : (Jvm.Cond.privateMethod ({ cls := "PointAtWhoIsLostModel", name := "can", desc := "(II)Z" } : Jvm.MethodName)) ∈ lw_tbl := lw_at lw_m7 179 rfl
theorem q1706 : (Jvm.Cond.instanceMethod ({ cls := "PointAtWhoIsLostModel", name := "can", desc := "(II)Z" } : Jvm.MethodName)) ∈ lw_all := lw_g (lw_at lw_m7 180 rfl) rfl
theorem q1707 : (Jvm.Cond.code ({ cls := "PointAtWhoIsLostModel", name := "can", desc := "(II)Z" } : Jvm.MethodName) prog_16_method_84_code (3 : Nat) (Option.some Jvm.ClassFile.FieldType.boolean)) ∈ lw_all := lw_g (lw_at lw_m7 181 rfl) rfl
theorem q1708 : (Jvm.Cond.methodLink "PointAtWhoIsLostModel" (297 : Nat) ({ cls := "PointAtWhoIsLostModel", name := "beside", desc := "(II)I" } : Jvm.MethodName)) ∈ lw_all := lw_g (lw_at lw_m7 182 rfl) rfl
theorem q1709 : (Jvm.Cond.privateMethod ({ cls := "PointAtWhoIsLostModel", name := "beside", desc := "(II)I" } : Jvm.MethodName)) ∈ lw_tbl := lw_at lw_m7 183 rfl
theorem q1710 : (Jvm.Cond.instanceMethod ({ cls := "PointAtWhoIsLostModel", name := "beside", desc := "(II)I" } : Jvm.MethodName)) ∈ lw_all := lw_g (lw_at lw_m7 184 rfl) rfl
theorem q1711 : (Jvm.Cond.code ({ cls := "PointAtWhoIsLostModel", name := "beside", desc := "(II)I" } : Jvm.MethodName) prog_16_method_83_code (5 : Nat) (Option.some Jvm.ClassFile.FieldType.int)) ∈ lw_all := lw_g (lw_at lw_m7 185 rfl) rfl
theorem q1713 : (Jvm.Cond.instanceMethod ({ cls := "PointAtWhoIsLostModel", name := "isBog", desc := "(I)I" } : Jvm.MethodName)) ∈ lw_all := lw_g (lw_at lw_m7 187 rfl) rfl
theorem q1714 : (Jvm.Cond.selects "PointAtWhoIsLostModel" ({ cls := "PointAtWhoIsLostModel", name := "isBog", desc := "(I)I" } : Jvm.MethodName) ({ cls := "PointAtWhoIsLostModel", name := "isBog", desc := "(I)I" } : Jvm.MethodName)) ∈ lw_all := lw_g (lw_at lw_m7 188 rfl) rfl
theorem q1715 : (Jvm.Cond.code ({ cls := "PointAtWhoIsLostModel", name := "isBog", desc := "(I)I" } : Jvm.MethodName) prog_16_method_54_code (2 : Nat) (Option.some Jvm.ClassFile.FieldType.int)) ∈ lw_all := lw_g (lw_at lw_m7 189 rfl) rfl
theorem q1717 : (Jvm.Cond.instanceMethod ({ cls := "PointAtWhoIsLostModel", name := "way", desc := "(II)I" } : Jvm.MethodName)) ∈ lw_all := lw_g (lw_at lw_m7 191 rfl) rfl
theorem q1718 : (Jvm.Cond.selects "PointAtWhoIsLostModel" ({ cls := "PointAtWhoIsLostModel", name := "way", desc := "(II)I" } : Jvm.MethodName) ({ cls := "PointAtWhoIsLostModel", name := "way", desc := "(II)I" } : Jvm.MethodName)) ∈ lw_all := lw_g (lw_at lw_m7 192 rfl) rfl
theorem q1719 : (Jvm.Cond.code ({ cls := "PointAtWhoIsLostModel", name := "way", desc := "(II)I" } : Jvm.MethodName) prog_16_method_55_code (3 : Nat) (Option.some Jvm.ClassFile.FieldType.int)) ∈ lw_all := lw_g (lw_at lw_m7 193 rfl) rfl
theorem q1721 : (Jvm.Cond.instanceMethod ({ cls := "PointAtWhoIsLostModel", name := "arm", desc := "(II)I" } : Jvm.MethodName)) ∈ lw_all := lw_g (lw_at lw_m7 195 rfl) rfl
theorem q1722 : (Jvm.Cond.selects "PointAtWhoIsLostModel" ({ cls := "PointAtWhoIsLostModel", name := "arm", desc := "(II)I" } : Jvm.MethodName) ({ cls := "PointAtWhoIsLostModel", name := "arm", desc := "(II)I" } : Jvm.MethodName)) ∈ lw_all := lw_g (lw_at lw_m7 196 rfl) rfl
theorem q1723 : (Jvm.Cond.code ({ cls := "PointAtWhoIsLostModel", name := "arm", desc := "(II)I" } : Jvm.MethodName) prog_16_method_56_code (3 : Nat) (Option.some Jvm.ClassFile.FieldType.int)) ∈ lw_all := lw_g (lw_at lw_m7 197 rfl) rfl
theorem q1724 : (Jvm.Cond.methodLink "PointAtWhoIsLostModel" (238 : Nat) ({ cls := "PointAtWhoIsLostModel", name := "armFor", desc := "(II)I" } : Jvm.MethodName)) ∈ lw_all := lw_g (lw_at lw_m7 198 rfl) rfl
theorem q1725 : (Jvm.Cond.privateMethod ({ cls := "PointAtWhoIsLostModel", name := "armFor", desc := "(II)I" } : Jvm.MethodName)) ∈ lw_tbl := lw_at lw_m7 199 rfl
theorem q1726 : (Jvm.Cond.instanceMethod ({ cls := "PointAtWhoIsLostModel", name := "armFor", desc := "(II)I" } : Jvm.MethodName)) ∈ lw_all := lw_g (lw_at lw_m7 200 rfl) rfl
theorem q1727 : (Jvm.Cond.code ({ cls := "PointAtWhoIsLostModel", name := "armFor", desc := "(II)I" } : Jvm.MethodName) prog_16_method_51_code (3 : Nat) (Option.some Jvm.ClassFile.FieldType.int)) ∈ lw_all := lw_g (lw_at lw_m7 201 rfl) rfl
theorem q1728 : (Jvm.Cond.methodLink "PointAtWhoIsLostModel" (231 : Nat) ({ cls := "PointAtWhoIsLostModel", name := "one", desc := "(I)V" } : Jvm.MethodName)) ∈ lw_all := lw_g (lw_at lw_m7 202 rfl) rfl
theorem q1729 : (Jvm.Cond.privateMethod ({ cls := "PointAtWhoIsLostModel", name := "one", desc := "(I)V" } : Jvm.MethodName)) ∈ lw_tbl := lw_at lw_m7 203 rfl
theorem q1730 : (Jvm.Cond.instanceMethod ({ cls := "PointAtWhoIsLostModel", name := "one", desc := "(I)V" } : Jvm.MethodName)) ∈ lw_all := lw_g (lw_at lw_m7 204 rfl) rfl
theorem q1731 : (Jvm.Cond.code ({ cls := "PointAtWhoIsLostModel", name := "one", desc := "(I)V" } : Jvm.MethodName) prog_16_method_44_code (2 : Nat) (Option.none : Option Jvm.ClassFile.FieldType)) ∈ lw_all := lw_g (lw_at lw_m7 205 rfl) rfl
theorem q1733 : (Jvm.Cond.instanceMethod ({ cls := "PointAtWhoIsLostModel", name := "where", desc := "(III)I" } : Jvm.MethodName)) ∈ lw_all := lw_g (lw_at lw_m7 207 rfl) rfl
theorem q1734 : (Jvm.Cond.selects "PointAtWhoIsLostModel" ({ cls := "PointAtWhoIsLostModel", name := "where", desc := "(III)I" } : Jvm.MethodName) ({ cls := "PointAtWhoIsLostModel", name := "where", desc := "(III)I" } : Jvm.MethodName)) ∈ lw_all := lw_g (lw_at lw_m7 208 rfl) rfl
theorem q1735 : (Jvm.Cond.code ({ cls := "PointAtWhoIsLostModel", name := "where", desc := "(III)I" } : Jvm.MethodName) prog_16_method_62_code (8 : Nat) (Option.some Jvm.ClassFile.FieldType.int)) ∈ lw_all := lw_g (lw_at lw_m7 209 rfl) rfl
theorem q1736 : (Jvm.Cond.methodLink "PointAtWhoIsLostModel" (259 : Nat) ({ cls := "PointAtWhoIsLostModel", name := "noPairs", desc := "(II)I" } : Jvm.MethodName)) ∈ lw_all := lw_g (lw_at lw_m7 210 rfl) rfl
theorem q1737 : (Jvm.Cond.privateMethod ({ cls := "PointAtWhoIsLostModel", name := "noPairs", desc := "(II)I" } : Jvm.MethodName)) ∈ lw_tbl := lw_at lw_m7 211 rfl
theorem q1738 : (Jvm.Cond.instanceMethod ({ cls := "PointAtWhoIsLostModel", name := "noPairs", desc := "(II)I" } : Jvm.MethodName)) ∈ lw_all := lw_g (lw_at lw_m7 212 rfl) rfl
theorem q1739 : (Jvm.Cond.code ({ cls := "PointAtWhoIsLostModel", name := "noPairs", desc := "(II)I" } : Jvm.MethodName) prog_16_method_59_code (5 : Nat) (Option.some Jvm.ClassFile.FieldType.int)) ∈ lw_all := lw_g (lw_at lw_m7 213 rfl) rfl
theorem q1740 : (Jvm.Cond.methodLink "PointAtWhoIsLostModel" (241 : Nat) ({ cls := "PointAtWhoIsLostModel", name := "noTold", desc := "(II)I" } : Jvm.MethodName)) ∈ lw_all := lw_g (lw_at lw_m7 214 rfl) rfl
theorem q1741 : (Jvm.Cond.privateMethod ({ cls := "PointAtWhoIsLostModel", name := "noTold", desc := "(II)I" } : Jvm.MethodName)) ∈ lw_tbl := lw_at lw_m7 215 rfl
theorem q1742 : (Jvm.Cond.instanceMethod ({ cls := "PointAtWhoIsLostModel", name := "noTold", desc := "(II)I" } : Jvm.MethodName)) ∈ lw_all := lw_g (lw_at lw_m7 216 rfl) rfl
theorem q1743 : (Jvm.Cond.code ({ cls := "PointAtWhoIsLostModel", name := "noTold", desc := "(II)I" } : Jvm.MethodName) prog_16_method_57_code (3 : Nat) (Option.some Jvm.ClassFile.FieldType.int)) ∈ lw_all := lw_g (lw_at lw_m7 217 rfl) rfl
theorem q1744 : (Jvm.Cond.methodLink "PointAtWhoIsLostModel" (244 : Nat) ({ cls := "PointAtWhoIsLostModel", name := "toldAt", desc := "(II)J" } : Jvm.MethodName)) ∈ lw_all := lw_g (lw_at lw_m7 218 rfl) rfl
theorem q1745 : (Jvm.Cond.privateMethod ({ cls := "PointAtWhoIsLostModel", name := "toldAt", desc := "(II)J" } : Jvm.MethodName)) ∈ lw_tbl := lw_at lw_m7 219 rfl
theorem q1746 : (Jvm.Cond.instanceMethod ({ cls := "PointAtWhoIsLostModel", name := "toldAt", desc := "(II)J" } : Jvm.MethodName)) ∈ lw_all := lw_g (lw_at lw_m7 220 rfl) rfl
theorem q1747 : (Jvm.Cond.code ({ cls := "PointAtWhoIsLostModel", name := "toldAt", desc := "(II)J" } : Jvm.MethodName) prog_16_method_58_code (3 : Nat) (Option.some Jvm.ClassFile.FieldType.long)) ∈ lw_all := lw_g (lw_at lw_m7 221 rfl) rfl
theorem q1748 : (Jvm.Cond.constantLong "PointAtWhoIsLostModel" (248 : Nat) (-1 : Int64)) ∈ lw_all := lw_g (lw_at lw_m7 222 rfl) rfl
theorem q1749 : (Jvm.Cond.constantLong "PointAtWhoIsLostModel" (250 : Nat) (8 : Int64)) ∈ lw_all := lw_g (lw_at lw_m7 223 rfl) rfl
theorem q1750 : (Jvm.Cond.methodLink "PointAtWhoIsLostModel" (262 : Nat) ({ cls := "PointAtWhoIsLostModel", name := "fitting", desc := "(III)I" } : Jvm.MethodName)) ∈ lw_all := lw_g (lw_at lw_m7 224 rfl) rfl
theorem q1751 : (Jvm.Cond.privateMethod ({ cls := "PointAtWhoIsLostModel", name := "fitting", desc := "(III)I" } : Jvm.MethodName)) ∈ lw_tbl := lw_at lw_m7 225 rfl
theorem q1752 : (Jvm.Cond.instanceMethod ({ cls := "PointAtWhoIsLostModel", name := "fitting", desc := "(III)I" } : Jvm.MethodName)) ∈ lw_all := lw_g (lw_at lw_m7 226 rfl) rfl
theorem q1753 : (Jvm.Cond.code ({ cls := "PointAtWhoIsLostModel", name := "fitting", desc := "(III)I" } : Jvm.MethodName) prog_16_method_61_code (6 : Nat) (Option.some Jvm.ClassFile.FieldType.int)) ∈ lw_all := lw_g (lw_at lw_m7 227 rfl) rfl
theorem q1754 : (Jvm.Cond.methodLink "PointAtWhoIsLostModel" (255 : Nat) ({ cls := "PointAtWhoIsLostModel", name := "fits", desc := "(IIII)Z" } : Jvm.MethodName)) ∈ lw_all := lw_g (lw_at lw_m7 228 rfl) rfl
theorem q1755 : (Jvm.Cond.privateMethod ({ cls := "PointAtWhoIsLostModel", name := "fits", desc := "(IIII)Z" } : Jvm.MethodName)) ∈ lw_tbl := lw_at lw_m7 229 rfl
theorem q1756 : (Jvm.Cond.instanceMethod ({ cls := "PointAtWhoIsLostModel", name := "fits", desc := "(IIII)Z" } : Jvm.MethodName)) ∈ lw_all := lw_g (lw_at lw_m7 230 rfl) rfl
theorem q1757 : (Jvm.Cond.code ({ cls := "PointAtWhoIsLostModel", name := "fits", desc := "(IIII)Z" } : Jvm.MethodName) prog_16_method_60_code (6 : Nat) (Option.some Jvm.ClassFile.FieldType.boolean)) ∈ lw_all := lw_g (lw_at lw_m7 231 rfl) rfl
theorem q1758 : (Jvm.Cond.methodLink "PointAtWhoIsLostModel" (252 : Nat) ({ cls := "PointAtWhoIsLostModel", name := "isDry", desc := "(I)Z" } : Jvm.MethodName)) ∈ lw_all := lw_g (lw_at lw_m7 232 rfl) rfl
theorem q1759 : (Jvm.Cond.privateMethod ({ cls := "PointAtWhoIsLostModel", name := "isDry", desc := "(I)Z" } : Jvm.MethodName)) ∈ lw_tbl := lw_at lw_m7 233 rfl
theorem q1760 : (Jvm.Cond.instanceMethod ({ cls := "PointAtWhoIsLostModel", name := "isDry", desc := "(I)Z" } : Jvm.MethodName)) ∈ lw_all := lw_g (lw_at lw_m7 234 rfl) rfl
theorem q1761 : (Jvm.Cond.code ({ cls := "PointAtWhoIsLostModel", name := "isDry", desc := "(I)Z" } : Jvm.MethodName) prog_16_method_5_code (2 : Nat) (Option.some Jvm.ClassFile.FieldType.boolean)) ∈ lw_all := lw_g (lw_at lw_m7 235 rfl) rfl
theorem q1763 : (Jvm.Cond.instanceMethod ({ cls := "PointAtWhoIsLostModel", name := "of", desc := "(III)I" } : Jvm.MethodName)) ∈ lw_all := lw_g (lw_at lw_m7 237 rfl) rfl
theorem q1764 : (Jvm.Cond.selects "PointAtWhoIsLostModel" ({ cls := "PointAtWhoIsLostModel", name := "of", desc := "(III)I" } : Jvm.MethodName) ({ cls := "PointAtWhoIsLostModel", name := "of", desc := "(III)I" } : Jvm.MethodName)) ∈ lw_all := lw_g (lw_at lw_m7 238 rfl) rfl
theorem q1765 : (Jvm.Cond.code ({ cls := "PointAtWhoIsLostModel", name := "of", desc := "(III)I" } : Jvm.MethodName) prog_16_method_66_code (5 : Nat) (Option.some Jvm.ClassFile.FieldType.int)) ∈ lw_all := lw_g (lw_at lw_m7 239 rfl) rfl
theorem q1766 : (Jvm.Cond.methodLink "PointAtWhoIsLostModel" (271 : Nat) ({ cls := "PointAtWhoIsLostModel", name := "asked", desc := "(II)I" } : Jvm.MethodName)) ∈ lw_all := lw_g (lw_at lw_m8 0 rfl) rfl
theorem q1767 : (Jvm.Cond.privateMethod ({ cls := "PointAtWhoIsLostModel", name := "asked", desc := "(II)I" } : Jvm.MethodName)) ∈ lw_tbl := lw_at lw_m8 1 rfl
theorem q1768 : (Jvm.Cond.instanceMethod ({ cls := "PointAtWhoIsLostModel", name := "asked", desc := "(II)I" } : Jvm.MethodName)) ∈ lw_all := lw_g (lw_at lw_m8 2 rfl) rfl
theorem q1769 : (Jvm.Cond.code ({ cls := "PointAtWhoIsLostModel", name := "asked", desc := "(II)I" } : Jvm.MethodName) prog_16_method_64_code (7 : Nat) (Option.some Jvm.ClassFile.FieldType.int)) ∈ lw_all := lw_g (lw_at lw_m8 3 rfl) rfl
theorem q1770 : (Jvm.Cond.methodLink "PointAtWhoIsLostModel" (268 : Nat) ({ cls := "PointAtWhoIsLostModel", name := "worstOf", desc := "(III)I" } : Jvm.MethodName)) ∈ lw_all := lw_g (lw_at lw_m8 4 rfl) rfl
theorem q1771 : (Jvm.Cond.privateMethod ({ cls := "PointAtWhoIsLostModel", name := "worstOf", desc := "(III)I" } : Jvm.MethodName)) ∈ lw_tbl := lw_at lw_m8 5 rfl
theorem q1772 : (Jvm.Cond.instanceMethod ({ cls := "PointAtWhoIsLostModel", name := "worstOf", desc := "(III)I" } : Jvm.MethodName)) ∈ lw_all := lw_g (lw_at lw_m8 6 rfl) rfl
theorem q1773 : (Jvm.Cond.code ({ cls := "PointAtWhoIsLostModel", name := "worstOf", desc := "(III)I" } : Jvm.MethodName) prog_16_method_63_code (8 : Nat) (Option.some Jvm.ClassFile.FieldType.int)) ∈ lw_all := lw_g (lw_at lw_m8 7 rfl) rfl
theorem q1774 : (Jvm.Cond.methodLink "PointAtWhoIsLostModel" (265 : Nat) ({ cls := "java/lang/Math", name := "max", desc := "(II)I" } : Jvm.MethodName)) ∈ lw_all := lw_g (lw_at lw_m8 8 rfl) rfl
theorem q1775 : (Jvm.Cond.methodLink "PointAtWhoIsLostModel" (274 : Nat) ({ cls := "PointAtWhoIsLostModel", name := "liar", desc := "(II)I" } : Jvm.MethodName)) ∈ lw_all := lw_g (lw_at lw_m8 9 rfl) rfl
theorem q1776 : (Jvm.Cond.privateMethod ({ cls := "PointAtWhoIsLostModel", name := "liar", desc := "(II)I" } : Jvm.MethodName)) ∈ lw_tbl := lw_at lw_m8 10 rfl
theorem q1777 : (Jvm.Cond.instanceMethod ({ cls := "PointAtWhoIsLostModel", name := "liar", desc := "(II)I" } : Jvm.MethodName)) ∈ lw_all := lw_g (lw_at lw_m8 11 rfl) rfl
theorem q1778 : (Jvm.Cond.code ({ cls := "PointAtWhoIsLostModel", name := "liar", desc := "(II)I" } : Jvm.MethodName) prog_16_method_65_code (7 : Nat) (Option.some Jvm.ClassFile.FieldType.int)) ∈ lw_all := lw_g (lw_at lw_m8 12 rfl) rfl
theorem q1780 : (Jvm.Cond.instanceMethod ({ cls := "PointAtWhoIsLostModel", name := "kinds", desc := "(II)I" } : Jvm.MethodName)) ∈ lw_all := lw_g (lw_at lw_m8 14 rfl) rfl
theorem q1781 : (Jvm.Cond.selects "PointAtWhoIsLostModel" ({ cls := "PointAtWhoIsLostModel", name := "kinds", desc := "(II)I" } : Jvm.MethodName) ({ cls := "PointAtWhoIsLostModel", name := "kinds", desc := "(II)I" } : Jvm.MethodName)) ∈ lw_all := lw_g (lw_at lw_m8 15 rfl) rfl
theorem q1782 : (Jvm.Cond.code ({ cls := "PointAtWhoIsLostModel", name := "kinds", desc := "(II)I" } : Jvm.MethodName) prog_16_method_67_code (6 : Nat) (Option.some Jvm.ClassFile.FieldType.int)) ∈ lw_all := lw_g (lw_at lw_m8 16 rfl) rfl
theorem q1784 : (Jvm.Cond.instanceMethod ({ cls := "PointAtWhoIsLostModel", name := "apart", desc := "(I)I" } : Jvm.MethodName)) ∈ lw_all := lw_g (lw_at lw_m8 18 rfl) rfl
theorem q1785 : (Jvm.Cond.selects "PointAtWhoIsLostModel" ({ cls := "PointAtWhoIsLostModel", name := "apart", desc := "(I)I" } : Jvm.MethodName) ({ cls := "PointAtWhoIsLostModel", name := "apart", desc := "(I)I" } : Jvm.MethodName)) ∈ lw_all := lw_g (lw_at lw_m8 19 rfl) rfl
theorem q1786 : (Jvm.Cond.code ({ cls := "PointAtWhoIsLostModel", name := "apart", desc := "(I)I" } : Jvm.MethodName) prog_16_method_73_code (5 : Nat) (Option.some Jvm.ClassFile.FieldType.int)) ∈ lw_all := lw_g (lw_at lw_m8 20 rfl) rfl
theorem q1787 : (Jvm.Cond.methodLink "PointAtWhoIsLostModel" (280 : Nat) ({ cls := "PointAtWhoIsLostModel", name := "blind", desc := "()I" } : Jvm.MethodName)) ∈ lw_all := lw_g (lw_at lw_m8 21 rfl) rfl
theorem q1788 : (Jvm.Cond.privateMethod ({ cls := "PointAtWhoIsLostModel", name := "blind", desc := "()I" } : Jvm.MethodName)) ∈ lw_tbl := lw_at lw_m8 22 rfl
theorem q1789 : (Jvm.Cond.instanceMethod ({ cls := "PointAtWhoIsLostModel", name := "blind", desc := "()I" } : Jvm.MethodName)) ∈ lw_all := lw_g (lw_at lw_m8 23 rfl) rfl
theorem q1790 : (Jvm.Cond.code ({ cls := "PointAtWhoIsLostModel", name := "blind", desc := "()I" } : Jvm.MethodName) prog_16_method_72_code (5 : Nat) (Option.some Jvm.ClassFile.FieldType.int)) ∈ lw_all := lw_g (lw_at lw_m8 24 rfl) rfl
theorem q1791 : (Jvm.Cond.methodLink "PointAtWhoIsLostModel" (283 : Nat) ({ cls := "PointAtWhoIsLostModel", name := "allPosts", desc := "()I" } : Jvm.MethodName)) ∈ lw_all := lw_g (lw_at lw_m8 25 rfl) rfl
theorem q1792 : (Jvm.Cond.privateMethod ({ cls := "PointAtWhoIsLostModel", name := "allPosts", desc := "()I" } : Jvm.MethodName)) ∈ lw_tbl := lw_at lw_m8 26 rfl
theorem q1793 : (Jvm.Cond.instanceMethod ({ cls := "PointAtWhoIsLostModel", name := "allPosts", desc := "()I" } : Jvm.MethodName)) ∈ lw_all := lw_g (lw_at lw_m8 27 rfl) rfl
theorem q1794 : (Jvm.Cond.code ({ cls := "PointAtWhoIsLostModel", name := "allPosts", desc := "()I" } : Jvm.MethodName) prog_16_method_70_code (1 : Nat) (Option.some Jvm.ClassFile.FieldType.int)) ∈ lw_all := lw_g (lw_at lw_m8 28 rfl) rfl
theorem q1795 : (Jvm.Cond.methodLink "PointAtWhoIsLostModel" (286 : Nat) ({ cls := "PointAtWhoIsLostModel", name := "groups", desc := "(I)I" } : Jvm.MethodName)) ∈ lw_all := lw_g (lw_at lw_m8 29 rfl) rfl
theorem q1796 : (Jvm.Cond.privateMethod ({ cls := "PointAtWhoIsLostModel", name := "groups", desc := "(I)I" } : Jvm.MethodName)) ∈ lw_tbl := lw_at lw_m8 30 rfl
theorem q1797 : (Jvm.Cond.instanceMethod ({ cls := "PointAtWhoIsLostModel", name := "groups", desc := "(I)I" } : Jvm.MethodName)) ∈ lw_all := lw_g (lw_at lw_m8 31 rfl) rfl
theorem q1798 : (Jvm.Cond.code ({ cls := "PointAtWhoIsLostModel", name := "groups", desc := "(I)I" } : Jvm.MethodName) prog_16_method_69_code (5 : Nat) (Option.some Jvm.ClassFile.FieldType.int)) ∈ lw_all := lw_g (lw_at lw_m8 32 rfl) rfl
theorem q1799 : (Jvm.Cond.methodLink "PointAtWhoIsLostModel" (277 : Nat) ({ cls := "PointAtWhoIsLostModel", name := "isAlike", desc := "(III)Z" } : Jvm.MethodName)) ∈ lw_all := lw_g (lw_at lw_m8 33 rfl) rfl
theorem q1800 : (Jvm.Cond.privateMethod ({ cls := "PointAtWhoIsLostModel", name := "isAlike", desc := "(III)Z" } : Jvm.MethodName)) ∈ lw_tbl := lw_at lw_m8 34 rfl
theorem q1801 : (Jvm.Cond.instanceMethod ({ cls := "PointAtWhoIsLostModel", name := "isAlike", desc := "(III)Z" } : Jvm.MethodName)) ∈ lw_all := lw_g (lw_at lw_m8 35 rfl) rfl
theorem q1802 : (Jvm.Cond.code ({ cls := "PointAtWhoIsLostModel", name := "isAlike", desc := "(III)Z" } : Jvm.MethodName) prog_16_method_68_code (5 : Nat) (Option.some Jvm.ClassFile.FieldType.boolean)) ∈ lw_all := lw_g (lw_at lw_m8 36 rfl) rfl
theorem q1803 : (Jvm.Cond.methodLink "PointAtWhoIsLostModel" (289 : Nat) ({ cls := "PointAtWhoIsLostModel", name := "sizeOf", desc := "(I)I" } : Jvm.MethodName)) ∈ lw_all := lw_g (lw_at lw_m8 37 rfl) rfl
theorem q1804 : (Jvm.Cond.privateMethod ({ cls := "PointAtWhoIsLostModel", name := "sizeOf", desc := "(I)I" } : Jvm.MethodName)) ∈ lw_tbl := lw_at lw_m8 38 rfl
theorem q1805 : (Jvm.Cond.instanceMethod ({ cls := "PointAtWhoIsLostModel", name := "sizeOf", desc := "(I)I" } : Jvm.MethodName)) ∈ lw_all := lw_g (lw_at lw_m8 39 rfl) rfl
theorem q1806 : (Jvm.Cond.code ({ cls := "PointAtWhoIsLostModel", name := "sizeOf", desc := "(I)I" } : Jvm.MethodName) prog_16_method_71_code (4 : Nat) (Option.some Jvm.ClassFile.FieldType.int)) ∈ lw_all := lw_g (lw_at lw_m8 40 rfl) rfl
theorem q1808 : (Jvm.Cond.instanceMethod ({ cls := "PointAtWhoIsLostModel", name := "fewest", desc := "(I)I" } : Jvm.MethodName)) ∈ lw_all := lw_g (lw_at lw_m8 42 rfl) rfl
theorem q1809 : (Jvm.Cond.selects "PointAtWhoIsLostModel" ({ cls := "PointAtWhoIsLostModel", name := "fewest", desc := "(I)I" } : Jvm.MethodName) ({ cls := "PointAtWhoIsLostModel", name := "fewest", desc := "(I)I" } : Jvm.MethodName)) ∈ lw_all := lw_g (lw_at lw_m8 43 rfl) rfl
theorem q1810 : (Jvm.Cond.code ({ cls := "PointAtWhoIsLostModel", name := "fewest", desc := "(I)I" } : Jvm.MethodName) prog_16_method_74_code (7 : Nat) (Option.some Jvm.ClassFile.FieldType.int)) ∈ lw_all := lw_g (lw_at lw_m8 44 rfl) rfl
theorem q1811 : (Jvm.Cond.methodLink "PointAtWhoIsLostModel" (292 : Nat) ({ cls := "java/lang/Integer", name := "bitCount", desc := "(I)I" } : Jvm.MethodName)) ∈ lw_all := lw_g (lw_at lw_m8 45 rfl) rfl
theorem q1813 : (Jvm.Cond.instanceMethod ({ cls := "PointAtWhoIsLostModel", name := "more", desc := "()I" } : Jvm.MethodName)) ∈ lw_all := lw_g (lw_at lw_m8 47 rfl) rfl
theorem q1814 : (Jvm.Cond.selects "PointAtWhoIsLostModel" ({ cls := "PointAtWhoIsLostModel", name := "more", desc := "()I" } : Jvm.MethodName) ({ cls := "PointAtWhoIsLostModel", name := "more", desc := "()I" } : Jvm.MethodName)) ∈ lw_all := lw_g (lw_at lw_m8 48 rfl) rfl
theorem q1815 : (Jvm.Cond.code ({ cls := "PointAtWhoIsLostModel", name := "more", desc := "()I" } : Jvm.MethodName) prog_16_method_75_code (5 : Nat) (Option.some Jvm.ClassFile.FieldType.int)) ∈ lw_all := lw_g (lw_at lw_m8 49 rfl) rfl
theorem q1817 : (Jvm.Cond.instanceMethod ({ cls := "PointAtWhoIsLostModel", name := "armed", desc := "(II)I" } : Jvm.MethodName)) ∈ lw_all := lw_g (lw_at lw_m8 51 rfl) rfl
theorem q1818 : (Jvm.Cond.selects "PointAtWhoIsLostModel" ({ cls := "PointAtWhoIsLostModel", name := "armed", desc := "(II)I" } : Jvm.MethodName) ({ cls := "PointAtWhoIsLostModel", name := "armed", desc := "(II)I" } : Jvm.MethodName)) ∈ lw_all := lw_g (lw_at lw_m8 52 rfl) rfl
theorem q1819 : (Jvm.Cond.code ({ cls := "PointAtWhoIsLostModel", name := "armed", desc := "(II)I" } : Jvm.MethodName) prog_16_method_76_code (5 : Nat) (Option.some Jvm.ClassFile.FieldType.int)) ∈ lw_all := lw_g (lw_at lw_m8 53 rfl) rfl
theorem q1821 : (Jvm.Cond.instanceMethod ({ cls := "PointAtWhoIsLostModel", name := "alike", desc := "(I)I" } : Jvm.MethodName)) ∈ lw_all := lw_g (lw_at lw_m8 55 rfl) rfl
theorem q1822 : (Jvm.Cond.selects "PointAtWhoIsLostModel" ({ cls := "PointAtWhoIsLostModel", name := "alike", desc := "(I)I" } : Jvm.MethodName) ({ cls := "PointAtWhoIsLostModel", name := "alike", desc := "(I)I" } : Jvm.MethodName)) ∈ lw_all := lw_g (lw_at lw_m8 56 rfl) rfl
theorem q1823 : (Jvm.Cond.code ({ cls := "PointAtWhoIsLostModel", name := "alike", desc := "(I)I" } : Jvm.MethodName) prog_16_method_77_code (2 : Nat) (Option.some Jvm.ClassFile.FieldType.int)) ∈ lw_all := lw_g (lw_at lw_m8 57 rfl) rfl
theorem q1825 : (Jvm.Cond.instanceMethod ({ cls := "PointAtWhoIsLostModel", name := "right", desc := "(I)I" } : Jvm.MethodName)) ∈ lw_all := lw_g (lw_at lw_m8 59 rfl) rfl
theorem q1826 : (Jvm.Cond.selects "PointAtWhoIsLostModel" ({ cls := "PointAtWhoIsLostModel", name := "right", desc := "(I)I" } : Jvm.MethodName) ({ cls := "PointAtWhoIsLostModel", name := "right", desc := "(I)I" } : Jvm.MethodName)) ∈ lw_all := lw_g (lw_at lw_m8 60 rfl) rfl
theorem q1827 : (Jvm.Cond.code ({ cls := "PointAtWhoIsLostModel", name := "right", desc := "(I)I" } : Jvm.MethodName) prog_16_method_78_code (4 : Nat) (Option.some Jvm.ClassFile.FieldType.int)) ∈ lw_all := lw_g (lw_at lw_m8 61 rfl) rfl
theorem q1829 : (Jvm.Cond.instanceMethod ({ cls := "PointAtWhoIsLostModel", name := "pointing", desc := "(I)I" } : Jvm.MethodName)) ∈ lw_all := lw_g (lw_at lw_m8 63 rfl) rfl
theorem q1830 : (Jvm.Cond.selects "PointAtWhoIsLostModel" ({ cls := "PointAtWhoIsLostModel", name := "pointing", desc := "(I)I" } : Jvm.MethodName) ({ cls := "PointAtWhoIsLostModel", name := "pointing", desc := "(I)I" } : Jvm.MethodName)) ∈ lw_all := lw_g (lw_at lw_m8 64 rfl) rfl
theorem q1831 : (Jvm.Cond.code ({ cls := "PointAtWhoIsLostModel", name := "pointing", desc := "(I)I" } : Jvm.MethodName) prog_16_method_79_code (4 : Nat) (Option.some Jvm.ClassFile.FieldType.int)) ∈ lw_all := lw_g (lw_at lw_m8 65 rfl) rfl
theorem q1833 : (Jvm.Cond.instanceMethod ({ cls := "PointAtWhoIsLostModel", name := "trembling", desc := "()I" } : Jvm.MethodName)) ∈ lw_all := lw_g (lw_at lw_m8 67 rfl) rfl
theorem q1834 : (Jvm.Cond.selects "PointAtWhoIsLostModel" ({ cls := "PointAtWhoIsLostModel", name := "trembling", desc := "()I" } : Jvm.MethodName) ({ cls := "PointAtWhoIsLostModel", name := "trembling", desc := "()I" } : Jvm.MethodName)) ∈ lw_all := lw_g (lw_at lw_m8 68 rfl) rfl
theorem q1835 : (Jvm.Cond.code ({ cls := "PointAtWhoIsLostModel", name := "trembling", desc := "()I" } : Jvm.MethodName) prog_16_method_80_code (3 : Nat) (Option.some Jvm.ClassFile.FieldType.int)) ∈ lw_all := lw_g (lw_at lw_m8 69 rfl) rfl
theorem q1837 : (Jvm.Cond.instanceMethod ({ cls := "PointAtWhoIsLostModel", name := "bestPair", desc := "()I" } : Jvm.MethodName)) ∈ lw_all := lw_g (lw_at lw_m8 71 rfl) rfl
theorem q1838 : (Jvm.Cond.selects "PointAtWhoIsLostModel" ({ cls := "PointAtWhoIsLostModel", name := "bestPair", desc := "()I" } : Jvm.MethodName) ({ cls := "PointAtWhoIsLostModel", name := "bestPair", desc := "()I" } : Jvm.MethodName)) ∈ lw_all := lw_g (lw_at lw_m8 72 rfl) rfl
theorem q1839 : (Jvm.Cond.code ({ cls := "PointAtWhoIsLostModel", name := "bestPair", desc := "()I" } : Jvm.MethodName) prog_16_method_81_code (6 : Nat) (Option.some Jvm.ClassFile.FieldType.int)) ∈ lw_all := lw_g (lw_at lw_m8 73 rfl) rfl
theorem q1841 : (Jvm.Cond.instanceMethod ({ cls := "PointAtWhoIsLostModel", name := "idlest", desc := "()I" } : Jvm.MethodName)) ∈ lw_all := lw_g (lw_at lw_m8 75 rfl) rfl
theorem q1842 : (Jvm.Cond.selects "PointAtWhoIsLostModel" ({ cls := "PointAtWhoIsLostModel", name := "idlest", desc := "()I" } : Jvm.MethodName) ({ cls := "PointAtWhoIsLostModel", name := "idlest", desc := "()I" } : Jvm.MethodName)) ∈ lw_all := lw_g (lw_at lw_m8 76 rfl) rfl
theorem q1843 : (Jvm.Cond.code ({ cls := "PointAtWhoIsLostModel", name := "idlest", desc := "()I" } : Jvm.MethodName) prog_16_method_82_code (5 : Nat) (Option.some Jvm.ClassFile.FieldType.int)) ∈ lw_all := lw_g (lw_at lw_m8 77 rfl) rfl
theorem q1845 : (Jvm.Cond.instanceMethod ({ cls := "PointAtWhoIsLostModel", name := "leads", desc := "(II)I" } : Jvm.MethodName)) ∈ lw_all := lw_g (lw_at lw_m8 79 rfl) rfl
theorem q1846 : (Jvm.Cond.selects "PointAtWhoIsLostModel" ({ cls := "PointAtWhoIsLostModel", name := "leads", desc := "(II)I" } : Jvm.MethodName) ({ cls := "PointAtWhoIsLostModel", name := "leads", desc := "(II)I" } : Jvm.MethodName)) ∈ lw_all := lw_g (lw_at lw_m8 80 rfl) rfl
theorem q1847 : (Jvm.Cond.code ({ cls := "PointAtWhoIsLostModel", name := "leads", desc := "(II)I" } : Jvm.MethodName) prog_16_method_87_code (3 : Nat) (Option.some Jvm.ClassFile.FieldType.int)) ∈ lw_all := lw_g (lw_at lw_m8 81 rfl) rfl
theorem q1848 : (Jvm.Cond.methodLink "PointAtWhoIsLostModel" (306 : Nat) ({ cls := "PointAtWhoIsLostModel", name := "commandTo", desc := "(II)I" } : Jvm.MethodName)) ∈ lw_all := lw_g (lw_at lw_m8 82 rfl) rfl
theorem q1849 : (Jvm.Cond.privateMethod ({ cls := "PointAtWhoIsLostModel", name := "commandTo", desc := "(II)I" } : Jvm.MethodName)) ∈ lw_tbl := lw_at lw_m8 83 rfl
theorem q1850 : (Jvm.Cond.instanceMethod ({ cls := "PointAtWhoIsLostModel", name := "commandTo", desc := "(II)I" } : Jvm.MethodName)) ∈ lw_all := lw_g (lw_at lw_m8 84 rfl) rfl
theorem q1851 : (Jvm.Cond.code ({ cls := "PointAtWhoIsLostModel", name := "commandTo", desc := "(II)I" } : Jvm.MethodName) prog_16_method_88_code (5 : Nat) (Option.some Jvm.ClassFile.FieldType.int)) ∈ lw_all := lw_g (lw_at lw_m8 85 rfl) rfl
theorem q1853 : (Jvm.Cond.instanceMethod ({ cls := "PointAtWhoIsLostModel", name := "reach", desc := "(II)I" } : Jvm.MethodName)) ∈ lw_all := lw_g (lw_at lw_m8 87 rfl) rfl
theorem q1854 : (Jvm.Cond.selects "PointAtWhoIsLostModel" ({ cls := "PointAtWhoIsLostModel", name := "reach", desc := "(II)I" } : Jvm.MethodName) ({ cls := "PointAtWhoIsLostModel", name := "reach", desc := "(II)I" } : Jvm.MethodName)) ∈ lw_all := lw_g (lw_at lw_m8 88 rfl) rfl
theorem q1855 : (Jvm.Cond.code ({ cls := "PointAtWhoIsLostModel", name := "reach", desc := "(II)I" } : Jvm.MethodName) prog_16_method_89_code (5 : Nat) (Option.some Jvm.ClassFile.FieldType.int)) ∈ lw_all := lw_g (lw_at lw_m8 89 rfl) rfl
theorem q1857 : (Jvm.Cond.instanceMethod ({ cls := "PointAtWhoIsLostModel", name := "open", desc := "(I)I" } : Jvm.MethodName)) ∈ lw_all := lw_g (lw_at lw_m8 91 rfl) rfl
theorem q1858 : (Jvm.Cond.selects "PointAtWhoIsLostModel" ({ cls := "PointAtWhoIsLostModel", name := "open", desc := "(I)I" } : Jvm.MethodName) ({ cls := "PointAtWhoIsLostModel", name := "open", desc := "(I)I" } : Jvm.MethodName)) ∈ lw_all := lw_g (lw_at lw_m8 92 rfl) rfl
theorem q1859 : (Jvm.Cond.code ({ cls := "PointAtWhoIsLostModel", name := "open", desc := "(I)I" } : Jvm.MethodName) prog_16_method_90_code (4 : Nat) (Option.some Jvm.ClassFile.FieldType.int)) ∈ lw_all := lw_g (lw_at lw_m8 93 rfl) rfl
theorem q1861 : (Jvm.Cond.instanceMethod ({ cls := "PointAtWhoIsLostModel", name := "parts", desc := "()I" } : Jvm.MethodName)) ∈ lw_all := lw_g (lw_at lw_m8 95 rfl) rfl
theorem q1862 : (Jvm.Cond.selects "PointAtWhoIsLostModel" ({ cls := "PointAtWhoIsLostModel", name := "parts", desc := "()I" } : Jvm.MethodName) ({ cls := "PointAtWhoIsLostModel", name := "parts", desc := "()I" } : Jvm.MethodName)) ∈ lw_all := lw_g (lw_at lw_m8 96 rfl) rfl
theorem q1863 : (Jvm.Cond.code ({ cls := "PointAtWhoIsLostModel", name := "parts", desc := "()I" } : Jvm.MethodName) prog_16_method_91_code (5 : Nat) (Option.some Jvm.ClassFile.FieldType.int)) ∈ lw_all := lw_g (lw_at lw_m8 97 rfl) rfl
theorem q1865 : (Jvm.Cond.instanceMethod ({ cls := "PointAtWhoIsLostModel", name := "worst", desc := "(I)I" } : Jvm.MethodName)) ∈ lw_all := lw_g (lw_at lw_m8 99 rfl) rfl
theorem q1866 : (Jvm.Cond.selects "PointAtWhoIsLostModel" ({ cls := "PointAtWhoIsLostModel", name := "worst", desc := "(I)I" } : Jvm.MethodName) ({ cls := "PointAtWhoIsLostModel", name := "worst", desc := "(I)I" } : Jvm.MethodName)) ∈ lw_all := lw_g (lw_at lw_m8 100 rfl) rfl
theorem q1867 : (Jvm.Cond.code ({ cls := "PointAtWhoIsLostModel", name := "worst", desc := "(I)I" } : Jvm.MethodName) prog_16_method_93_code (4 : Nat) (Option.some Jvm.ClassFile.FieldType.int)) ∈ lw_all := lw_g (lw_at lw_m8 101 rfl) rfl
theorem q1868 : (Jvm.Cond.methodLink "PointAtWhoIsLostModel" (309 : Nat) ({ cls := "PointAtWhoIsLostModel", name := "out", desc := "(I)I" } : Jvm.MethodName)) ∈ lw_all := lw_g (lw_at lw_m8 102 rfl) rfl
theorem q1869 : (Jvm.Cond.privateMethod ({ cls := "PointAtWhoIsLostModel", name := "out", desc := "(I)I" } : Jvm.MethodName)) ∈ lw_tbl := lw_at lw_m8 103 rfl
theorem q1870 : (Jvm.Cond.instanceMethod ({ cls := "PointAtWhoIsLostModel", name := "out", desc := "(I)I" } : Jvm.MethodName)) ∈ lw_all := lw_g (lw_at lw_m8 104 rfl) rfl
theorem q1871 : (Jvm.Cond.code ({ cls := "PointAtWhoIsLostModel", name := "out", desc := "(I)I" } : Jvm.MethodName) prog_16_method_92_code (3 : Nat) (Option.some Jvm.ClassFile.FieldType.int)) ∈ lw_all := lw_g (lw_at lw_m8 105 rfl) rfl
theorem q1873 : (Jvm.Cond.instanceMethod ({ cls := "PointAtWhoIsLostModel", name := "path", desc := "(II)I" } : Jvm.MethodName)) ∈ lw_all := lw_g (lw_at lw_m8 107 rfl) rfl
theorem q1874 : (Jvm.Cond.selects "PointAtWhoIsLostModel" ({ cls := "PointAtWhoIsLostModel", name := "path", desc := "(II)I" } : Jvm.MethodName) ({ cls := "PointAtWhoIsLostModel", name := "path", desc := "(II)I" } : Jvm.MethodName)) ∈ lw_all := lw_g (lw_at lw_m8 108 rfl) rfl
theorem q1875 : (Jvm.Cond.code ({ cls := "PointAtWhoIsLostModel", name := "path", desc := "(II)I" } : Jvm.MethodName) prog_16_method_94_code (3 : Nat) (Option.some Jvm.ClassFile.FieldType.int)) ∈ lw_all := lw_g (lw_at lw_m8 109 rfl) rfl
theorem q1877 : (Jvm.Cond.instanceMethod ({ cls := "PointAtWhoIsLostModel", name := "found", desc := "()I" } : Jvm.MethodName)) ∈ lw_all := lw_g (lw_at lw_m8 111 rfl) rfl
theorem q1878 : (Jvm.Cond.selects "PointAtWhoIsLostModel" ({ cls := "PointAtWhoIsLostModel", name := "found", desc := "()I" } : Jvm.MethodName) ({ cls := "PointAtWhoIsLostModel", name := "found", desc := "()I" } : Jvm.MethodName)) ∈ lw_all := lw_g (lw_at lw_m8 112 rfl) rfl
theorem q1879 : (Jvm.Cond.code ({ cls := "PointAtWhoIsLostModel", name := "found", desc := "()I" } : Jvm.MethodName) prog_16_method_95_code (6 : Nat) (Option.some Jvm.ClassFile.FieldType.int)) ∈ lw_all := lw_g (lw_at lw_m8 113 rfl) rfl
theorem q1881 : (Jvm.Cond.instanceMethod ({ cls := "PointAtWhoIsLostModel", name := "meet", desc := "()I" } : Jvm.MethodName)) ∈ lw_all := lw_g (lw_at lw_m8 115 rfl) rfl
theorem q1882 : (Jvm.Cond.selects "PointAtWhoIsLostModel" ({ cls := "PointAtWhoIsLostModel", name := "meet", desc := "()I" } : Jvm.MethodName) ({ cls := "PointAtWhoIsLostModel", name := "meet", desc := "()I" } : Jvm.MethodName)) ∈ lw_all := lw_g (lw_at lw_m8 116 rfl) rfl
theorem q1883 : (Jvm.Cond.code ({ cls := "PointAtWhoIsLostModel", name := "meet", desc := "()I" } : Jvm.MethodName) prog_16_method_96_code (7 : Nat) (Option.some Jvm.ClassFile.FieldType.int)) ∈ lw_all := lw_g (lw_at lw_m8 117 rfl) rfl
theorem q1885 : (Jvm.Cond.instanceMethod ({ cls := "PointAtWhoIsLostModel", name := "judge", desc := "(III)I" } : Jvm.MethodName)) ∈ lw_all := lw_g (lw_at lw_m8 119 rfl) rfl
theorem q1886 : (Jvm.Cond.selects "PointAtWhoIsLostModel" ({ cls := "PointAtWhoIsLostModel", name := "judge", desc := "(III)I" } : Jvm.MethodName) ({ cls := "PointAtWhoIsLostModel", name := "judge", desc := "(III)I" } : Jvm.MethodName)) ∈ lw_all := lw_g (lw_at lw_m8 120 rfl) rfl
theorem q1887 : (Jvm.Cond.code ({ cls := "PointAtWhoIsLostModel", name := "judge", desc := "(III)I" } : Jvm.MethodName) prog_16_method_98_code (5 : Nat) (Option.some Jvm.ClassFile.FieldType.int)) ∈ lw_all := lw_g (lw_at lw_m8 121 rfl) rfl
theorem q1888 : (Jvm.Cond.methodLink "PointAtWhoIsLostModel" (312 : Nat) ({ cls := "PointAtWhoIsLostModel", name := "wrong", desc := "(III)I" } : Jvm.MethodName)) ∈ lw_all := lw_g (lw_at lw_m8 122 rfl) rfl
theorem q1889 : (Jvm.Cond.privateMethod ({ cls := "PointAtWhoIsLostModel", name := "wrong", desc := "(III)I" } : Jvm.MethodName)) ∈ lw_tbl := lw_at lw_m8 123 rfl
theorem q1890 : (Jvm.Cond.instanceMethod ({ cls := "PointAtWhoIsLostModel", name := "wrong", desc := "(III)I" } : Jvm.MethodName)) ∈ lw_all := lw_g (lw_at lw_m8 124 rfl) rfl
theorem q1891 : (Jvm.Cond.code ({ cls := "PointAtWhoIsLostModel", name := "wrong", desc := "(III)I" } : Jvm.MethodName) prog_16_method_97_code (8 : Nat) (Option.some Jvm.ClassFile.FieldType.int)) ∈ lw_all := lw_g (lw_at lw_m8 125 rfl) rfl
theorem q1893 : (Jvm.Cond.instanceMethod ({ cls := "PointAtWhoIsLostModel", name := "nears", desc := "(III)I" } : Jvm.MethodName)) ∈ lw_all := lw_g (lw_at lw_m8 127 rfl) rfl
theorem q1894 : (Jvm.Cond.selects "PointAtWhoIsLostModel" ({ cls := "PointAtWhoIsLostModel", name := "nears", desc := "(III)I" } : Jvm.MethodName) ({ cls := "PointAtWhoIsLostModel", name := "nears", desc := "(III)I" } : Jvm.MethodName)) ∈ lw_all := lw_g (lw_at lw_m8 128 rfl) rfl
theorem q1895 : (Jvm.Cond.code ({ cls := "PointAtWhoIsLostModel", name := "nears", desc := "(III)I" } : Jvm.MethodName) prog_16_method_100_code (9 : Nat) (Option.some Jvm.ClassFile.FieldType.int)) ∈ lw_all := lw_g (lw_at lw_m8 129 rfl) rfl
theorem q1896 : (Jvm.Cond.methodLink "PointAtWhoIsLostModel" (315 : Nat) ({ cls := "PointAtWhoIsLostModel", name := "noWalk", desc := "(III)I" } : Jvm.MethodName)) ∈ lw_all := lw_g (lw_at lw_m8 130 rfl) rfl
theorem q1897 : (Jvm.Cond.privateMethod ({ cls := "PointAtWhoIsLostModel", name := "noWalk", desc := "(III)I" } : Jvm.MethodName)) ∈ lw_tbl := lw_at lw_m8 131 rfl
theorem q1898 : (Jvm.Cond.instanceMethod ({ cls := "PointAtWhoIsLostModel", name := "noWalk", desc := "(III)I" } : Jvm.MethodName)) ∈ lw_all := lw_g (lw_at lw_m8 132 rfl) rfl
theorem q1899 : (Jvm.Cond.code ({ cls := "PointAtWhoIsLostModel", name := "noWalk", desc := "(III)I" } : Jvm.MethodName) prog_16_method_99_code (5 : Nat) (Option.some Jvm.ClassFile.FieldType.int)) ∈ lw_all := lw_g (lw_at lw_m8 133 rfl) rfl
theorem q1901 : (Jvm.Cond.instanceMethod ({ cls := "PointAtWhoIsLostModel", name := "done", desc := "(III)I" } : Jvm.MethodName)) ∈ lw_all := lw_g (lw_at lw_m8 135 rfl) rfl
theorem q1902 : (Jvm.Cond.selects "PointAtWhoIsLostModel" ({ cls := "PointAtWhoIsLostModel", name := "done", desc := "(III)I" } : Jvm.MethodName) ({ cls := "PointAtWhoIsLostModel", name := "done", desc := "(III)I" } : Jvm.MethodName)) ∈ lw_all := lw_g (lw_at lw_m8 136 rfl) rfl
theorem q1903 : (Jvm.Cond.code ({ cls := "PointAtWhoIsLostModel", name := "done", desc := "(III)I" } : Jvm.MethodName) prog_16_method_101_code (5 : Nat) (Option.some Jvm.ClassFile.FieldType.int)) ∈ lw_all := lw_g (lw_at lw_m8 137 rfl) rfl
theorem q1905 : (Jvm.Cond.instanceMethod ({ cls := "PointAtWhoIsLostModel", name := "goes", desc := "(II)I" } : Jvm.MethodName)) ∈ lw_all := lw_g (lw_at lw_m8 139 rfl) rfl
theorem q1906 : (Jvm.Cond.selects "PointAtWhoIsLostModel" ({ cls := "PointAtWhoIsLostModel", name := "goes", desc := "(II)I" } : Jvm.MethodName) ({ cls := "PointAtWhoIsLostModel", name := "goes", desc := "(II)I" } : Jvm.MethodName)) ∈ lw_all := lw_g (lw_at lw_m8 140 rfl) rfl
theorem q1907 : (Jvm.Cond.code ({ cls := "PointAtWhoIsLostModel", name := "goes", desc := "(II)I" } : Jvm.MethodName) prog_16_method_103_code (3 : Nat) (Option.some Jvm.ClassFile.FieldType.int)) ∈ lw_all := lw_g (lw_at lw_m8 141 rfl) rfl
theorem q1908 : (Jvm.Cond.methodLink "PointAtWhoIsLostModel" (318 : Nat) ({ cls := "PointAtWhoIsLostModel", name := "goesBy", desc := "(II)I" } : Jvm.MethodName)) ∈ lw_all := lw_g (lw_at lw_m8 142 rfl) rfl
theorem q1909 : (Jvm.Cond.privateMethod ({ cls := "PointAtWhoIsLostModel", name := "goesBy", desc := "(II)I" } : Jvm.MethodName)) ∈ lw_tbl := lw_at lw_m8 143 rfl
theorem q1910 : (Jvm.Cond.instanceMethod ({ cls := "PointAtWhoIsLostModel", name := "goesBy", desc := "(II)I" } : Jvm.MethodName)) ∈ lw_all := lw_g (lw_at lw_m8 144 rfl) rfl
theorem q1911 : (Jvm.Cond.code ({ cls := "PointAtWhoIsLostModel", name := "goesBy", desc := "(II)I" } : Jvm.MethodName) prog_16_method_102_code (4 : Nat) (Option.some Jvm.ClassFile.FieldType.int)) ∈ lw_all := lw_g (lw_at lw_m8 145 rfl) rfl
theorem q1913 : (Jvm.Cond.instanceMethod ({ cls := "PointAtWhoIsLostModel", name := "days", desc := "(I)I" } : Jvm.MethodName)) ∈ lw_all := lw_g (lw_at lw_m8 147 rfl) rfl
theorem q1914 : (Jvm.Cond.selects "PointAtWhoIsLostModel" ({ cls := "PointAtWhoIsLostModel", name := "days", desc := "(I)I" } : Jvm.MethodName) ({ cls := "PointAtWhoIsLostModel", name := "days", desc := "(I)I" } : Jvm.MethodName)) ∈ lw_all := lw_g (lw_at lw_m8 148 rfl) rfl
theorem q1915 : (Jvm.Cond.code ({ cls := "PointAtWhoIsLostModel", name := "days", desc := "(I)I" } : Jvm.MethodName) prog_16_method_107_code (3 : Nat) (Option.some Jvm.ClassFile.FieldType.int)) ∈ lw_all := lw_g (lw_at lw_m8 149 rfl) rfl
theorem q1916 : (Jvm.Cond.methodLink "PointAtWhoIsLostModel" (325 : Nat) ({ cls := "PointAtWhoIsLostModel", name := "day", desc := "()V" } : Jvm.MethodName)) ∈ lw_all := lw_g (lw_at lw_m8 150 rfl) rfl
theorem q1917 : (Jvm.Cond.privateMethod ({ cls := "PointAtWhoIsLostModel", name := "day", desc := "()V" } : Jvm.MethodName)) ∈ lw_tbl := lw_at lw_m8 151 rfl
theorem q1918 : (Jvm.Cond.instanceMethod ({ cls := "PointAtWhoIsLostModel", name := "day", desc := "()V" } : Jvm.MethodName)) ∈ lw_all := lw_g (lw_at lw_m8 152 rfl) rfl
theorem q1919 : (Jvm.Cond.code ({ cls := "PointAtWhoIsLostModel", name := "day", desc := "()V" } : Jvm.MethodName) prog_16_method_105_code (3 : Nat) (Option.none : Option Jvm.ClassFile.FieldType)) ∈ lw_all := lw_g (lw_at lw_m8 153 rfl) rfl
theorem q1920 : (Jvm.Cond.methodLink "PointAtWhoIsLostModel" (322 : Nat) ({ cls := "PointAtWhoIsLostModel", name := "draw", desc := "(I)I" } : Jvm.MethodName)) ∈ lw_all := lw_g (lw_at lw_m8 154 rfl) rfl
theorem q1921 : (Jvm.Cond.privateMethod ({ cls := "PointAtWhoIsLostModel", name := "draw", desc := "(I)I" } : Jvm.MethodName)) ∈ lw_tbl := lw_at lw_m8 155 rfl
theorem q1922 : (Jvm.Cond.instanceMethod ({ cls := "PointAtWhoIsLostModel", name := "draw", desc := "(I)I" } : Jvm.MethodName)) ∈ lw_all := lw_g (lw_at lw_m8 156 rfl) rfl
theorem q1923 : (Jvm.Cond.code ({ cls := "PointAtWhoIsLostModel", name := "draw", desc := "(I)I" } : Jvm.MethodName) prog_16_method_104_code (2 : Nat) (Option.some Jvm.ClassFile.FieldType.int)) ∈ lw_all := lw_g (lw_at lw_m8 157 rfl) rfl
theorem q1924 : (Jvm.Cond.constant "PointAtWhoIsLostModel" (321 : Nat) (1103515245 : Int32)) ∈ lw_all := lw_g (lw_at lw_m8 158 rfl) rfl
theorem q1925 : (Jvm.Cond.methodLink "PointAtWhoIsLostModel" (328 : Nat) ({ cls := "PointAtWhoIsLostModel", name := "sureOnes", desc := "()I" } : Jvm.MethodName)) ∈ lw_all := lw_g (lw_at lw_m8 159 rfl) rfl
theorem q1926 : (Jvm.Cond.privateMethod ({ cls := "PointAtWhoIsLostModel", name := "sureOnes", desc := "()I" } : Jvm.MethodName)) ∈ lw_tbl := lw_at lw_m8 160 rfl
theorem q1927 : (Jvm.Cond.instanceMethod ({ cls := "PointAtWhoIsLostModel", name := "sureOnes", desc := "()I" } : Jvm.MethodName)) ∈ lw_all := lw_g (lw_at lw_m8 161 rfl) rfl
theorem q1928 : (Jvm.Cond.code ({ cls := "PointAtWhoIsLostModel", name := "sureOnes", desc := "()I" } : Jvm.MethodName) prog_16_method_106_code (3 : Nat) (Option.some Jvm.ClassFile.FieldType.int)) ∈ lw_all := lw_g (lw_at lw_m8 162 rfl) rfl
theorem q1930 : (Jvm.Cond.instanceMethod ({ cls := "PointAtWhoIsLostModel", name := "seed", desc := "(I)I" } : Jvm.MethodName)) ∈ lw_all := lw_g (lw_at lw_m8 164 rfl) rfl
theorem q1931 : (Jvm.Cond.selects "PointAtWhoIsLostModel" ({ cls := "PointAtWhoIsLostModel", name := "seed", desc := "(I)I" } : Jvm.MethodName) ({ cls := "PointAtWhoIsLostModel", name := "seed", desc := "(I)I" } : Jvm.MethodName)) ∈ lw_all := lw_g (lw_at lw_m8 165 rfl) rfl
theorem q1932 : (Jvm.Cond.code ({ cls := "PointAtWhoIsLostModel", name := "seed", desc := "(I)I" } : Jvm.MethodName) prog_16_method_108_code (3 : Nat) (Option.some Jvm.ClassFile.FieldType.int)) ∈ lw_all := lw_g (lw_at lw_m8 166 rfl) rfl
theorem q1934 : (Jvm.Cond.instanceMethod ({ cls := "PointAtWhoIsLostModel", name := "image", desc := "()I" } : Jvm.MethodName)) ∈ lw_all := lw_g (lw_at lw_m8 168 rfl) rfl
theorem q1935 : (Jvm.Cond.selects "PointAtWhoIsLostModel" ({ cls := "PointAtWhoIsLostModel", name := "image", desc := "()I" } : Jvm.MethodName) ({ cls := "PointAtWhoIsLostModel", name := "image", desc := "()I" } : Jvm.MethodName)) ∈ lw_all := lw_g (lw_at lw_m8 169 rfl) rfl
theorem q1936 : (Jvm.Cond.code ({ cls := "PointAtWhoIsLostModel", name := "image", desc := "()I" } : Jvm.MethodName) prog_16_method_111_code (1 : Nat) (Option.some Jvm.ClassFile.FieldType.int)) ∈ lw_all := lw_g (lw_at lw_m8 170 rfl) rfl
theorem q1938 : (Jvm.Cond.instanceMethod ({ cls := "PointAtWhoIsLostModel", name := "back", desc := "()I" } : Jvm.MethodName)) ∈ lw_all := lw_g (lw_at lw_m8 172 rfl) rfl
theorem q1939 : (Jvm.Cond.selects "PointAtWhoIsLostModel" ({ cls := "PointAtWhoIsLostModel", name := "back", desc := "()I" } : Jvm.MethodName) ({ cls := "PointAtWhoIsLostModel", name := "back", desc := "()I" } : Jvm.MethodName)) ∈ lw_all := lw_g (lw_at lw_m8 173 rfl) rfl
theorem q1940 : (Jvm.Cond.code ({ cls := "PointAtWhoIsLostModel", name := "back", desc := "()I" } : Jvm.MethodName) prog_16_method_112_code (2 : Nat) (Option.some Jvm.ClassFile.FieldType.int)) ∈ lw_all := lw_g (lw_at lw_m8 174 rfl) rfl
theorem q1942 : (Jvm.Cond.instanceMethod ({ cls := "PointAtWhoIsLostModel", name := "status", desc := "(I)I" } : Jvm.MethodName)) ∈ lw_all := lw_g (lw_at lw_m8 176 rfl) rfl
theorem q1943 : (Jvm.Cond.selects "PointAtWhoIsLostModel" ({ cls := "PointAtWhoIsLostModel", name := "status", desc := "(I)I" } : Jvm.MethodName) ({ cls := "PointAtWhoIsLostModel", name := "status", desc := "(I)I" } : Jvm.MethodName)) ∈ lw_all := lw_g (lw_at lw_m8 177 rfl) rfl
theorem q1944 : (Jvm.Cond.code ({ cls := "PointAtWhoIsLostModel", name := "status", desc := "(I)I" } : Jvm.MethodName) prog_16_method_113_code (4 : Nat) (Option.some Jvm.ClassFile.FieldType.int)) ∈ lw_all := lw_g (lw_at lw_m8 178 rfl) rfl
theorem in_X4 : ∀ w ∈ wsX40, w ∈ lw_all := lw_in wsX40 [1418, 1420, 1422, 1424, 1426, 1428, 1430, 1432, 1434, 1436, 1438, 1440, 1442, 1444, 1446, 1448, 1450, 1452, 1454, 1456, 1458, 1460, 1462, 1464, 1466, 1468, 1470, 1472] (by decide +kernel) (by decide +kernel)
theorem q99 : (Jvm.Cond.initialized "PointAtWhoIsLost$Refused") ∈ lw_all := lw_g (lw_at lw_m1 13 rfl) rfl
theorem q272 : (Jvm.Cond.selects "PointAtWhoIsLost$Refused" ({ cls := "java/lang/Throwable", name := "fillInStackTrace", desc := "()Ljava/lang/Throwable;" } : Jvm.MethodName) ({ cls := "java/lang/Throwable", name := "fillInStackTrace", desc := "()Ljava/lang/Throwable;" } : Jvm.MethodName)) ∈ lw_all := lw_g (lw_at lw_m1 186 rfl) rfl
theorem q382 : (Jvm.Cond.instantiable "PointAtWhoIsLost$Refused" (7 : Nat)) ∈ lw_all := lw_g (lw_at lw_m2 56 rfl) rfl
theorem q383 : (Jvm.Cond.castable "PointAtWhoIsLost$Refused" "PointAtWhoIsLost$Refused") ∈ lw_tbl := lw_at lw_m2 57 rfl
theorem q384 : (Jvm.Cond.selects "PointAtWhoIsLost$Refused" ({ cls := "java/lang/Throwable", name := "fillInStackTrace", desc := "(I)Ljava/lang/Throwable;" } : Jvm.MethodName) ({ cls := "java/lang/Throwable", name := "fillInStackTrace", desc := "(I)Ljava/lang/Throwable;" } : Jvm.MethodName)) ∈ lw_all := lw_g (lw_at lw_m2 58 rfl) rfl
theorem q385 : (Jvm.Cond.lays "PointAtWhoIsLost$Refused" "java/lang/Throwable" "cause" "Ljava/lang/Throwable;") ∈ lw_all := lw_g (lw_at lw_m2 59 rfl) rfl
theorem q386 : (Jvm.Cond.lays "PointAtWhoIsLost$Refused" "java/lang/Throwable" "stackTrace" "[Ljava/lang/StackTraceElement;") ∈ lw_all := lw_g (lw_at lw_m2 60 rfl) rfl
theorem q387 : (Jvm.Cond.lays "PointAtWhoIsLost$Refused" "java/lang/Throwable" "suppressedExceptions" "Ljava/util/List;") ∈ lw_all := lw_g (lw_at lw_m2 61 rfl) rfl
theorem q388 : (Jvm.Cond.lays "PointAtWhoIsLost$Refused" "java/lang/Throwable" "detailMessage" "Ljava/lang/String;") ∈ lw_all := lw_g (lw_at lw_m2 62 rfl) rfl
theorem q389 : (Jvm.Cond.lays "PointAtWhoIsLost$Refused" "java/lang/Throwable" "backtrace" "Ljava/lang/Object;") ∈ lw_all := lw_g (lw_at lw_m2 63 rfl) rfl
theorem q391 : (Jvm.Cond.instanceMethod ({ cls := "PointAtWhoIsLost$Refused", name := "<init>", desc := "(I)V" } : Jvm.MethodName)) ∈ lw_all := lw_g (lw_at lw_m2 65 rfl) rfl
theorem q392 : (Jvm.Cond.code ({ cls := "PointAtWhoIsLost$Refused", name := "<init>", desc := "(I)V" } : Jvm.MethodName) prog_10_method_1_code (2 : Nat) (Option.none : Option Jvm.ClassFile.FieldType)) ∈ lw_all := lw_g (lw_at lw_m2 66 rfl) rfl
theorem q393 : (Jvm.Cond.methodLink "PointAtWhoIsLost$Refused" (1 : Nat) ({ cls := "java/lang/RuntimeException", name := "<init>", desc := "(Ljava/lang/String;Ljava/lang/Throwable;ZZ)V" } : Jvm.MethodName)) ∈ lw_all := lw_g (lw_at lw_m2 67 rfl) rfl
theorem q402 : (Jvm.Cond.fieldLink "PointAtWhoIsLost$Refused" (7 : Nat) "PointAtWhoIsLost$Refused" "by" "I") ∈ lw_all := lw_g (lw_at lw_m2 76 rfl) rfl
theorem q404 : (Jvm.Cond.laysFinal "PointAtWhoIsLost$Refused" "PointAtWhoIsLost$Refused" "by" "I") ∈ lw_all := lw_g (lw_at lw_m2 78 rfl) rfl
theorem q405 : (Jvm.Cond.soleField "PointAtWhoIsLost$Refused" "by") ∈ lw_all := lw_g (lw_at lw_m2 79 rfl) rfl
theorem q406 : (Jvm.Cond.lays "PointAtWhoIsLost$Refused" "java/lang/Throwable" "depth" "I") ∈ lw_all := lw_g (lw_at lw_m2 80 rfl) rfl
theorem q407 : (Jvm.Cond.superclass "PointAtWhoIsLost$Refused" "java/lang/RuntimeException") ∈ lw_all := lw_g (lw_at lw_m2 81 rfl) rfl
theorem in_X5 : ∀ w ∈ wsX50, w ∈ lw_all := lw_in wsX50 [385, 386, 387, 388, 389, 406, 404] (by decide +kernel) (by decide +kernel)
theorem q105 : (Jvm.Cond.initialized "PointAtWhoIsLost$Post") ∈ lw_all := lw_g (lw_at lw_m1 19 rfl) rfl
theorem q144 : (Jvm.Cond.fieldLink "PointAtWhoIsLost$Post" (26 : Nat) "PointAtWhoIsLost$Lost" "cell" "[I") ∈ lw_all := lw_g (lw_at lw_m1 58 rfl) rfl
theorem q150 : (Jvm.Cond.fieldLink "PointAtWhoIsLost$Post" (21 : Nat) "PointAtWhoIsLost$Lost" "many" "I") ∈ lw_all := lw_g (lw_at lw_m1 64 rfl) rfl
theorem q517 : (Jvm.Cond.instanceMethod ({ cls := "PointAtWhoIsLost$Post", name := "arm", desc := "(LPointAtWhoIsLost$Lost;)I" } : Jvm.MethodName)) ∈ lw_all := lw_g (lw_at lw_m2 191 rfl) rfl
theorem q518 : (Jvm.Cond.selects "PointAtWhoIsLost$Post" ({ cls := "PointAtWhoIsLost$Post", name := "arm", desc := "(LPointAtWhoIsLost$Lost;)I" } : Jvm.MethodName) ({ cls := "PointAtWhoIsLost$Post", name := "arm", desc := "(LPointAtWhoIsLost$Lost;)I" } : Jvm.MethodName)) ∈ lw_all := lw_g (lw_at lw_m2 192 rfl) rfl
theorem q519 : (Jvm.Cond.sameMethod "PointAtWhoIsLost$Post" "PointAtWhoIsLost$Post" "arm" "(LPointAtWhoIsLost$Lost;)I") ∈ lw_all := lw_g (lw_at lw_m2 193 rfl) rfl
theorem q563 : (Jvm.Cond.code ({ cls := "PointAtWhoIsLost$Post", name := "arm", desc := "(LPointAtWhoIsLost$Lost;)I" } : Jvm.MethodName) prog_8_method_3_code (2 : Nat) (Option.some Jvm.ClassFile.FieldType.int)) ∈ lw_all := lw_g (lw_at lw_m2 237 rfl) rfl
theorem q564 : (Jvm.Cond.methodLinkNest "PointAtWhoIsLost$Post" (29 : Nat) ({ cls := "PointAtWhoIsLost", name := "wayOf", desc := "(II)I" } : Jvm.MethodName) "PointAtWhoIsLost") ∈ lw_tbl := lw_at lw_m2 238 rfl
theorem q612 : (Jvm.Cond.instantiable "PointAtWhoIsLost$Post" (3 : Nat)) ∈ lw_all := lw_g (lw_at lw_m3 46 rfl) rfl
theorem q614 : (Jvm.Cond.instanceMethod ({ cls := "PointAtWhoIsLost$Post", name := "<init>", desc := "(III)V" } : Jvm.MethodName)) ∈ lw_all := lw_g (lw_at lw_m3 48 rfl) rfl
theorem q615 : (Jvm.Cond.code ({ cls := "PointAtWhoIsLost$Post", name := "<init>", desc := "(III)V" } : Jvm.MethodName) prog_8_method_1_code (4 : Nat) (Option.none : Option Jvm.ClassFile.FieldType)) ∈ lw_all := lw_g (lw_at lw_m3 49 rfl) rfl
theorem q616 : (Jvm.Cond.methodLink "PointAtWhoIsLost$Post" (3 : Nat) ({ cls := "java/lang/Object", name := "<init>", desc := "()V" } : Jvm.MethodName)) ∈ lw_all := lw_g (lw_at lw_m3 50 rfl) rfl
theorem q617 : (Jvm.Cond.fieldLink "PointAtWhoIsLost$Post" (9 : Nat) "PointAtWhoIsLost$Post" "number" "I") ∈ lw_all := lw_g (lw_at lw_m3 51 rfl) rfl
theorem q619 : (Jvm.Cond.fieldLink "PointAtWhoIsLost$Post" (15 : Nat) "PointAtWhoIsLost$Post" "a" "I") ∈ lw_all := lw_g (lw_at lw_m3 53 rfl) rfl
theorem q623 : (Jvm.Cond.fieldLink "PointAtWhoIsLost$Post" (18 : Nat) "PointAtWhoIsLost$Post" "cell" "I") ∈ lw_all := lw_g (lw_at lw_m3 57 rfl) rfl
theorem q631 : (Jvm.Cond.laysFinal "PointAtWhoIsLost$Post" "PointAtWhoIsLost$Post" "number" "I") ∈ lw_all := lw_g (lw_at lw_m3 65 rfl) rfl
theorem q632 : (Jvm.Cond.soleField "PointAtWhoIsLost$Post" "number") ∈ lw_all := lw_g (lw_at lw_m3 66 rfl) rfl
theorem q633 : (Jvm.Cond.laysFinal "PointAtWhoIsLost$Post" "PointAtWhoIsLost$Post" "a" "I") ∈ lw_all := lw_g (lw_at lw_m3 67 rfl) rfl
theorem q634 : (Jvm.Cond.soleField "PointAtWhoIsLost$Post" "a") ∈ lw_all := lw_g (lw_at lw_m3 68 rfl) rfl
theorem q635 : (Jvm.Cond.laysFinal "PointAtWhoIsLost$Post" "PointAtWhoIsLost$Post" "cell" "I") ∈ lw_all := lw_g (lw_at lw_m3 69 rfl) rfl
theorem q636 : (Jvm.Cond.soleField "PointAtWhoIsLost$Post" "cell") ∈ lw_all := lw_g (lw_at lw_m3 70 rfl) rfl
theorem q637 : (Jvm.Cond.superclass "PointAtWhoIsLost$Post" "java/lang/Object") ∈ lw_all := lw_g (lw_at lw_m3 71 rfl) rfl
theorem q1072 : (Jvm.Cond.instanceMethod ({ cls := "PointAtWhoIsLost$Post", name := "kind", desc := "()I" } : Jvm.MethodName)) ∈ lw_all := lw_g (lw_at lw_m5 26 rfl) rfl
theorem q1073 : (Jvm.Cond.selects "PointAtWhoIsLost$Post" ({ cls := "PointAtWhoIsLost$Post", name := "kind", desc := "()I" } : Jvm.MethodName) ({ cls := "PointAtWhoIsLost$Post", name := "kind", desc := "()I" } : Jvm.MethodName)) ∈ lw_all := lw_g (lw_at lw_m5 27 rfl) rfl
theorem q1074 : (Jvm.Cond.sameMethod "PointAtWhoIsLost$Post" "PointAtWhoIsLost$Post" "kind" "()I") ∈ lw_all := lw_g (lw_at lw_m5 28 rfl) rfl
theorem q1090 : (Jvm.Cond.code ({ cls := "PointAtWhoIsLost$Post", name := "kind", desc := "()I" } : Jvm.MethodName) prog_8_method_2_code (1 : Nat) (Option.some Jvm.ClassFile.FieldType.int)) ∈ lw_all := lw_g (lw_at lw_m5 44 rfl) rfl
theorem in_X6 : ∀ w ∈ wsX60, w ∈ lw_all := lw_in wsX60 [631, 633, 635] (by decide +kernel) (by decide +kernel)
theorem q106 : (Jvm.Cond.initialized "PointAtWhoIsLost$Keen") ∈ lw_all := lw_g (lw_at lw_m1 20 rfl) rfl
theorem q147 : (Jvm.Cond.fieldLink "PointAtWhoIsLost$Keen" (21 : Nat) "PointAtWhoIsLost$Lost" "cell" "[I") ∈ lw_all := lw_g (lw_at lw_m1 61 rfl) rfl
theorem q520 : (Jvm.Cond.selects "PointAtWhoIsLost$Keen" ({ cls := "PointAtWhoIsLost$Post", name := "arm", desc := "(LPointAtWhoIsLost$Lost;)I" } : Jvm.MethodName) ({ cls := "PointAtWhoIsLost$Keen", name := "arm", desc := "(LPointAtWhoIsLost$Lost;)I" } : Jvm.MethodName)) ∈ lw_all := lw_g (lw_at lw_m2 194 rfl) rfl
theorem q521 : (Jvm.Cond.instanceMethod ({ cls := "PointAtWhoIsLost$Keen", name := "arm", desc := "(LPointAtWhoIsLost$Lost;)I" } : Jvm.MethodName)) ∈ lw_all := lw_g (lw_at lw_m2 195 rfl) rfl
theorem q522 : (Jvm.Cond.code ({ cls := "PointAtWhoIsLost$Keen", name := "arm", desc := "(LPointAtWhoIsLost$Lost;)I" } : Jvm.MethodName) prog_4_method_3_code (3 : Nat) (Option.some Jvm.ClassFile.FieldType.int)) ∈ lw_all := lw_g (lw_at lw_m2 196 rfl) rfl
theorem q523 : (Jvm.Cond.methodLink "PointAtWhoIsLost$Keen" (15 : Nat) ({ cls := "PointAtWhoIsLost$Lost", name := "nearest", desc := "(I)I" } : Jvm.MethodName)) ∈ lw_all := lw_g (lw_at lw_m2 197 rfl) rfl
theorem q533 : (Jvm.Cond.methodLinkNest "PointAtWhoIsLost$Keen" (24 : Nat) ({ cls := "PointAtWhoIsLost", name := "wayOf", desc := "(II)I" } : Jvm.MethodName) "PointAtWhoIsLost") ∈ lw_tbl := lw_at lw_m2 207 rfl
theorem q624 : (Jvm.Cond.fieldLink "PointAtWhoIsLost$Keen" (9 : Nat) "PointAtWhoIsLost$Keen" "cell" "I") ∈ lw_all := lw_g (lw_at lw_m3 58 rfl) rfl
theorem q625 : (Jvm.Cond.sameField "PointAtWhoIsLost$Keen" "PointAtWhoIsLost$Post" "cell" "I") ∈ lw_all := lw_g (lw_at lw_m3 59 rfl) rfl
theorem q638 : (Jvm.Cond.instantiable "PointAtWhoIsLost$Keen" (3 : Nat)) ∈ lw_all := lw_g (lw_at lw_m3 72 rfl) rfl
theorem q640 : (Jvm.Cond.instanceMethod ({ cls := "PointAtWhoIsLost$Keen", name := "<init>", desc := "(III)V" } : Jvm.MethodName)) ∈ lw_all := lw_g (lw_at lw_m3 74 rfl) rfl
theorem q641 : (Jvm.Cond.code ({ cls := "PointAtWhoIsLost$Keen", name := "<init>", desc := "(III)V" } : Jvm.MethodName) prog_4_method_1_code (4 : Nat) (Option.none : Option Jvm.ClassFile.FieldType)) ∈ lw_all := lw_g (lw_at lw_m3 75 rfl) rfl
theorem q642 : (Jvm.Cond.methodLink "PointAtWhoIsLost$Keen" (3 : Nat) ({ cls := "PointAtWhoIsLost$Post", name := "<init>", desc := "(III)V" } : Jvm.MethodName)) ∈ lw_all := lw_g (lw_at lw_m3 76 rfl) rfl
theorem q643 : (Jvm.Cond.laysFinal "PointAtWhoIsLost$Keen" "PointAtWhoIsLost$Post" "number" "I") ∈ lw_all := lw_g (lw_at lw_m3 77 rfl) rfl
theorem q644 : (Jvm.Cond.laysFinal "PointAtWhoIsLost$Keen" "PointAtWhoIsLost$Post" "a" "I") ∈ lw_all := lw_g (lw_at lw_m3 78 rfl) rfl
theorem q645 : (Jvm.Cond.laysFinal "PointAtWhoIsLost$Keen" "PointAtWhoIsLost$Post" "cell" "I") ∈ lw_all := lw_g (lw_at lw_m3 79 rfl) rfl
theorem q646 : (Jvm.Cond.superclass "PointAtWhoIsLost$Keen" "PointAtWhoIsLost$Post") ∈ lw_all := lw_g (lw_at lw_m3 80 rfl) rfl
theorem q1075 : (Jvm.Cond.selects "PointAtWhoIsLost$Keen" ({ cls := "PointAtWhoIsLost$Post", name := "kind", desc := "()I" } : Jvm.MethodName) ({ cls := "PointAtWhoIsLost$Keen", name := "kind", desc := "()I" } : Jvm.MethodName)) ∈ lw_all := lw_g (lw_at lw_m5 29 rfl) rfl
theorem q1076 : (Jvm.Cond.instanceMethod ({ cls := "PointAtWhoIsLost$Keen", name := "kind", desc := "()I" } : Jvm.MethodName)) ∈ lw_all := lw_g (lw_at lw_m5 30 rfl) rfl
theorem q1077 : (Jvm.Cond.code ({ cls := "PointAtWhoIsLost$Keen", name := "kind", desc := "()I" } : Jvm.MethodName) prog_4_method_2_code (1 : Nat) (Option.some Jvm.ClassFile.FieldType.int)) ∈ lw_all := lw_g (lw_at lw_m5 31 rfl) rfl
theorem q1948 : (Jvm.Cond.sameMethod "PointAtWhoIsLost$Keen" "PointAtWhoIsLost$Keen" "arm" "(LPointAtWhoIsLost$Lost;)I") ∈ lw_all := lw_g (lw_at lw_m8 182 rfl) rfl
theorem q1954 : (Jvm.Cond.castable "PointAtWhoIsLost$Keen" "PointAtWhoIsLost$Post") ∈ lw_tbl := lw_at lw_m8 188 rfl
theorem in_X7 : ∀ w ∈ wsX70, w ∈ lw_all := lw_in wsX70 [643, 644, 645] (by decide +kernel) (by decide +kernel)
theorem q107 : (Jvm.Cond.initialized "PointAtWhoIsLost$Lazy") ∈ lw_all := lw_g (lw_at lw_m1 21 rfl) rfl
theorem q145 : (Jvm.Cond.fieldLink "PointAtWhoIsLost$Lazy" (19 : Nat) "PointAtWhoIsLost$Lost" "cell" "[I") ∈ lw_all := lw_g (lw_at lw_m1 59 rfl) rfl
theorem q539 : (Jvm.Cond.selects "PointAtWhoIsLost$Lazy" ({ cls := "PointAtWhoIsLost$Post", name := "arm", desc := "(LPointAtWhoIsLost$Lost;)I" } : Jvm.MethodName) ({ cls := "PointAtWhoIsLost$Lazy", name := "arm", desc := "(LPointAtWhoIsLost$Lost;)I" } : Jvm.MethodName)) ∈ lw_all := lw_g (lw_at lw_m2 213 rfl) rfl
theorem q540 : (Jvm.Cond.instanceMethod ({ cls := "PointAtWhoIsLost$Lazy", name := "arm", desc := "(LPointAtWhoIsLost$Lost;)I" } : Jvm.MethodName)) ∈ lw_all := lw_g (lw_at lw_m2 214 rfl) rfl
theorem q541 : (Jvm.Cond.code ({ cls := "PointAtWhoIsLost$Lazy", name := "arm", desc := "(LPointAtWhoIsLost$Lost;)I" } : Jvm.MethodName) prog_5_method_3_code (3 : Nat) (Option.some Jvm.ClassFile.FieldType.int)) ∈ lw_all := lw_g (lw_at lw_m2 215 rfl) rfl
theorem q542 : (Jvm.Cond.methodLink "PointAtWhoIsLost$Lazy" (9 : Nat) ({ cls := "PointAtWhoIsLost$Post", name := "arm", desc := "(LPointAtWhoIsLost$Lost;)I" } : Jvm.MethodName)) ∈ lw_all := lw_g (lw_at lw_m2 216 rfl) rfl
theorem q543 : (Jvm.Cond.superclass "PointAtWhoIsLost$Lazy" "PointAtWhoIsLost$Post") ∈ lw_all := lw_g (lw_at lw_m2 217 rfl) rfl
theorem q544 : (Jvm.Cond.methodLinkNest "PointAtWhoIsLost$Lazy" (24 : Nat) ({ cls := "PointAtWhoIsLost", name := "far", desc := "(II)I" } : Jvm.MethodName) "PointAtWhoIsLost") ∈ lw_tbl := lw_at lw_m2 218 rfl
theorem q620 : (Jvm.Cond.fieldLink "PointAtWhoIsLost$Lazy" (28 : Nat) "PointAtWhoIsLost$Lazy" "a" "I") ∈ lw_all := lw_g (lw_at lw_m3 54 rfl) rfl
theorem q621 : (Jvm.Cond.sameField "PointAtWhoIsLost$Lazy" "PointAtWhoIsLost$Post" "a" "I") ∈ lw_all := lw_g (lw_at lw_m3 55 rfl) rfl
theorem q626 : (Jvm.Cond.fieldLink "PointAtWhoIsLost$Lazy" (13 : Nat) "PointAtWhoIsLost$Lazy" "cell" "I") ∈ lw_all := lw_g (lw_at lw_m3 60 rfl) rfl
theorem q627 : (Jvm.Cond.sameField "PointAtWhoIsLost$Lazy" "PointAtWhoIsLost$Post" "cell" "I") ∈ lw_all := lw_g (lw_at lw_m3 61 rfl) rfl
theorem q647 : (Jvm.Cond.instantiable "PointAtWhoIsLost$Lazy" (3 : Nat)) ∈ lw_all := lw_g (lw_at lw_m3 81 rfl) rfl
theorem q649 : (Jvm.Cond.instanceMethod ({ cls := "PointAtWhoIsLost$Lazy", name := "<init>", desc := "(III)V" } : Jvm.MethodName)) ∈ lw_all := lw_g (lw_at lw_m3 83 rfl) rfl
theorem q650 : (Jvm.Cond.code ({ cls := "PointAtWhoIsLost$Lazy", name := "<init>", desc := "(III)V" } : Jvm.MethodName) prog_5_method_1_code (4 : Nat) (Option.none : Option Jvm.ClassFile.FieldType)) ∈ lw_all := lw_g (lw_at lw_m3 84 rfl) rfl
theorem q651 : (Jvm.Cond.methodLink "PointAtWhoIsLost$Lazy" (3 : Nat) ({ cls := "PointAtWhoIsLost$Post", name := "<init>", desc := "(III)V" } : Jvm.MethodName)) ∈ lw_all := lw_g (lw_at lw_m3 85 rfl) rfl
theorem q652 : (Jvm.Cond.laysFinal "PointAtWhoIsLost$Lazy" "PointAtWhoIsLost$Post" "number" "I") ∈ lw_all := lw_g (lw_at lw_m3 86 rfl) rfl
theorem q653 : (Jvm.Cond.laysFinal "PointAtWhoIsLost$Lazy" "PointAtWhoIsLost$Post" "a" "I") ∈ lw_all := lw_g (lw_at lw_m3 87 rfl) rfl
theorem q654 : (Jvm.Cond.laysFinal "PointAtWhoIsLost$Lazy" "PointAtWhoIsLost$Post" "cell" "I") ∈ lw_all := lw_g (lw_at lw_m3 88 rfl) rfl
theorem q1078 : (Jvm.Cond.selects "PointAtWhoIsLost$Lazy" ({ cls := "PointAtWhoIsLost$Post", name := "kind", desc := "()I" } : Jvm.MethodName) ({ cls := "PointAtWhoIsLost$Lazy", name := "kind", desc := "()I" } : Jvm.MethodName)) ∈ lw_all := lw_g (lw_at lw_m5 32 rfl) rfl
theorem q1079 : (Jvm.Cond.instanceMethod ({ cls := "PointAtWhoIsLost$Lazy", name := "kind", desc := "()I" } : Jvm.MethodName)) ∈ lw_all := lw_g (lw_at lw_m5 33 rfl) rfl
theorem q1080 : (Jvm.Cond.code ({ cls := "PointAtWhoIsLost$Lazy", name := "kind", desc := "()I" } : Jvm.MethodName) prog_5_method_2_code (1 : Nat) (Option.some Jvm.ClassFile.FieldType.int)) ∈ lw_all := lw_g (lw_at lw_m5 34 rfl) rfl
theorem q1947 : (Jvm.Cond.sameMethod "PointAtWhoIsLost$Lazy" "PointAtWhoIsLost$Lazy" "arm" "(LPointAtWhoIsLost$Lost;)I") ∈ lw_all := lw_g (lw_at lw_m8 181 rfl) rfl
theorem q1955 : (Jvm.Cond.castable "PointAtWhoIsLost$Lazy" "PointAtWhoIsLost$Post") ∈ lw_tbl := lw_at lw_m8 189 rfl
theorem in_X8 : ∀ w ∈ wsX80, w ∈ lw_all := lw_in wsX80 [652, 653, 654] (by decide +kernel) (by decide +kernel)
theorem q108 : (Jvm.Cond.initialized "PointAtWhoIsLost$Wild") ∈ lw_all := lw_g (lw_at lw_m1 22 rfl) rfl
theorem q557 : (Jvm.Cond.selects "PointAtWhoIsLost$Wild" ({ cls := "PointAtWhoIsLost$Post", name := "arm", desc := "(LPointAtWhoIsLost$Lost;)I" } : Jvm.MethodName) ({ cls := "PointAtWhoIsLost$Wild", name := "arm", desc := "(LPointAtWhoIsLost$Lost;)I" } : Jvm.MethodName)) ∈ lw_all := lw_g (lw_at lw_m2 231 rfl) rfl
theorem q558 : (Jvm.Cond.instanceMethod ({ cls := "PointAtWhoIsLost$Wild", name := "arm", desc := "(LPointAtWhoIsLost$Lost;)I" } : Jvm.MethodName)) ∈ lw_all := lw_g (lw_at lw_m2 232 rfl) rfl
theorem q559 : (Jvm.Cond.code ({ cls := "PointAtWhoIsLost$Wild", name := "arm", desc := "(LPointAtWhoIsLost$Lost;)I" } : Jvm.MethodName) prog_14_method_3_code (2 : Nat) (Option.some Jvm.ClassFile.FieldType.int)) ∈ lw_all := lw_g (lw_at lw_m2 233 rfl) rfl
theorem q560 : (Jvm.Cond.methodLink "PointAtWhoIsLost$Wild" (7 : Nat) ({ cls := "PointAtWhoIsLost$Keen", name := "arm", desc := "(LPointAtWhoIsLost$Lost;)I" } : Jvm.MethodName)) ∈ lw_all := lw_g (lw_at lw_m2 234 rfl) rfl
theorem q561 : (Jvm.Cond.superclass "PointAtWhoIsLost$Wild" "PointAtWhoIsLost$Keen") ∈ lw_all := lw_g (lw_at lw_m2 235 rfl) rfl
theorem q562 : (Jvm.Cond.methodLinkNest "PointAtWhoIsLost$Wild" (11 : Nat) ({ cls := "PointAtWhoIsLost", name := "turned", desc := "(II)I" } : Jvm.MethodName) "PointAtWhoIsLost") ∈ lw_tbl := lw_at lw_m2 236 rfl
theorem q655 : (Jvm.Cond.instantiable "PointAtWhoIsLost$Wild" (3 : Nat)) ∈ lw_all := lw_g (lw_at lw_m3 89 rfl) rfl
theorem q657 : (Jvm.Cond.instanceMethod ({ cls := "PointAtWhoIsLost$Wild", name := "<init>", desc := "(III)V" } : Jvm.MethodName)) ∈ lw_all := lw_g (lw_at lw_m3 91 rfl) rfl
theorem q658 : (Jvm.Cond.code ({ cls := "PointAtWhoIsLost$Wild", name := "<init>", desc := "(III)V" } : Jvm.MethodName) prog_14_method_1_code (4 : Nat) (Option.none : Option Jvm.ClassFile.FieldType)) ∈ lw_all := lw_g (lw_at lw_m3 92 rfl) rfl
theorem q659 : (Jvm.Cond.methodLink "PointAtWhoIsLost$Wild" (1 : Nat) ({ cls := "PointAtWhoIsLost$Keen", name := "<init>", desc := "(III)V" } : Jvm.MethodName)) ∈ lw_all := lw_g (lw_at lw_m3 93 rfl) rfl
theorem q660 : (Jvm.Cond.laysFinal "PointAtWhoIsLost$Wild" "PointAtWhoIsLost$Post" "number" "I") ∈ lw_all := lw_g (lw_at lw_m3 94 rfl) rfl
theorem q661 : (Jvm.Cond.laysFinal "PointAtWhoIsLost$Wild" "PointAtWhoIsLost$Post" "a" "I") ∈ lw_all := lw_g (lw_at lw_m3 95 rfl) rfl
theorem q662 : (Jvm.Cond.laysFinal "PointAtWhoIsLost$Wild" "PointAtWhoIsLost$Post" "cell" "I") ∈ lw_all := lw_g (lw_at lw_m3 96 rfl) rfl
theorem q1087 : (Jvm.Cond.selects "PointAtWhoIsLost$Wild" ({ cls := "PointAtWhoIsLost$Post", name := "kind", desc := "()I" } : Jvm.MethodName) ({ cls := "PointAtWhoIsLost$Wild", name := "kind", desc := "()I" } : Jvm.MethodName)) ∈ lw_all := lw_g (lw_at lw_m5 41 rfl) rfl
theorem q1088 : (Jvm.Cond.instanceMethod ({ cls := "PointAtWhoIsLost$Wild", name := "kind", desc := "()I" } : Jvm.MethodName)) ∈ lw_all := lw_g (lw_at lw_m5 42 rfl) rfl
theorem q1089 : (Jvm.Cond.code ({ cls := "PointAtWhoIsLost$Wild", name := "kind", desc := "()I" } : Jvm.MethodName) prog_14_method_2_code (1 : Nat) (Option.some Jvm.ClassFile.FieldType.int)) ∈ lw_all := lw_g (lw_at lw_m5 43 rfl) rfl
theorem q1958 : (Jvm.Cond.castable "PointAtWhoIsLost$Wild" "PointAtWhoIsLost$Post") ∈ lw_tbl := lw_at lw_m8 192 rfl
theorem q1959 : (Jvm.Cond.castable "PointAtWhoIsLost$Wild" "PointAtWhoIsLost$Keen") ∈ lw_tbl := lw_at lw_m8 193 rfl
theorem in_X9 : ∀ w ∈ wsX90, w ∈ lw_all := lw_in wsX90 [660, 661, 662] (by decide +kernel) (by decide +kernel)
theorem q109 : (Jvm.Cond.initialized "PointAtWhoIsLost$Rotten") ∈ lw_all := lw_g (lw_at lw_m1 23 rfl) rfl
theorem q545 : (Jvm.Cond.selects "PointAtWhoIsLost$Rotten" ({ cls := "PointAtWhoIsLost$Post", name := "arm", desc := "(LPointAtWhoIsLost$Lost;)I" } : Jvm.MethodName) ({ cls := "PointAtWhoIsLost$Rotten", name := "arm", desc := "(LPointAtWhoIsLost$Lost;)I" } : Jvm.MethodName)) ∈ lw_all := lw_g (lw_at lw_m2 219 rfl) rfl
theorem q546 : (Jvm.Cond.instanceMethod ({ cls := "PointAtWhoIsLost$Rotten", name := "arm", desc := "(LPointAtWhoIsLost$Lost;)I" } : Jvm.MethodName)) ∈ lw_all := lw_g (lw_at lw_m2 220 rfl) rfl
theorem q547 : (Jvm.Cond.code ({ cls := "PointAtWhoIsLost$Rotten", name := "arm", desc := "(LPointAtWhoIsLost$Lost;)I" } : Jvm.MethodName) prog_11_method_3_code (2 : Nat) (Option.some Jvm.ClassFile.FieldType.int)) ∈ lw_all := lw_g (lw_at lw_m2 221 rfl) rfl
theorem q548 : (Jvm.Cond.methodLink "PointAtWhoIsLost$Rotten" (9 : Nat) ({ cls := "PointAtWhoIsLost$Lazy", name := "arm", desc := "(LPointAtWhoIsLost$Lost;)I" } : Jvm.MethodName)) ∈ lw_all := lw_g (lw_at lw_m2 222 rfl) rfl
theorem q549 : (Jvm.Cond.superclass "PointAtWhoIsLost$Rotten" "PointAtWhoIsLost$Lazy") ∈ lw_all := lw_g (lw_at lw_m2 223 rfl) rfl
theorem q550 : (Jvm.Cond.methodLinkNest "PointAtWhoIsLost$Rotten" (13 : Nat) ({ cls := "PointAtWhoIsLost", name := "turned", desc := "(II)I" } : Jvm.MethodName) "PointAtWhoIsLost") ∈ lw_tbl := lw_at lw_m2 224 rfl
theorem q663 : (Jvm.Cond.instantiable "PointAtWhoIsLost$Rotten" (3 : Nat)) ∈ lw_all := lw_g (lw_at lw_m3 97 rfl) rfl
theorem q665 : (Jvm.Cond.instanceMethod ({ cls := "PointAtWhoIsLost$Rotten", name := "<init>", desc := "(III)V" } : Jvm.MethodName)) ∈ lw_all := lw_g (lw_at lw_m3 99 rfl) rfl
theorem q666 : (Jvm.Cond.code ({ cls := "PointAtWhoIsLost$Rotten", name := "<init>", desc := "(III)V" } : Jvm.MethodName) prog_11_method_1_code (4 : Nat) (Option.none : Option Jvm.ClassFile.FieldType)) ∈ lw_all := lw_g (lw_at lw_m3 100 rfl) rfl
theorem q667 : (Jvm.Cond.methodLink "PointAtWhoIsLost$Rotten" (3 : Nat) ({ cls := "PointAtWhoIsLost$Lazy", name := "<init>", desc := "(III)V" } : Jvm.MethodName)) ∈ lw_all := lw_g (lw_at lw_m3 101 rfl) rfl
theorem q668 : (Jvm.Cond.laysFinal "PointAtWhoIsLost$Rotten" "PointAtWhoIsLost$Post" "number" "I") ∈ lw_all := lw_g (lw_at lw_m3 102 rfl) rfl
theorem q669 : (Jvm.Cond.laysFinal "PointAtWhoIsLost$Rotten" "PointAtWhoIsLost$Post" "a" "I") ∈ lw_all := lw_g (lw_at lw_m3 103 rfl) rfl
theorem q670 : (Jvm.Cond.laysFinal "PointAtWhoIsLost$Rotten" "PointAtWhoIsLost$Post" "cell" "I") ∈ lw_all := lw_g (lw_at lw_m3 104 rfl) rfl
theorem q1081 : (Jvm.Cond.selects "PointAtWhoIsLost$Rotten" ({ cls := "PointAtWhoIsLost$Post", name := "kind", desc := "()I" } : Jvm.MethodName) ({ cls := "PointAtWhoIsLost$Rotten", name := "kind", desc := "()I" } : Jvm.MethodName)) ∈ lw_all := lw_g (lw_at lw_m5 35 rfl) rfl
theorem q1082 : (Jvm.Cond.instanceMethod ({ cls := "PointAtWhoIsLost$Rotten", name := "kind", desc := "()I" } : Jvm.MethodName)) ∈ lw_all := lw_g (lw_at lw_m5 36 rfl) rfl
theorem q1083 : (Jvm.Cond.code ({ cls := "PointAtWhoIsLost$Rotten", name := "kind", desc := "()I" } : Jvm.MethodName) prog_11_method_2_code (1 : Nat) (Option.some Jvm.ClassFile.FieldType.int)) ∈ lw_all := lw_g (lw_at lw_m5 37 rfl) rfl
theorem q1956 : (Jvm.Cond.castable "PointAtWhoIsLost$Rotten" "PointAtWhoIsLost$Post") ∈ lw_tbl := lw_at lw_m8 190 rfl
theorem q1960 : (Jvm.Cond.castable "PointAtWhoIsLost$Rotten" "PointAtWhoIsLost$Lazy") ∈ lw_tbl := lw_at lw_m8 194 rfl
theorem in_X10 : ∀ w ∈ wsX100, w ∈ lw_all := lw_in wsX100 [668, 669, 670] (by decide +kernel) (by decide +kernel)
theorem q110 : (Jvm.Cond.initialized "PointAtWhoIsLost$Torn") ∈ lw_all := lw_g (lw_at lw_m1 24 rfl) rfl
theorem q146 : (Jvm.Cond.fieldLink "PointAtWhoIsLost$Torn" (15 : Nat) "PointAtWhoIsLost$Lost" "cell" "[I") ∈ lw_all := lw_g (lw_at lw_m1 60 rfl) rfl
theorem q151 : (Jvm.Cond.fieldLink "PointAtWhoIsLost$Torn" (9 : Nat) "PointAtWhoIsLost$Lost" "many" "I") ∈ lw_all := lw_g (lw_at lw_m1 65 rfl) rfl
theorem q553 : (Jvm.Cond.selects "PointAtWhoIsLost$Torn" ({ cls := "PointAtWhoIsLost$Post", name := "arm", desc := "(LPointAtWhoIsLost$Lost;)I" } : Jvm.MethodName) ({ cls := "PointAtWhoIsLost$Torn", name := "arm", desc := "(LPointAtWhoIsLost$Lost;)I" } : Jvm.MethodName)) ∈ lw_all := lw_g (lw_at lw_m2 227 rfl) rfl
theorem q554 : (Jvm.Cond.instanceMethod ({ cls := "PointAtWhoIsLost$Torn", name := "arm", desc := "(LPointAtWhoIsLost$Lost;)I" } : Jvm.MethodName)) ∈ lw_all := lw_g (lw_at lw_m2 228 rfl) rfl
theorem q555 : (Jvm.Cond.code ({ cls := "PointAtWhoIsLost$Torn", name := "arm", desc := "(LPointAtWhoIsLost$Lost;)I" } : Jvm.MethodName) prog_13_method_3_code (5 : Nat) (Option.some Jvm.ClassFile.FieldType.int)) ∈ lw_all := lw_g (lw_at lw_m2 229 rfl) rfl
theorem q556 : (Jvm.Cond.methodLinkNest "PointAtWhoIsLost$Torn" (23 : Nat) ({ cls := "PointAtWhoIsLost", name := "wayBy", desc := "(II)I" } : Jvm.MethodName) "PointAtWhoIsLost") ∈ lw_tbl := lw_at lw_m2 230 rfl
theorem q628 : (Jvm.Cond.fieldLink "PointAtWhoIsLost$Torn" (19 : Nat) "PointAtWhoIsLost$Torn" "cell" "I") ∈ lw_all := lw_g (lw_at lw_m3 62 rfl) rfl
theorem q629 : (Jvm.Cond.sameField "PointAtWhoIsLost$Torn" "PointAtWhoIsLost$Post" "cell" "I") ∈ lw_all := lw_g (lw_at lw_m3 63 rfl) rfl
theorem q671 : (Jvm.Cond.instantiable "PointAtWhoIsLost$Torn" (3 : Nat)) ∈ lw_all := lw_g (lw_at lw_m3 105 rfl) rfl
theorem q673 : (Jvm.Cond.instanceMethod ({ cls := "PointAtWhoIsLost$Torn", name := "<init>", desc := "(III)V" } : Jvm.MethodName)) ∈ lw_all := lw_g (lw_at lw_m3 107 rfl) rfl
theorem q674 : (Jvm.Cond.code ({ cls := "PointAtWhoIsLost$Torn", name := "<init>", desc := "(III)V" } : Jvm.MethodName) prog_13_method_1_code (4 : Nat) (Option.none : Option Jvm.ClassFile.FieldType)) ∈ lw_all := lw_g (lw_at lw_m3 108 rfl) rfl
theorem q675 : (Jvm.Cond.methodLink "PointAtWhoIsLost$Torn" (3 : Nat) ({ cls := "PointAtWhoIsLost$Post", name := "<init>", desc := "(III)V" } : Jvm.MethodName)) ∈ lw_all := lw_g (lw_at lw_m3 109 rfl) rfl
theorem q676 : (Jvm.Cond.laysFinal "PointAtWhoIsLost$Torn" "PointAtWhoIsLost$Post" "number" "I") ∈ lw_all := lw_g (lw_at lw_m3 110 rfl) rfl
theorem q677 : (Jvm.Cond.laysFinal "PointAtWhoIsLost$Torn" "PointAtWhoIsLost$Post" "a" "I") ∈ lw_all := lw_g (lw_at lw_m3 111 rfl) rfl
theorem q678 : (Jvm.Cond.laysFinal "PointAtWhoIsLost$Torn" "PointAtWhoIsLost$Post" "cell" "I") ∈ lw_all := lw_g (lw_at lw_m3 112 rfl) rfl
theorem q679 : (Jvm.Cond.superclass "PointAtWhoIsLost$Torn" "PointAtWhoIsLost$Post") ∈ lw_all := lw_g (lw_at lw_m3 113 rfl) rfl
theorem q1084 : (Jvm.Cond.selects "PointAtWhoIsLost$Torn" ({ cls := "PointAtWhoIsLost$Post", name := "kind", desc := "()I" } : Jvm.MethodName) ({ cls := "PointAtWhoIsLost$Torn", name := "kind", desc := "()I" } : Jvm.MethodName)) ∈ lw_all := lw_g (lw_at lw_m5 38 rfl) rfl
theorem q1085 : (Jvm.Cond.instanceMethod ({ cls := "PointAtWhoIsLost$Torn", name := "kind", desc := "()I" } : Jvm.MethodName)) ∈ lw_all := lw_g (lw_at lw_m5 39 rfl) rfl
theorem q1086 : (Jvm.Cond.code ({ cls := "PointAtWhoIsLost$Torn", name := "kind", desc := "()I" } : Jvm.MethodName) prog_13_method_2_code (1 : Nat) (Option.some Jvm.ClassFile.FieldType.int)) ∈ lw_all := lw_g (lw_at lw_m5 40 rfl) rfl
theorem q1957 : (Jvm.Cond.castable "PointAtWhoIsLost$Torn" "PointAtWhoIsLost$Post") ∈ lw_tbl := lw_at lw_m8 191 rfl
theorem in_X11 : ∀ w ∈ wsX110, w ∈ lw_all := lw_in wsX110 [676, 677, 678] (by decide +kernel) (by decide +kernel)
theorem q111 : (Jvm.Cond.initialized "PointAtWhoIsLost$Reader") ∈ lw_all := lw_g (lw_at lw_m1 25 rfl) rfl
theorem q171 : (Jvm.Cond.fieldLink "PointAtWhoIsLost$Reader" (109 : Nat) "PointAtWhoIsLost$Fen" "side" "I") ∈ lw_all := lw_g (lw_at lw_m1 85 rfl) rfl
theorem q174 : (Jvm.Cond.fieldLink "PointAtWhoIsLost$Reader" (121 : Nat) "PointAtWhoIsLost$Fen" "home" "I") ∈ lw_all := lw_g (lw_at lw_m1 88 rfl) rfl
theorem q177 : (Jvm.Cond.fieldLink "PointAtWhoIsLost$Reader" (123 : Nat) "PointAtWhoIsLost$Fen" "posts" "I") ∈ lw_all := lw_g (lw_at lw_m1 91 rfl) rfl
theorem q180 : (Jvm.Cond.fieldLink "PointAtWhoIsLost$Reader" (130 : Nat) "PointAtWhoIsLost$Fen" "walkers" "I") ∈ lw_all := lw_g (lw_at lw_m1 94 rfl) rfl
theorem q711 : (Jvm.Cond.instantiable "PointAtWhoIsLost$Reader" (7 : Nat)) ∈ lw_all := lw_g (lw_at lw_m3 145 rfl) rfl
theorem q720 : (Jvm.Cond.instanceMethod ({ cls := "PointAtWhoIsLost$Reader", name := "<init>", desc := "([IILPointAtWhoIsLost$Fen;)V" } : Jvm.MethodName)) ∈ lw_all := lw_g (lw_at lw_m3 154 rfl) rfl
theorem q721 : (Jvm.Cond.code ({ cls := "PointAtWhoIsLost$Reader", name := "<init>", desc := "([IILPointAtWhoIsLost$Fen;)V" } : Jvm.MethodName) prog_9_method_1_code (4 : Nat) (Option.none : Option Jvm.ClassFile.FieldType)) ∈ lw_all := lw_g (lw_at lw_m3 155 rfl) rfl
theorem q722 : (Jvm.Cond.methodLink "PointAtWhoIsLost$Reader" (3 : Nat) ({ cls := "java/lang/Object", name := "<init>", desc := "()V" } : Jvm.MethodName)) ∈ lw_all := lw_g (lw_at lw_m3 156 rfl) rfl
theorem q723 : (Jvm.Cond.fieldLink "PointAtWhoIsLost$Reader" (9 : Nat) "PointAtWhoIsLost$Reader" "tape" "[I") ∈ lw_all := lw_g (lw_at lw_m3 157 rfl) rfl
theorem q724 : (Jvm.Cond.fieldLink "PointAtWhoIsLost$Reader" (15 : Nat) "PointAtWhoIsLost$Reader" "size" "I") ∈ lw_all := lw_g (lw_at lw_m3 158 rfl) rfl
theorem q725 : (Jvm.Cond.fieldLink "PointAtWhoIsLost$Reader" (19 : Nat) "PointAtWhoIsLost$Reader" "fen" "LPointAtWhoIsLost$Fen;") ∈ lw_all := lw_g (lw_at lw_m3 159 rfl) rfl
theorem q727 : (Jvm.Cond.fieldLink "PointAtWhoIsLost$Reader" (23 : Nat) "PointAtWhoIsLost$Reader" "at" "I") ∈ lw_all := lw_g (lw_at lw_m3 161 rfl) rfl
theorem q728 : (Jvm.Cond.fieldLink "PointAtWhoIsLost$Reader" (30 : Nat) "PointAtWhoIsLost$Reader" "from" "I") ∈ lw_all := lw_g (lw_at lw_m3 162 rfl) rfl
theorem q729 : (Jvm.Cond.fieldLink "PointAtWhoIsLost$Reader" (33 : Nat) "PointAtWhoIsLost$Reader" "word" "Ljava/lang/String;") ∈ lw_all := lw_g (lw_at lw_m3 163 rfl) rfl
theorem q730 : (Jvm.Cond.fieldLink "PointAtWhoIsLost$Reader" (37 : Nat) "PointAtWhoIsLost$Reader" "number" "I") ∈ lw_all := lw_g (lw_at lw_m3 164 rfl) rfl
theorem q731 : (Jvm.Cond.laysFinal "PointAtWhoIsLost$Reader" "PointAtWhoIsLost$Reader" "tape" "[I") ∈ lw_all := lw_g (lw_at lw_m3 165 rfl) rfl
theorem q732 : (Jvm.Cond.soleField "PointAtWhoIsLost$Reader" "tape") ∈ lw_all := lw_g (lw_at lw_m3 166 rfl) rfl
theorem q733 : (Jvm.Cond.laysFinal "PointAtWhoIsLost$Reader" "PointAtWhoIsLost$Reader" "size" "I") ∈ lw_all := lw_g (lw_at lw_m3 167 rfl) rfl
theorem q734 : (Jvm.Cond.soleField "PointAtWhoIsLost$Reader" "size") ∈ lw_all := lw_g (lw_at lw_m3 168 rfl) rfl
theorem q735 : (Jvm.Cond.laysFinal "PointAtWhoIsLost$Reader" "PointAtWhoIsLost$Reader" "fen" "LPointAtWhoIsLost$Fen;") ∈ lw_all := lw_g (lw_at lw_m3 169 rfl) rfl
theorem q736 : (Jvm.Cond.soleField "PointAtWhoIsLost$Reader" "fen") ∈ lw_all := lw_g (lw_at lw_m3 170 rfl) rfl
theorem q737 : (Jvm.Cond.lays "PointAtWhoIsLost$Reader" "PointAtWhoIsLost$Reader" "at" "I") ∈ lw_all := lw_g (lw_at lw_m3 171 rfl) rfl
theorem q738 : (Jvm.Cond.soleField "PointAtWhoIsLost$Reader" "at") ∈ lw_all := lw_g (lw_at lw_m3 172 rfl) rfl
theorem q739 : (Jvm.Cond.lays "PointAtWhoIsLost$Reader" "PointAtWhoIsLost$Reader" "from" "I") ∈ lw_all := lw_g (lw_at lw_m3 173 rfl) rfl
theorem q740 : (Jvm.Cond.soleField "PointAtWhoIsLost$Reader" "from") ∈ lw_all := lw_g (lw_at lw_m3 174 rfl) rfl
theorem q741 : (Jvm.Cond.lays "PointAtWhoIsLost$Reader" "PointAtWhoIsLost$Reader" "word" "Ljava/lang/String;") ∈ lw_all := lw_g (lw_at lw_m3 175 rfl) rfl
theorem q742 : (Jvm.Cond.soleField "PointAtWhoIsLost$Reader" "word") ∈ lw_all := lw_g (lw_at lw_m3 176 rfl) rfl
theorem q743 : (Jvm.Cond.lays "PointAtWhoIsLost$Reader" "PointAtWhoIsLost$Reader" "number" "I") ∈ lw_all := lw_g (lw_at lw_m3 177 rfl) rfl
theorem q744 : (Jvm.Cond.soleField "PointAtWhoIsLost$Reader" "number") ∈ lw_all := lw_g (lw_at lw_m3 178 rfl) rfl
theorem q745 : (Jvm.Cond.superclass "PointAtWhoIsLost$Reader" "java/lang/Object") ∈ lw_all := lw_g (lw_at lw_m3 179 rfl) rfl
theorem q747 : (Jvm.Cond.instanceMethod ({ cls := "PointAtWhoIsLost$Reader", name := "read", desc := "()I" } : Jvm.MethodName)) ∈ lw_all := lw_g (lw_at lw_m3 181 rfl) rfl
theorem q748 : (Jvm.Cond.selects "PointAtWhoIsLost$Reader" ({ cls := "PointAtWhoIsLost$Reader", name := "read", desc := "()I" } : Jvm.MethodName) ({ cls := "PointAtWhoIsLost$Reader", name := "read", desc := "()I" } : Jvm.MethodName)) ∈ lw_all := lw_g (lw_at lw_m3 182 rfl) rfl
theorem q749 : (Jvm.Cond.code ({ cls := "PointAtWhoIsLost$Reader", name := "read", desc := "()I" } : Jvm.MethodName) prog_9_method_10_code (2 : Nat) (Option.some Jvm.ClassFile.FieldType.int)) ∈ lw_all := lw_g (lw_at lw_m3 183 rfl) rfl
theorem q750 : (Jvm.Cond.methodLink "PointAtWhoIsLost$Reader" (70 : Nat) ({ cls := "PointAtWhoIsLost$Reader", name := "next", desc := "()V" } : Jvm.MethodName)) ∈ lw_all := lw_g (lw_at lw_m3 184 rfl) rfl
theorem q751 : (Jvm.Cond.privateMethod ({ cls := "PointAtWhoIsLost$Reader", name := "next", desc := "()V" } : Jvm.MethodName)) ∈ lw_tbl := lw_at lw_m3 185 rfl
theorem q752 : (Jvm.Cond.instanceMethod ({ cls := "PointAtWhoIsLost$Reader", name := "next", desc := "()V" } : Jvm.MethodName)) ∈ lw_all := lw_g (lw_at lw_m3 186 rfl) rfl
theorem q753 : (Jvm.Cond.code ({ cls := "PointAtWhoIsLost$Reader", name := "next", desc := "()V" } : Jvm.MethodName) prog_9_method_3_code (2 : Nat) (Option.none : Option Jvm.ClassFile.FieldType)) ∈ lw_all := lw_g (lw_at lw_m3 187 rfl) rfl
theorem q754 : (Jvm.Cond.methodLink "PointAtWhoIsLost$Reader" (26 : Nat) ({ cls := "PointAtWhoIsLost$Reader", name := "isIn", desc := "(II)Z" } : Jvm.MethodName)) ∈ lw_all := lw_g (lw_at lw_m3 188 rfl) rfl
theorem q755 : (Jvm.Cond.privateMethod ({ cls := "PointAtWhoIsLost$Reader", name := "isIn", desc := "(II)Z" } : Jvm.MethodName)) ∈ lw_tbl := lw_at lw_m3 189 rfl
theorem q756 : (Jvm.Cond.instanceMethod ({ cls := "PointAtWhoIsLost$Reader", name := "isIn", desc := "(II)Z" } : Jvm.MethodName)) ∈ lw_all := lw_g (lw_at lw_m3 190 rfl) rfl
theorem q757 : (Jvm.Cond.code ({ cls := "PointAtWhoIsLost$Reader", name := "isIn", desc := "(II)Z" } : Jvm.MethodName) prog_9_method_2_code (3 : Nat) (Option.some Jvm.ClassFile.FieldType.boolean)) ∈ lw_all := lw_g (lw_at lw_m3 191 rfl) rfl
theorem q758 : (Jvm.Cond.classLink "PointAtWhoIsLost$Reader" (40 : Nat) "java/lang/StringBuilder") ∈ lw_all := lw_g (lw_at lw_m3 192 rfl) rfl
theorem q760 : (Jvm.Cond.methodLink "PointAtWhoIsLost$Reader" (42 : Nat) ({ cls := "java/lang/StringBuilder", name := "<init>", desc := "()V" } : Jvm.MethodName)) ∈ lw_all := lw_g (lw_at lw_m3 194 rfl) rfl
theorem q794 : (Jvm.Cond.methodLink "PointAtWhoIsLost$Reader" (43 : Nat) ({ cls := "java/lang/StringBuilder", name := "append", desc := "(C)Ljava/lang/StringBuilder;" } : Jvm.MethodName)) ∈ lw_all := lw_g (lw_at lw_m3 228 rfl) rfl
theorem q887 : (Jvm.Cond.methodLink "PointAtWhoIsLost$Reader" (47 : Nat) ({ cls := "java/lang/StringBuilder", name := "toString", desc := "()Ljava/lang/String;" } : Jvm.MethodName)) ∈ lw_all := lw_g (lw_at lw_m4 81 rfl) rfl
theorem q945 : (Jvm.Cond.methodLink "PointAtWhoIsLost$Reader" (51 : Nat) ({ cls := "java/lang/Math", name := "min", desc := "(II)I" } : Jvm.MethodName)) ∈ lw_all := lw_g (lw_at lw_m4 139 rfl) rfl
theorem q946 : (Jvm.Cond.stringRef "PointAtWhoIsLost$Reader" (57 : Nat) ";") ∈ lw_tbl := lw_at lw_m4 140 rfl
theorem q947 : (Jvm.Cond.methodLink "PointAtWhoIsLost$Reader" (136 : Nat) ({ cls := "PointAtWhoIsLost$Reader", name := "item", desc := "()V" } : Jvm.MethodName)) ∈ lw_all := lw_g (lw_at lw_m4 141 rfl) rfl
theorem q948 : (Jvm.Cond.privateMethod ({ cls := "PointAtWhoIsLost$Reader", name := "item", desc := "()V" } : Jvm.MethodName)) ∈ lw_tbl := lw_at lw_m4 142 rfl
theorem q949 : (Jvm.Cond.instanceMethod ({ cls := "PointAtWhoIsLost$Reader", name := "item", desc := "()V" } : Jvm.MethodName)) ∈ lw_all := lw_g (lw_at lw_m4 143 rfl) rfl
theorem q950 : (Jvm.Cond.code ({ cls := "PointAtWhoIsLost$Reader", name := "item", desc := "()V" } : Jvm.MethodName) prog_9_method_9_code (5 : Nat) (Option.none : Option Jvm.ClassFile.FieldType)) ∈ lw_all := lw_g (lw_at lw_m4 144 rfl) rfl
theorem q951 : (Jvm.Cond.methodLink "PointAtWhoIsLost$Reader" (73 : Nat) ({ cls := "PointAtWhoIsLost$Reader", name := "wrong", desc := "()LPointAtWhoIsLost$Fault;" } : Jvm.MethodName)) ∈ lw_all := lw_g (lw_at lw_m4 145 rfl) rfl
theorem q952 : (Jvm.Cond.privateMethod ({ cls := "PointAtWhoIsLost$Reader", name := "wrong", desc := "()LPointAtWhoIsLost$Fault;" } : Jvm.MethodName)) ∈ lw_tbl := lw_at lw_m4 146 rfl
theorem q953 : (Jvm.Cond.instanceMethod ({ cls := "PointAtWhoIsLost$Reader", name := "wrong", desc := "()LPointAtWhoIsLost$Fault;" } : Jvm.MethodName)) ∈ lw_all := lw_g (lw_at lw_m4 147 rfl) rfl
theorem q954 : (Jvm.Cond.code ({ cls := "PointAtWhoIsLost$Reader", name := "wrong", desc := "()LPointAtWhoIsLost$Fault;" } : Jvm.MethodName) prog_9_method_4_code (1 : Nat) (Option.some (Jvm.ClassFile.FieldType.object "PointAtWhoIsLost$Fault"))) ∈ lw_all := lw_g (lw_at lw_m4 148 rfl) rfl
theorem q955 : (Jvm.Cond.classLink "PointAtWhoIsLost$Reader" (59 : Nat) "PointAtWhoIsLost$Fault") ∈ lw_all := lw_g (lw_at lw_m4 149 rfl) rfl
theorem q964 : (Jvm.Cond.methodLink "PointAtWhoIsLost$Reader" (61 : Nat) ({ cls := "PointAtWhoIsLost$Fault", name := "<init>", desc := "(I)V" } : Jvm.MethodName)) ∈ lw_all := lw_g (lw_at lw_m4 158 rfl) rfl
theorem q974 : (Jvm.Cond.methodLink "PointAtWhoIsLost$Reader" (93 : Nat) ({ cls := "java/lang/String", name := "hashCode", desc := "()I" } : Jvm.MethodName)) ∈ lw_all := lw_g (lw_at lw_m4 168 rfl) rfl
theorem q1027 : (Jvm.Cond.stringRef "PointAtWhoIsLost$Reader" (97 : Nat) "side") ∈ lw_tbl := lw_at lw_m4 221 rfl
theorem q1028 : (Jvm.Cond.methodLink "PointAtWhoIsLost$Reader" (64 : Nat) ({ cls := "java/lang/String", name := "equals", desc := "(Ljava/lang/Object;)Z" } : Jvm.MethodName)) ∈ lw_all := lw_g (lw_at lw_m4 222 rfl) rfl
theorem q1036 : (Jvm.Cond.stringRef "PointAtWhoIsLost$Reader" (99 : Nat) "bog") ∈ lw_tbl := lw_at lw_m4 230 rfl
theorem q1037 : (Jvm.Cond.stringRef "PointAtWhoIsLost$Reader" (101 : Nat) "dry") ∈ lw_tbl := lw_at lw_m4 231 rfl
theorem q1038 : (Jvm.Cond.stringRef "PointAtWhoIsLost$Reader" (103 : Nat) "home") ∈ lw_tbl := lw_at lw_m4 232 rfl
theorem q1039 : (Jvm.Cond.stringRef "PointAtWhoIsLost$Reader" (105 : Nat) "post") ∈ lw_tbl := lw_at lw_m4 233 rfl
theorem q1040 : (Jvm.Cond.stringRef "PointAtWhoIsLost$Reader" (107 : Nat) "walker") ∈ lw_tbl := lw_at lw_m4 234 rfl
theorem q1041 : (Jvm.Cond.methodLink "PointAtWhoIsLost$Reader" (91 : Nat) ({ cls := "PointAtWhoIsLost$Reader", name := "number", desc := "(II)I" } : Jvm.MethodName)) ∈ lw_all := lw_g (lw_at lw_m4 235 rfl) rfl
theorem q1042 : (Jvm.Cond.privateMethod ({ cls := "PointAtWhoIsLost$Reader", name := "number", desc := "(II)I" } : Jvm.MethodName)) ∈ lw_tbl := lw_at lw_m4 236 rfl
theorem q1043 : (Jvm.Cond.instanceMethod ({ cls := "PointAtWhoIsLost$Reader", name := "number", desc := "(II)I" } : Jvm.MethodName)) ∈ lw_all := lw_g (lw_at lw_m4 237 rfl) rfl
theorem q1044 : (Jvm.Cond.code ({ cls := "PointAtWhoIsLost$Reader", name := "number", desc := "(II)I" } : Jvm.MethodName) prog_9_method_6_code (4 : Nat) (Option.some Jvm.ClassFile.FieldType.int)) ∈ lw_all := lw_g (lw_at lw_m4 238 rfl) rfl
theorem q1045 : (Jvm.Cond.methodLink "PointAtWhoIsLost$Reader" (77 : Nat) ({ cls := "PointAtWhoIsLost$Fen", name := "isCell", desc := "(J)Z" } : Jvm.MethodName)) ∈ lw_all := lw_g (lw_at lw_m4 239 rfl) rfl
theorem q1046 : (Jvm.Cond.methodLink "PointAtWhoIsLost$Reader" (111 : Nat) ({ cls := "PointAtWhoIsLost$Fen", name := "mayBog", desc := "(I)Z" } : Jvm.MethodName)) ∈ lw_all := lw_g (lw_at lw_m5 0 rfl) rfl
theorem q1047 : (Jvm.Cond.methodLink "PointAtWhoIsLost$Reader" (87 : Nat) ({ cls := "PointAtWhoIsLost$Reader", name := "need", desc := "(Z)V" } : Jvm.MethodName)) ∈ lw_all := lw_g (lw_at lw_m5 1 rfl) rfl
theorem q1048 : (Jvm.Cond.privateMethod ({ cls := "PointAtWhoIsLost$Reader", name := "need", desc := "(Z)V" } : Jvm.MethodName)) ∈ lw_tbl := lw_at lw_m5 2 rfl
theorem q1049 : (Jvm.Cond.instanceMethod ({ cls := "PointAtWhoIsLost$Reader", name := "need", desc := "(Z)V" } : Jvm.MethodName)) ∈ lw_all := lw_g (lw_at lw_m5 3 rfl) rfl
theorem q1050 : (Jvm.Cond.code ({ cls := "PointAtWhoIsLost$Reader", name := "need", desc := "(Z)V" } : Jvm.MethodName) prog_9_method_7_code (2 : Nat) (Option.none : Option Jvm.ClassFile.FieldType)) ∈ lw_all := lw_g (lw_at lw_m5 4 rfl) rfl
theorem q1051 : (Jvm.Cond.methodLink "PointAtWhoIsLost$Reader" (114 : Nat) ({ cls := "PointAtWhoIsLost$Reader", name := "cell", desc := "(Z)I" } : Jvm.MethodName)) ∈ lw_all := lw_g (lw_at lw_m5 5 rfl) rfl
theorem q1052 : (Jvm.Cond.privateMethod ({ cls := "PointAtWhoIsLost$Reader", name := "cell", desc := "(Z)I" } : Jvm.MethodName)) ∈ lw_tbl := lw_at lw_m5 6 rfl
theorem q1053 : (Jvm.Cond.instanceMethod ({ cls := "PointAtWhoIsLost$Reader", name := "cell", desc := "(Z)I" } : Jvm.MethodName)) ∈ lw_all := lw_g (lw_at lw_m5 7 rfl) rfl
theorem q1054 : (Jvm.Cond.code ({ cls := "PointAtWhoIsLost$Reader", name := "cell", desc := "(Z)I" } : Jvm.MethodName) prog_9_method_8_code (2 : Nat) (Option.some Jvm.ClassFile.FieldType.int)) ∈ lw_all := lw_g (lw_at lw_m5 8 rfl) rfl
theorem q1055 : (Jvm.Cond.methodLink "PointAtWhoIsLost$Reader" (83 : Nat) ({ cls := "PointAtWhoIsLost$Fen", name := "isBog", desc := "(I)Z" } : Jvm.MethodName)) ∈ lw_all := lw_g (lw_at lw_m5 9 rfl) rfl
theorem q1056 : (Jvm.Cond.methodLink "PointAtWhoIsLost$Reader" (118 : Nat) ({ cls := "PointAtWhoIsLost$Fen", name := "bog", desc := "(IZ)V" } : Jvm.MethodName)) ∈ lw_all := lw_g (lw_at lw_m5 10 rfl) rfl
theorem q1057 : (Jvm.Cond.methodLink "PointAtWhoIsLost$Reader" (126 : Nat) ({ cls := "PointAtWhoIsLost$Fen", name := "addsPost", desc := "(III)I" } : Jvm.MethodName)) ∈ lw_all := lw_g (lw_at lw_m5 11 rfl) rfl
theorem q1058 : (Jvm.Cond.methodLink "PointAtWhoIsLost$Reader" (133 : Nat) ({ cls := "PointAtWhoIsLost$Fen", name := "addsWalker", desc := "(II)I" } : Jvm.MethodName)) ∈ lw_all := lw_g (lw_at lw_m5 12 rfl) rfl
theorem q1059 : (Jvm.Cond.methodLink "PointAtWhoIsLost$Reader" (139 : Nat) ({ cls := "PointAtWhoIsLost$Reader", name := "takes", desc := "(Ljava/lang/String;)Z" } : Jvm.MethodName)) ∈ lw_all := lw_g (lw_at lw_m5 13 rfl) rfl
theorem q1060 : (Jvm.Cond.privateMethod ({ cls := "PointAtWhoIsLost$Reader", name := "takes", desc := "(Ljava/lang/String;)Z" } : Jvm.MethodName)) ∈ lw_tbl := lw_at lw_m5 14 rfl
theorem q1061 : (Jvm.Cond.instanceMethod ({ cls := "PointAtWhoIsLost$Reader", name := "takes", desc := "(Ljava/lang/String;)Z" } : Jvm.MethodName)) ∈ lw_all := lw_g (lw_at lw_m5 15 rfl) rfl
theorem q1062 : (Jvm.Cond.code ({ cls := "PointAtWhoIsLost$Reader", name := "takes", desc := "(Ljava/lang/String;)Z" } : Jvm.MethodName) prog_9_method_5_code (2 : Nat) (Option.some Jvm.ClassFile.FieldType.boolean)) ∈ lw_all := lw_g (lw_at lw_m5 16 rfl) rfl
theorem in_X12 : ∀ w ∈ wsX120, w ∈ lw_all := lw_in wsX120 [731, 733, 735, 737, 739, 741, 743] (by decide +kernel) (by decide +kernel)
theorem q119 : (Jvm.Cond.initialized "PointAtWhoIsLost$Fault") ∈ lw_all := lw_g (lw_at lw_m1 33 rfl) rfl
theorem q271 : (Jvm.Cond.selects "PointAtWhoIsLost$Fault" ({ cls := "java/lang/Throwable", name := "fillInStackTrace", desc := "()Ljava/lang/Throwable;" } : Jvm.MethodName) ({ cls := "java/lang/Throwable", name := "fillInStackTrace", desc := "()Ljava/lang/Throwable;" } : Jvm.MethodName)) ∈ lw_all := lw_g (lw_at lw_m1 185 rfl) rfl
theorem q956 : (Jvm.Cond.instantiable "PointAtWhoIsLost$Fault" (7 : Nat)) ∈ lw_all := lw_g (lw_at lw_m4 150 rfl) rfl
theorem q957 : (Jvm.Cond.castable "PointAtWhoIsLost$Fault" "PointAtWhoIsLost$Fault") ∈ lw_tbl := lw_at lw_m4 151 rfl
theorem q958 : (Jvm.Cond.selects "PointAtWhoIsLost$Fault" ({ cls := "java/lang/Throwable", name := "fillInStackTrace", desc := "(I)Ljava/lang/Throwable;" } : Jvm.MethodName) ({ cls := "java/lang/Throwable", name := "fillInStackTrace", desc := "(I)Ljava/lang/Throwable;" } : Jvm.MethodName)) ∈ lw_all := lw_g (lw_at lw_m4 152 rfl) rfl
theorem q959 : (Jvm.Cond.lays "PointAtWhoIsLost$Fault" "java/lang/Throwable" "cause" "Ljava/lang/Throwable;") ∈ lw_all := lw_g (lw_at lw_m4 153 rfl) rfl
theorem q960 : (Jvm.Cond.lays "PointAtWhoIsLost$Fault" "java/lang/Throwable" "stackTrace" "[Ljava/lang/StackTraceElement;") ∈ lw_all := lw_g (lw_at lw_m4 154 rfl) rfl
theorem q961 : (Jvm.Cond.lays "PointAtWhoIsLost$Fault" "java/lang/Throwable" "suppressedExceptions" "Ljava/util/List;") ∈ lw_all := lw_g (lw_at lw_m4 155 rfl) rfl
theorem q962 : (Jvm.Cond.lays "PointAtWhoIsLost$Fault" "java/lang/Throwable" "detailMessage" "Ljava/lang/String;") ∈ lw_all := lw_g (lw_at lw_m4 156 rfl) rfl
theorem q963 : (Jvm.Cond.lays "PointAtWhoIsLost$Fault" "java/lang/Throwable" "backtrace" "Ljava/lang/Object;") ∈ lw_all := lw_g (lw_at lw_m4 157 rfl) rfl
theorem q965 : (Jvm.Cond.instanceMethod ({ cls := "PointAtWhoIsLost$Fault", name := "<init>", desc := "(I)V" } : Jvm.MethodName)) ∈ lw_all := lw_g (lw_at lw_m4 159 rfl) rfl
theorem q966 : (Jvm.Cond.code ({ cls := "PointAtWhoIsLost$Fault", name := "<init>", desc := "(I)V" } : Jvm.MethodName) prog_2_method_1_code (2 : Nat) (Option.none : Option Jvm.ClassFile.FieldType)) ∈ lw_all := lw_g (lw_at lw_m4 160 rfl) rfl
theorem q967 : (Jvm.Cond.methodLink "PointAtWhoIsLost$Fault" (1 : Nat) ({ cls := "java/lang/Exception", name := "<init>", desc := "(Ljava/lang/String;Ljava/lang/Throwable;ZZ)V" } : Jvm.MethodName)) ∈ lw_all := lw_g (lw_at lw_m4 161 rfl) rfl
theorem q968 : (Jvm.Cond.fieldLink "PointAtWhoIsLost$Fault" (7 : Nat) "PointAtWhoIsLost$Fault" "place" "I") ∈ lw_all := lw_g (lw_at lw_m4 162 rfl) rfl
theorem q970 : (Jvm.Cond.laysFinal "PointAtWhoIsLost$Fault" "PointAtWhoIsLost$Fault" "place" "I") ∈ lw_all := lw_g (lw_at lw_m4 164 rfl) rfl
theorem q971 : (Jvm.Cond.soleField "PointAtWhoIsLost$Fault" "place") ∈ lw_all := lw_g (lw_at lw_m4 165 rfl) rfl
theorem q972 : (Jvm.Cond.lays "PointAtWhoIsLost$Fault" "java/lang/Throwable" "depth" "I") ∈ lw_all := lw_g (lw_at lw_m4 166 rfl) rfl
theorem q973 : (Jvm.Cond.superclass "PointAtWhoIsLost$Fault" "java/lang/Exception") ∈ lw_all := lw_g (lw_at lw_m4 167 rfl) rfl
theorem in_X13 : ∀ w ∈ wsX130, w ∈ lw_all := lw_in wsX130 [959, 960, 961, 962, 963, 972, 970] (by decide +kernel) (by decide +kernel)
theorem q92 : (Jvm.Cond.initialized "java/lang/Throwable") ∈ lw_all := lw_g (lw_at lw_m1 6 rfl) rfl
theorem q261 : (Jvm.Cond.instanceMethod ({ cls := "java/lang/Throwable", name := "<init>", desc := "(Ljava/lang/String;)V" } : Jvm.MethodName)) ∈ lw_all := lw_g (lw_at lw_m1 175 rfl) rfl
theorem q262 : (Jvm.Cond.code ({ cls := "java/lang/Throwable", name := "<init>", desc := "(Ljava/lang/String;)V" } : Jvm.MethodName) prog_35_method_2_code (2 : Nat) (Option.none : Option Jvm.ClassFile.FieldType)) ∈ lw_all := lw_g (lw_at lw_m1 176 rfl) rfl
theorem q263 : (Jvm.Cond.methodLink "java/lang/Throwable" (1 : Nat) ({ cls := "java/lang/Object", name := "<init>", desc := "()V" } : Jvm.MethodName)) ∈ lw_all := lw_g (lw_at lw_m1 177 rfl) rfl
theorem q264 : (Jvm.Cond.fieldLink "java/lang/Throwable" (13 : Nat) "java/lang/Throwable" "UNASSIGNED_STACK" "[Ljava/lang/StackTraceElement;") ∈ lw_all := lw_g (lw_at lw_m1 178 rfl) rfl
theorem q265 : (Jvm.Cond.laysStatic "java/lang/Throwable" "UNASSIGNED_STACK" "[Ljava/lang/StackTraceElement;") ∈ lw_tbl := lw_at lw_m1 179 rfl
theorem q266 : (Jvm.Cond.fieldLink "java/lang/Throwable" (20 : Nat) "java/lang/Throwable" "SUPPRESSED_SENTINEL" "Ljava/util/List;") ∈ lw_all := lw_g (lw_at lw_m1 180 rfl) rfl
theorem q267 : (Jvm.Cond.laysStatic "java/lang/Throwable" "SUPPRESSED_SENTINEL" "Ljava/util/List;") ∈ lw_tbl := lw_at lw_m1 181 rfl
theorem q268 : (Jvm.Cond.methodLink "java/lang/Throwable" (27 : Nat) ({ cls := "java/lang/Throwable", name := "fillInStackTrace", desc := "()Ljava/lang/Throwable;" } : Jvm.MethodName)) ∈ lw_all := lw_g (lw_at lw_m1 182 rfl) rfl
theorem q269 : (Jvm.Cond.instanceMethod ({ cls := "java/lang/Throwable", name := "fillInStackTrace", desc := "()Ljava/lang/Throwable;" } : Jvm.MethodName)) ∈ lw_all := lw_g (lw_at lw_m1 183 rfl) rfl
theorem q270 : (Jvm.Cond.sameMethod "java/lang/Throwable" "java/lang/Throwable" "fillInStackTrace" "()Ljava/lang/Throwable;") ∈ lw_all := lw_g (lw_at lw_m1 184 rfl) rfl
theorem q287 : (Jvm.Cond.declares ({ cls := "java/lang/Throwable", name := "fillInStackTrace", desc := "()Ljava/lang/Throwable;" } : Jvm.MethodName)) ∈ lw_tbl := lw_at lw_m1 201 rfl
theorem q291 : (Jvm.Cond.codeSync ({ cls := "java/lang/Throwable", name := "fillInStackTrace", desc := "()Ljava/lang/Throwable;" } : Jvm.MethodName) prog_35_method_18_code (1 : Nat) (Option.some (Jvm.ClassFile.FieldType.object "java/lang/Throwable"))) ∈ lw_all := lw_g (lw_at lw_m1 205 rfl) rfl
theorem q292 : (Jvm.Cond.methodLink "java/lang/Throwable" (202 : Nat) ({ cls := "java/lang/Throwable", name := "fillInStackTrace", desc := "(I)Ljava/lang/Throwable;" } : Jvm.MethodName)) ∈ lw_all := lw_g (lw_at lw_m1 206 rfl) rfl
theorem q293 : (Jvm.Cond.privateMethod ({ cls := "java/lang/Throwable", name := "fillInStackTrace", desc := "(I)Ljava/lang/Throwable;" } : Jvm.MethodName)) ∈ lw_tbl := lw_at lw_m1 207 rfl
theorem q294 : (Jvm.Cond.instanceMethod ({ cls := "java/lang/Throwable", name := "fillInStackTrace", desc := "(I)Ljava/lang/Throwable;" } : Jvm.MethodName)) ∈ lw_all := lw_g (lw_at lw_m1 208 rfl) rfl
theorem q295 : (Jvm.Cond.instantiable "java/lang/Throwable" (6 : Nat)) ∈ lw_all := lw_g (lw_at lw_m1 209 rfl) rfl
theorem q296 : (Jvm.Cond.native ({ cls := "java/lang/Throwable", name := "fillInStackTrace", desc := "(I)Ljava/lang/Throwable;" } : Jvm.MethodName)) ∈ lw_all := lw_g (lw_at lw_m1 210 rfl) rfl
theorem q297 : (Jvm.Cond.fieldLink "java/lang/Throwable" (198 : Nat) "java/lang/Throwable" "backtrace" "Ljava/lang/Object;") ∈ lw_all := lw_g (lw_at lw_m1 211 rfl) rfl
theorem q298 : (Jvm.Cond.fieldLink "java/lang/Throwable" (31 : Nat) "java/lang/Throwable" "detailMessage" "Ljava/lang/String;") ∈ lw_all := lw_g (lw_at lw_m1 212 rfl) rfl
theorem q299 : (Jvm.Cond.fieldLink "java/lang/Throwable" (7 : Nat) "java/lang/Throwable" "cause" "Ljava/lang/Throwable;") ∈ lw_all := lw_g (lw_at lw_m1 213 rfl) rfl
theorem q300 : (Jvm.Cond.fieldLink "java/lang/Throwable" (17 : Nat) "java/lang/Throwable" "stackTrace" "[Ljava/lang/StackTraceElement;") ∈ lw_all := lw_g (lw_at lw_m1 214 rfl) rfl
theorem q301 : (Jvm.Cond.fieldLink "java/lang/Throwable" (24 : Nat) "java/lang/Throwable" "suppressedExceptions" "Ljava/util/List;") ∈ lw_all := lw_g (lw_at lw_m1 215 rfl) rfl
theorem q303 : (Jvm.Cond.soleField "java/lang/Throwable" "backtrace") ∈ lw_all := lw_g (lw_at lw_m1 217 rfl) rfl
theorem q305 : (Jvm.Cond.soleField "java/lang/Throwable" "detailMessage") ∈ lw_all := lw_g (lw_at lw_m1 219 rfl) rfl
theorem q307 : (Jvm.Cond.soleField "java/lang/Throwable" "cause") ∈ lw_all := lw_g (lw_at lw_m1 221 rfl) rfl
theorem q309 : (Jvm.Cond.soleField "java/lang/Throwable" "stackTrace") ∈ lw_all := lw_g (lw_at lw_m1 223 rfl) rfl
theorem q311 : (Jvm.Cond.soleField "java/lang/Throwable" "depth") ∈ lw_all := lw_g (lw_at lw_m1 225 rfl) rfl
theorem q313 : (Jvm.Cond.soleField "java/lang/Throwable" "suppressedExceptions") ∈ lw_all := lw_g (lw_at lw_m1 227 rfl) rfl
theorem q320 : (Jvm.Cond.declares ({ cls := "java/lang/Throwable", name := "<init>", desc := "()V" } : Jvm.MethodName)) ∈ lw_tbl := lw_at lw_m1 234 rfl
theorem q321 : (Jvm.Cond.declares ({ cls := "java/lang/Throwable", name := "<init>", desc := "(Ljava/lang/String;)V" } : Jvm.MethodName)) ∈ lw_tbl := lw_at lw_m1 235 rfl
theorem q323 : (Jvm.Cond.lays "java/lang/Throwable" "java/lang/Throwable" "cause" "Ljava/lang/Throwable;") ∈ lw_all := lw_g (lw_at lw_m1 237 rfl) rfl
theorem q324 : (Jvm.Cond.lays "java/lang/Throwable" "java/lang/Throwable" "stackTrace" "[Ljava/lang/StackTraceElement;") ∈ lw_all := lw_g (lw_at lw_m1 238 rfl) rfl
theorem q325 : (Jvm.Cond.lays "java/lang/Throwable" "java/lang/Throwable" "suppressedExceptions" "Ljava/util/List;") ∈ lw_all := lw_g (lw_at lw_m1 239 rfl) rfl
theorem q326 : (Jvm.Cond.lays "java/lang/Throwable" "java/lang/Throwable" "detailMessage" "Ljava/lang/String;") ∈ lw_all := lw_g (lw_at lw_m2 0 rfl) rfl
theorem q327 : (Jvm.Cond.lays "java/lang/Throwable" "java/lang/Throwable" "backtrace" "Ljava/lang/Object;") ∈ lw_all := lw_g (lw_at lw_m2 1 rfl) rfl
theorem q328 : (Jvm.Cond.fieldLink "java/lang/Throwable" (198 : Nat) "java/lang/Throwable" "backtrace" "Ljava/lang/Object;") ∈ lw_all := lw_g (lw_at lw_m2 2 rfl) rfl
theorem q329 : (Jvm.Cond.superclass "java/lang/Throwable" "java/lang/Object") ∈ lw_all := lw_g (lw_at lw_m2 3 rfl) rfl
theorem q330 : (Jvm.Cond.instanceMethod ({ cls := "java/lang/Throwable", name := "<init>", desc := "()V" } : Jvm.MethodName)) ∈ lw_all := lw_g (lw_at lw_m2 4 rfl) rfl
theorem q331 : (Jvm.Cond.code ({ cls := "java/lang/Throwable", name := "<init>", desc := "()V" } : Jvm.MethodName) prog_35_method_1_code (1 : Nat) (Option.none : Option Jvm.ClassFile.FieldType)) ∈ lw_all := lw_g (lw_at lw_m2 5 rfl) rfl
theorem q400 : (Jvm.Cond.instanceMethod ({ cls := "java/lang/Throwable", name := "<init>", desc := "(Ljava/lang/String;Ljava/lang/Throwable;ZZ)V" } : Jvm.MethodName)) ∈ lw_all := lw_g (lw_at lw_m2 74 rfl) rfl
theorem q401 : (Jvm.Cond.code ({ cls := "java/lang/Throwable", name := "<init>", desc := "(Ljava/lang/String;Ljava/lang/Throwable;ZZ)V" } : Jvm.MethodName) prog_35_method_5_code (5 : Nat) (Option.none : Option Jvm.ClassFile.FieldType)) ∈ lw_all := lw_g (lw_at lw_m2 75 rfl) rfl
theorem q1946 : (Jvm.Cond.sameMethod "java/lang/Throwable" "java/lang/Throwable" "fillInStackTrace" "(I)Ljava/lang/Throwable;") ∈ lw_all := lw_g (lw_at lw_m8 180 rfl) rfl
theorem in_J0 : ∀ w ∈ wsJ00, w ∈ lw_all := lw_in wsJ00 [323, 324, 325, 326, 327] (by decide +kernel) (by decide +kernel)
theorem q93 : (Jvm.Cond.initialized "java/lang/Exception") ∈ lw_all := lw_g (lw_at lw_m1 7 rfl) rfl
theorem q258 : (Jvm.Cond.instanceMethod ({ cls := "java/lang/Exception", name := "<init>", desc := "(Ljava/lang/String;)V" } : Jvm.MethodName)) ∈ lw_all := lw_g (lw_at lw_m1 172 rfl) rfl
theorem q259 : (Jvm.Cond.code ({ cls := "java/lang/Exception", name := "<init>", desc := "(Ljava/lang/String;)V" } : Jvm.MethodName) prog_22_method_2_code (2 : Nat) (Option.none : Option Jvm.ClassFile.FieldType)) ∈ lw_all := lw_g (lw_at lw_m1 173 rfl) rfl
theorem q260 : (Jvm.Cond.methodLink "java/lang/Exception" (7 : Nat) ({ cls := "java/lang/Throwable", name := "<init>", desc := "(Ljava/lang/String;)V" } : Jvm.MethodName)) ∈ lw_all := lw_g (lw_at lw_m1 174 rfl) rfl
theorem q290 : (Jvm.Cond.superclass "java/lang/Exception" "java/lang/Throwable") ∈ lw_all := lw_g (lw_at lw_m1 204 rfl) rfl
theorem q318 : (Jvm.Cond.declares ({ cls := "java/lang/Exception", name := "<init>", desc := "()V" } : Jvm.MethodName)) ∈ lw_tbl := lw_at lw_m1 232 rfl
theorem q319 : (Jvm.Cond.declares ({ cls := "java/lang/Exception", name := "<init>", desc := "(Ljava/lang/String;)V" } : Jvm.MethodName)) ∈ lw_tbl := lw_at lw_m1 233 rfl
theorem q397 : (Jvm.Cond.instanceMethod ({ cls := "java/lang/Exception", name := "<init>", desc := "(Ljava/lang/String;Ljava/lang/Throwable;ZZ)V" } : Jvm.MethodName)) ∈ lw_all := lw_g (lw_at lw_m2 71 rfl) rfl
theorem q398 : (Jvm.Cond.code ({ cls := "java/lang/Exception", name := "<init>", desc := "(Ljava/lang/String;Ljava/lang/Throwable;ZZ)V" } : Jvm.MethodName) prog_22_method_5_code (5 : Nat) (Option.none : Option Jvm.ClassFile.FieldType)) ∈ lw_all := lw_g (lw_at lw_m2 72 rfl) rfl
theorem q399 : (Jvm.Cond.methodLink "java/lang/Exception" (16 : Nat) ({ cls := "java/lang/Throwable", name := "<init>", desc := "(Ljava/lang/String;Ljava/lang/Throwable;ZZ)V" } : Jvm.MethodName)) ∈ lw_all := lw_g (lw_at lw_m2 73 rfl) rfl
theorem q430 : (Jvm.Cond.instanceMethod ({ cls := "java/lang/Exception", name := "<init>", desc := "()V" } : Jvm.MethodName)) ∈ lw_all := lw_g (lw_at lw_m2 104 rfl) rfl
theorem q431 : (Jvm.Cond.code ({ cls := "java/lang/Exception", name := "<init>", desc := "()V" } : Jvm.MethodName) prog_22_method_1_code (1 : Nat) (Option.none : Option Jvm.ClassFile.FieldType)) ∈ lw_all := lw_g (lw_at lw_m2 105 rfl) rfl
theorem q432 : (Jvm.Cond.methodLink "java/lang/Exception" (1 : Nat) ({ cls := "java/lang/Throwable", name := "<init>", desc := "()V" } : Jvm.MethodName)) ∈ lw_all := lw_g (lw_at lw_m2 106 rfl) rfl
theorem q94 : (Jvm.Cond.initialized "java/lang/RuntimeException") ∈ lw_all := lw_g (lw_at lw_m1 8 rfl) rfl
theorem q255 : (Jvm.Cond.instanceMethod ({ cls := "java/lang/RuntimeException", name := "<init>", desc := "(Ljava/lang/String;)V" } : Jvm.MethodName)) ∈ lw_all := lw_g (lw_at lw_m1 169 rfl) rfl
theorem q256 : (Jvm.Cond.code ({ cls := "java/lang/RuntimeException", name := "<init>", desc := "(Ljava/lang/String;)V" } : Jvm.MethodName) prog_28_method_2_code (2 : Nat) (Option.none : Option Jvm.ClassFile.FieldType)) ∈ lw_all := lw_g (lw_at lw_m1 170 rfl) rfl
theorem q257 : (Jvm.Cond.methodLink "java/lang/RuntimeException" (7 : Nat) ({ cls := "java/lang/Exception", name := "<init>", desc := "(Ljava/lang/String;)V" } : Jvm.MethodName)) ∈ lw_all := lw_g (lw_at lw_m1 171 rfl) rfl
theorem q286 : (Jvm.Cond.sameMethod "java/lang/RuntimeException" "java/lang/Throwable" "fillInStackTrace" "()Ljava/lang/Throwable;") ∈ lw_all := lw_g (lw_at lw_m1 200 rfl) rfl
theorem q289 : (Jvm.Cond.superclass "java/lang/RuntimeException" "java/lang/Exception") ∈ lw_all := lw_g (lw_at lw_m1 203 rfl) rfl
theorem q316 : (Jvm.Cond.declares ({ cls := "java/lang/RuntimeException", name := "<init>", desc := "()V" } : Jvm.MethodName)) ∈ lw_tbl := lw_at lw_m1 230 rfl
theorem q317 : (Jvm.Cond.declares ({ cls := "java/lang/RuntimeException", name := "<init>", desc := "(Ljava/lang/String;)V" } : Jvm.MethodName)) ∈ lw_tbl := lw_at lw_m1 231 rfl
theorem q394 : (Jvm.Cond.instanceMethod ({ cls := "java/lang/RuntimeException", name := "<init>", desc := "(Ljava/lang/String;Ljava/lang/Throwable;ZZ)V" } : Jvm.MethodName)) ∈ lw_all := lw_g (lw_at lw_m2 68 rfl) rfl
theorem q395 : (Jvm.Cond.code ({ cls := "java/lang/RuntimeException", name := "<init>", desc := "(Ljava/lang/String;Ljava/lang/Throwable;ZZ)V" } : Jvm.MethodName) prog_28_method_5_code (5 : Nat) (Option.none : Option Jvm.ClassFile.FieldType)) ∈ lw_all := lw_g (lw_at lw_m2 69 rfl) rfl
theorem q396 : (Jvm.Cond.methodLink "java/lang/RuntimeException" (16 : Nat) ({ cls := "java/lang/Exception", name := "<init>", desc := "(Ljava/lang/String;Ljava/lang/Throwable;ZZ)V" } : Jvm.MethodName)) ∈ lw_all := lw_g (lw_at lw_m2 70 rfl) rfl
theorem q427 : (Jvm.Cond.instanceMethod ({ cls := "java/lang/RuntimeException", name := "<init>", desc := "()V" } : Jvm.MethodName)) ∈ lw_all := lw_g (lw_at lw_m2 101 rfl) rfl
theorem q428 : (Jvm.Cond.code ({ cls := "java/lang/RuntimeException", name := "<init>", desc := "()V" } : Jvm.MethodName) prog_28_method_1_code (1 : Nat) (Option.none : Option Jvm.ClassFile.FieldType)) ∈ lw_all := lw_g (lw_at lw_m2 102 rfl) rfl
theorem q429 : (Jvm.Cond.methodLink "java/lang/RuntimeException" (1 : Nat) ({ cls := "java/lang/Exception", name := "<init>", desc := "()V" } : Jvm.MethodName)) ∈ lw_all := lw_g (lw_at lw_m2 103 rfl) rfl
theorem q447 : (Jvm.Cond.castable "java/lang/RuntimeException" "java/lang/Throwable") ∈ lw_tbl := lw_at lw_m2 121 rfl
theorem q95 : (Jvm.Cond.initialized "java/lang/NegativeArraySizeException") ∈ lw_all := lw_g (lw_at lw_m1 9 rfl) rfl
theorem q251 : (Jvm.Cond.instantiable "java/lang/NegativeArraySizeException" (6 : Nat)) ∈ lw_all := lw_g (lw_at lw_m1 165 rfl) rfl
theorem q252 : (Jvm.Cond.instanceMethod ({ cls := "java/lang/NegativeArraySizeException", name := "<init>", desc := "(Ljava/lang/String;)V" } : Jvm.MethodName)) ∈ lw_all := lw_g (lw_at lw_m1 166 rfl) rfl
theorem q253 : (Jvm.Cond.code ({ cls := "java/lang/NegativeArraySizeException", name := "<init>", desc := "(Ljava/lang/String;)V" } : Jvm.MethodName) prog_26_method_2_code (2 : Nat) (Option.none : Option Jvm.ClassFile.FieldType)) ∈ lw_all := lw_g (lw_at lw_m1 167 rfl) rfl
theorem q254 : (Jvm.Cond.methodLink "java/lang/NegativeArraySizeException" (7 : Nat) ({ cls := "java/lang/RuntimeException", name := "<init>", desc := "(Ljava/lang/String;)V" } : Jvm.MethodName)) ∈ lw_all := lw_g (lw_at lw_m1 168 rfl) rfl
theorem q276 : (Jvm.Cond.selects "java/lang/NegativeArraySizeException" ({ cls := "java/lang/Throwable", name := "fillInStackTrace", desc := "()Ljava/lang/Throwable;" } : Jvm.MethodName) ({ cls := "java/lang/Throwable", name := "fillInStackTrace", desc := "()Ljava/lang/Throwable;" } : Jvm.MethodName)) ∈ lw_all := lw_g (lw_at lw_m1 190 rfl) rfl
theorem q302 : (Jvm.Cond.lays "java/lang/NegativeArraySizeException" "java/lang/Throwable" "backtrace" "Ljava/lang/Object;") ∈ lw_all := lw_g (lw_at lw_m1 216 rfl) rfl
theorem q304 : (Jvm.Cond.lays "java/lang/NegativeArraySizeException" "java/lang/Throwable" "detailMessage" "Ljava/lang/String;") ∈ lw_all := lw_g (lw_at lw_m1 218 rfl) rfl
theorem q306 : (Jvm.Cond.lays "java/lang/NegativeArraySizeException" "java/lang/Throwable" "cause" "Ljava/lang/Throwable;") ∈ lw_all := lw_g (lw_at lw_m1 220 rfl) rfl
theorem q308 : (Jvm.Cond.lays "java/lang/NegativeArraySizeException" "java/lang/Throwable" "stackTrace" "[Ljava/lang/StackTraceElement;") ∈ lw_all := lw_g (lw_at lw_m1 222 rfl) rfl
theorem q310 : (Jvm.Cond.lays "java/lang/NegativeArraySizeException" "java/lang/Throwable" "depth" "I") ∈ lw_all := lw_g (lw_at lw_m1 224 rfl) rfl
theorem q312 : (Jvm.Cond.lays "java/lang/NegativeArraySizeException" "java/lang/Throwable" "suppressedExceptions" "Ljava/util/List;") ∈ lw_all := lw_g (lw_at lw_m1 226 rfl) rfl
theorem q314 : (Jvm.Cond.superclass "java/lang/NegativeArraySizeException" "java/lang/RuntimeException") ∈ lw_all := lw_g (lw_at lw_m1 228 rfl) rfl
theorem q315 : (Jvm.Cond.castable "java/lang/NegativeArraySizeException" "java/lang/NegativeArraySizeException") ∈ lw_tbl := lw_at lw_m1 229 rfl
theorem q322 : (Jvm.Cond.selects "java/lang/NegativeArraySizeException" ({ cls := "java/lang/Throwable", name := "fillInStackTrace", desc := "(I)Ljava/lang/Throwable;" } : Jvm.MethodName) ({ cls := "java/lang/Throwable", name := "fillInStackTrace", desc := "(I)Ljava/lang/Throwable;" } : Jvm.MethodName)) ∈ lw_all := lw_g (lw_at lw_m1 236 rfl) rfl
theorem q777 : (Jvm.Cond.instanceMethod ({ cls := "java/lang/NegativeArraySizeException", name := "<init>", desc := "()V" } : Jvm.MethodName)) ∈ lw_all := lw_g (lw_at lw_m3 211 rfl) rfl
theorem q778 : (Jvm.Cond.code ({ cls := "java/lang/NegativeArraySizeException", name := "<init>", desc := "()V" } : Jvm.MethodName) prog_26_method_1_code (1 : Nat) (Option.none : Option Jvm.ClassFile.FieldType)) ∈ lw_all := lw_g (lw_at lw_m3 212 rfl) rfl
theorem q779 : (Jvm.Cond.methodLink "java/lang/NegativeArraySizeException" (1 : Nat) ({ cls := "java/lang/RuntimeException", name := "<init>", desc := "()V" } : Jvm.MethodName)) ∈ lw_all := lw_g (lw_at lw_m3 213 rfl) rfl
theorem in_J3 : ∀ w ∈ wsJ30, w ∈ lw_all := lw_in wsJ30 [302, 304, 306, 308, 310, 312] (by decide +kernel) (by decide +kernel)
theorem q96 : (Jvm.Cond.initialized "java/lang/String") ∈ lw_all := lw_g (lw_at lw_m1 10 rfl) rfl
theorem q332 : (Jvm.Cond.instantiable "java/lang/String" (4 : Nat)) ∈ lw_all := lw_g (lw_at lw_m2 6 rfl) rfl
theorem q334 : (Jvm.Cond.laysFinal "java/lang/String" "java/lang/String" "value" "[B") ∈ lw_all := lw_g (lw_at lw_m2 8 rfl) rfl
theorem q335 : (Jvm.Cond.soleField "java/lang/String" "value") ∈ lw_all := lw_g (lw_at lw_m2 9 rfl) rfl
theorem q336 : (Jvm.Cond.laysFinal "java/lang/String" "java/lang/String" "coder" "B") ∈ lw_all := lw_g (lw_at lw_m2 10 rfl) rfl
theorem q337 : (Jvm.Cond.soleField "java/lang/String" "coder") ∈ lw_all := lw_g (lw_at lw_m2 11 rfl) rfl
theorem q768 : (Jvm.Cond.laysStatic "java/lang/String" "COMPACT_STRINGS" "Z") ∈ lw_tbl := lw_at lw_m3 202 rfl
theorem q783 : (Jvm.Cond.fieldLink "java/lang/String" (1048 : Nat) "java/lang/AbstractStringBuilder" "maybeLatin1" "Z") ∈ lw_all := lw_g (lw_at lw_m3 217 rfl) rfl
theorem q859 : (Jvm.Cond.static ({ cls := "java/lang/String", name := "checkBoundsOffCount", desc := "(III)I" } : Jvm.MethodName)) ∈ lw_all := lw_g (lw_at lw_m4 53 rfl) rfl
theorem q860 : (Jvm.Cond.code ({ cls := "java/lang/String", name := "checkBoundsOffCount", desc := "(III)I" } : Jvm.MethodName) prog_29_method_157_code (3 : Nat) (Option.some Jvm.ClassFile.FieldType.int)) ∈ lw_all := lw_g (lw_at lw_m4 54 rfl) rfl
theorem q861 : (Jvm.Cond.fieldLink "java/lang/String" (1053 : Nat) "jdk/internal/util/Preconditions" "SIOOBE_FORMATTER" "Ljava/util/function/BiFunction;") ∈ lw_all := lw_g (lw_at lw_m4 55 rfl) rfl
theorem q863 : (Jvm.Cond.methodLink "java/lang/String" (1065 : Nat) ({ cls := "jdk/internal/util/Preconditions", name := "checkFromIndexSize", desc := "(IIILjava/util/function/BiFunction;)I" } : Jvm.MethodName)) ∈ lw_all := lw_g (lw_at lw_m4 57 rfl) rfl
theorem q882 : (Jvm.Cond.static ({ cls := "java/lang/String", name := "checkIndex", desc := "(II)V" } : Jvm.MethodName)) ∈ lw_all := lw_g (lw_at lw_m4 76 rfl) rfl
theorem q883 : (Jvm.Cond.code ({ cls := "java/lang/String", name := "checkIndex", desc := "(II)V" } : Jvm.MethodName) prog_29_method_155_code (2 : Nat) (Option.none : Option Jvm.ClassFile.FieldType)) ∈ lw_all := lw_g (lw_at lw_m4 77 rfl) rfl
theorem q884 : (Jvm.Cond.methodLink "java/lang/String" (1059 : Nat) ({ cls := "jdk/internal/util/Preconditions", name := "checkIndex", desc := "(IILjava/util/function/BiFunction;)I" } : Jvm.MethodName)) ∈ lw_all := lw_g (lw_at lw_m4 78 rfl) rfl
theorem q893 : (Jvm.Cond.instanceMethod ({ cls := "java/lang/String", name := "<init>", desc := "(Ljava/lang/StringBuilder;)V" } : Jvm.MethodName)) ∈ lw_all := lw_g (lw_at lw_m4 87 rfl) rfl
theorem q894 : (Jvm.Cond.code ({ cls := "java/lang/String", name := "<init>", desc := "(Ljava/lang/StringBuilder;)V" } : Jvm.MethodName) prog_29_method_53_code (2 : Nat) (Option.none : Option Jvm.ClassFile.FieldType)) ∈ lw_all := lw_g (lw_at lw_m4 88 rfl) rfl
theorem q895 : (Jvm.Cond.methodLink "java/lang/String" (489 : Nat) ({ cls := "java/lang/String", name := "<init>", desc := "(Ljava/lang/AbstractStringBuilder;Ljava/lang/Void;)V" } : Jvm.MethodName)) ∈ lw_all := lw_g (lw_at lw_m4 89 rfl) rfl
theorem q896 : (Jvm.Cond.instanceMethod ({ cls := "java/lang/String", name := "<init>", desc := "(Ljava/lang/AbstractStringBuilder;Ljava/lang/Void;)V" } : Jvm.MethodName)) ∈ lw_all := lw_g (lw_at lw_m4 90 rfl) rfl
theorem q897 : (Jvm.Cond.code ({ cls := "java/lang/String", name := "<init>", desc := "(Ljava/lang/AbstractStringBuilder;Ljava/lang/Void;)V" } : Jvm.MethodName) prog_29_method_150_code (5 : Nat) (Option.none : Option Jvm.ClassFile.FieldType)) ∈ lw_all := lw_g (lw_at lw_m4 91 rfl) rfl
theorem q898 : (Jvm.Cond.methodLink "java/lang/String" (1 : Nat) ({ cls := "java/lang/Object", name := "<init>", desc := "()V" } : Jvm.MethodName)) ∈ lw_all := lw_g (lw_at lw_m4 92 rfl) rfl
theorem q899 : (Jvm.Cond.methodLink "java/lang/String" (552 : Nat) ({ cls := "java/lang/AbstractStringBuilder", name := "getValue", desc := "()[B" } : Jvm.MethodName)) ∈ lw_all := lw_g (lw_at lw_m4 93 rfl) rfl
theorem q904 : (Jvm.Cond.methodLink "java/lang/String" (549 : Nat) ({ cls := "java/lang/AbstractStringBuilder", name := "length", desc := "()I" } : Jvm.MethodName)) ∈ lw_all := lw_g (lw_at lw_m4 98 rfl) rfl
theorem q912 : (Jvm.Cond.methodLink "java/lang/String" (1047 : Nat) ({ cls := "java/lang/AbstractStringBuilder", name := "isLatin1", desc := "()Z" } : Jvm.MethodName)) ∈ lw_all := lw_g (lw_at lw_m4 106 rfl) rfl
theorem q913 : (Jvm.Cond.methodLink "java/lang/String" (54 : Nat) ({ cls := "java/util/Arrays", name := "copyOfRange", desc := "([BII)[B" } : Jvm.MethodName)) ∈ lw_all := lw_g (lw_at lw_m4 107 rfl) rfl
theorem q922 : (Jvm.Cond.fieldLink "java/lang/String" (38 : Nat) "java/lang/String" "COMPACT_STRINGS" "Z") ∈ lw_all := lw_g (lw_at lw_m4 116 rfl) rfl
theorem q923 : (Jvm.Cond.methodLink "java/lang/String" (1051 : Nat) ({ cls := "java/lang/StringUTF16", name := "compress", desc := "([BII)[B" } : Jvm.MethodName)) ∈ lw_all := lw_g (lw_at lw_m4 117 rfl) rfl
theorem q933 : (Jvm.Cond.methodLink "java/lang/String" (47 : Nat) ({ cls := "java/lang/StringUTF16", name := "coderFromArrayLen", desc := "([BI)B" } : Jvm.MethodName)) ∈ lw_all := lw_g (lw_at lw_m4 127 rfl) rfl
theorem q936 : (Jvm.Cond.fieldLink "java/lang/String" (9 : Nat) "java/lang/String" "value" "[B") ∈ lw_all := lw_g (lw_at lw_m4 130 rfl) rfl
theorem q937 : (Jvm.Cond.fieldLink "java/lang/String" (15 : Nat) "java/lang/String" "coder" "B") ∈ lw_all := lw_g (lw_at lw_m4 131 rfl) rfl
theorem q938 : (Jvm.Cond.fieldLink "java/lang/String" (19 : Nat) "java/lang/String" "hash" "I") ∈ lw_all := lw_g (lw_at lw_m4 132 rfl) rfl
theorem q939 : (Jvm.Cond.fieldLink "java/lang/String" (23 : Nat) "java/lang/String" "hashIsZero" "Z") ∈ lw_all := lw_g (lw_at lw_m4 133 rfl) rfl
theorem q940 : (Jvm.Cond.lays "java/lang/String" "java/lang/String" "hash" "I") ∈ lw_all := lw_g (lw_at lw_m4 134 rfl) rfl
theorem q941 : (Jvm.Cond.soleField "java/lang/String" "hash") ∈ lw_all := lw_g (lw_at lw_m4 135 rfl) rfl
theorem q942 : (Jvm.Cond.lays "java/lang/String" "java/lang/String" "hashIsZero" "Z") ∈ lw_all := lw_g (lw_at lw_m4 136 rfl) rfl
theorem q943 : (Jvm.Cond.soleField "java/lang/String" "hashIsZero") ∈ lw_all := lw_g (lw_at lw_m4 137 rfl) rfl
theorem q944 : (Jvm.Cond.superclass "java/lang/String" "java/lang/Object") ∈ lw_all := lw_g (lw_at lw_m4 138 rfl) rfl
theorem q975 : (Jvm.Cond.instanceMethod ({ cls := "java/lang/String", name := "hashCode", desc := "()I" } : Jvm.MethodName)) ∈ lw_all := lw_g (lw_at lw_m4 169 rfl) rfl
theorem q976 : (Jvm.Cond.selects "java/lang/String" ({ cls := "java/lang/String", name := "hashCode", desc := "()I" } : Jvm.MethodName) ({ cls := "java/lang/String", name := "hashCode", desc := "()I" } : Jvm.MethodName)) ∈ lw_all := lw_g (lw_at lw_m4 170 rfl) rfl
theorem q977 : (Jvm.Cond.code ({ cls := "java/lang/String", name := "hashCode", desc := "()I" } : Jvm.MethodName) prog_29_method_78_code (2 : Nat) (Option.some Jvm.ClassFile.FieldType.int)) ∈ lw_all := lw_g (lw_at lw_m4 171 rfl) rfl
theorem q978 : (Jvm.Cond.methodLink "java/lang/String" (492 : Nat) ({ cls := "java/lang/String", name := "isLatin1", desc := "()Z" } : Jvm.MethodName)) ∈ lw_all := lw_g (lw_at lw_m4 172 rfl) rfl
theorem q979 : (Jvm.Cond.instanceMethod ({ cls := "java/lang/String", name := "isLatin1", desc := "()Z" } : Jvm.MethodName)) ∈ lw_all := lw_g (lw_at lw_m4 173 rfl) rfl
theorem q980 : (Jvm.Cond.selects "java/lang/String" ({ cls := "java/lang/String", name := "isLatin1", desc := "()Z" } : Jvm.MethodName) ({ cls := "java/lang/String", name := "isLatin1", desc := "()Z" } : Jvm.MethodName)) ∈ lw_all := lw_g (lw_at lw_m4 174 rfl) rfl
theorem q981 : (Jvm.Cond.code ({ cls := "java/lang/String", name := "isLatin1", desc := "()Z" } : Jvm.MethodName) prog_29_method_154_code (1 : Nat) (Option.some Jvm.ClassFile.FieldType.boolean)) ∈ lw_all := lw_g (lw_at lw_m4 175 rfl) rfl
theorem q982 : (Jvm.Cond.methodLink "java/lang/String" (628 : Nat) ({ cls := "java/lang/StringLatin1", name := "hashCode", desc := "([B)I" } : Jvm.MethodName)) ∈ lw_all := lw_g (lw_at lw_m4 176 rfl) rfl
theorem q1023 : (Jvm.Cond.methodLink "java/lang/String" (632 : Nat) ({ cls := "java/lang/StringUTF16", name := "hashCode", desc := "([B)I" } : Jvm.MethodName)) ∈ lw_all := lw_g (lw_at lw_m4 217 rfl) rfl
theorem q1029 : (Jvm.Cond.instanceMethod ({ cls := "java/lang/String", name := "equals", desc := "(Ljava/lang/Object;)Z" } : Jvm.MethodName)) ∈ lw_all := lw_g (lw_at lw_m4 223 rfl) rfl
theorem q1030 : (Jvm.Cond.selects "java/lang/String" ({ cls := "java/lang/String", name := "equals", desc := "(Ljava/lang/Object;)Z" } : Jvm.MethodName) ({ cls := "java/lang/String", name := "equals", desc := "(Ljava/lang/Object;)Z" } : Jvm.MethodName)) ∈ lw_all := lw_g (lw_at lw_m4 224 rfl) rfl
theorem q1031 : (Jvm.Cond.code ({ cls := "java/lang/String", name := "equals", desc := "(Ljava/lang/Object;)Z" } : Jvm.MethodName) prog_29_method_66_code (3 : Nat) (Option.some Jvm.ClassFile.FieldType.boolean)) ∈ lw_all := lw_g (lw_at lw_m4 225 rfl) rfl
theorem q1032 : (Jvm.Cond.classLink "java/lang/String" (10 : Nat) "java/lang/String") ∈ lw_all := lw_g (lw_at lw_m4 226 rfl) rfl
theorem q1033 : (Jvm.Cond.methodLink "java/lang/String" (541 : Nat) ({ cls := "java/lang/StringLatin1", name := "equals", desc := "([B[B)Z" } : Jvm.MethodName)) ∈ lw_all := lw_g (lw_at lw_m4 227 rfl) rfl
theorem q1653 : (Jvm.Cond.instanceMethod ({ cls := "java/lang/String", name := "length", desc := "()I" } : Jvm.MethodName)) ∈ lw_all := lw_g (lw_at lw_m7 127 rfl) rfl
theorem q1654 : (Jvm.Cond.selects "java/lang/String" ({ cls := "java/lang/String", name := "length", desc := "()I" } : Jvm.MethodName) ({ cls := "java/lang/String", name := "length", desc := "()I" } : Jvm.MethodName)) ∈ lw_all := lw_g (lw_at lw_m7 128 rfl) rfl
theorem q1655 : (Jvm.Cond.code ({ cls := "java/lang/String", name := "length", desc := "()I" } : Jvm.MethodName) prog_29_method_54_code (1 : Nat) (Option.some Jvm.ClassFile.FieldType.int)) ∈ lw_all := lw_g (lw_at lw_m7 129 rfl) rfl
theorem q1656 : (Jvm.Cond.methodLink "java/lang/String" (335 : Nat) ({ cls := "java/lang/String", name := "coder", desc := "()B" } : Jvm.MethodName)) ∈ lw_all := lw_g (lw_at lw_m7 130 rfl) rfl
theorem q1657 : (Jvm.Cond.instanceMethod ({ cls := "java/lang/String", name := "coder", desc := "()B" } : Jvm.MethodName)) ∈ lw_all := lw_g (lw_at lw_m7 131 rfl) rfl
theorem q1658 : (Jvm.Cond.selects "java/lang/String" ({ cls := "java/lang/String", name := "coder", desc := "()B" } : Jvm.MethodName) ({ cls := "java/lang/String", name := "coder", desc := "()B" } : Jvm.MethodName)) ∈ lw_all := lw_g (lw_at lw_m7 132 rfl) rfl
theorem q1659 : (Jvm.Cond.code ({ cls := "java/lang/String", name := "coder", desc := "()B" } : Jvm.MethodName) prog_29_method_152_code (1 : Nat) (Option.some Jvm.ClassFile.FieldType.byte)) ∈ lw_all := lw_g (lw_at lw_m7 133 rfl) rfl
theorem q1661 : (Jvm.Cond.instanceMethod ({ cls := "java/lang/String", name := "charAt", desc := "(I)C" } : Jvm.MethodName)) ∈ lw_all := lw_g (lw_at lw_m7 135 rfl) rfl
theorem q1662 : (Jvm.Cond.selects "java/lang/String" ({ cls := "java/lang/String", name := "charAt", desc := "(I)C" } : Jvm.MethodName) ({ cls := "java/lang/String", name := "charAt", desc := "(I)C" } : Jvm.MethodName)) ∈ lw_all := lw_g (lw_at lw_m7 136 rfl) rfl
theorem q1663 : (Jvm.Cond.code ({ cls := "java/lang/String", name := "charAt", desc := "(I)C" } : Jvm.MethodName) prog_29_method_56_code (2 : Nat) (Option.some Jvm.ClassFile.FieldType.char)) ∈ lw_all := lw_g (lw_at lw_m7 137 rfl) rfl
theorem q1664 : (Jvm.Cond.methodLink "java/lang/String" (495 : Nat) ({ cls := "java/lang/StringLatin1", name := "charAt", desc := "([BI)C" } : Jvm.MethodName)) ∈ lw_all := lw_g (lw_at lw_m7 138 rfl) rfl
theorem q1668 : (Jvm.Cond.methodLink "java/lang/String" (498 : Nat) ({ cls := "java/lang/StringUTF16", name := "charAt", desc := "([BI)C" } : Jvm.MethodName)) ∈ lw_all := lw_g (lw_at lw_m7 142 rfl) rfl
theorem in_J4 : ∀ w ∈ wsJ40, w ∈ lw_all := lw_in wsJ40 [334, 336, 940, 942] (by decide +kernel) (by decide +kernel)
theorem q97 : (Jvm.Cond.initialized "java/lang/IndexOutOfBoundsException") ∈ lw_all := lw_g (lw_at lw_m1 11 rfl) rfl
theorem q363 : (Jvm.Cond.instanceMethod ({ cls := "java/lang/IndexOutOfBoundsException", name := "<init>", desc := "(Ljava/lang/String;)V" } : Jvm.MethodName)) ∈ lw_all := lw_g (lw_at lw_m2 37 rfl) rfl
theorem q364 : (Jvm.Cond.code ({ cls := "java/lang/IndexOutOfBoundsException", name := "<init>", desc := "(Ljava/lang/String;)V" } : Jvm.MethodName) prog_23_method_2_code (2 : Nat) (Option.none : Option Jvm.ClassFile.FieldType)) ∈ lw_all := lw_g (lw_at lw_m2 38 rfl) rfl
theorem q365 : (Jvm.Cond.methodLink "java/lang/IndexOutOfBoundsException" (7 : Nat) ({ cls := "java/lang/RuntimeException", name := "<init>", desc := "(Ljava/lang/String;)V" } : Jvm.MethodName)) ∈ lw_all := lw_g (lw_at lw_m2 39 rfl) rfl
theorem q374 : (Jvm.Cond.declares ({ cls := "java/lang/IndexOutOfBoundsException", name := "<init>", desc := "()V" } : Jvm.MethodName)) ∈ lw_tbl := lw_at lw_m2 48 rfl
theorem q375 : (Jvm.Cond.declares ({ cls := "java/lang/IndexOutOfBoundsException", name := "<init>", desc := "(Ljava/lang/String;)V" } : Jvm.MethodName)) ∈ lw_tbl := lw_at lw_m2 49 rfl
theorem q98 : (Jvm.Cond.initialized "java/lang/ArrayIndexOutOfBoundsException") ∈ lw_all := lw_g (lw_at lw_m1 12 rfl) rfl
theorem q273 : (Jvm.Cond.selects "java/lang/ArrayIndexOutOfBoundsException" ({ cls := "java/lang/Throwable", name := "fillInStackTrace", desc := "()Ljava/lang/Throwable;" } : Jvm.MethodName) ({ cls := "java/lang/Throwable", name := "fillInStackTrace", desc := "()Ljava/lang/Throwable;" } : Jvm.MethodName)) ∈ lw_all := lw_g (lw_at lw_m1 187 rfl) rfl
theorem q359 : (Jvm.Cond.instantiable "java/lang/ArrayIndexOutOfBoundsException" (6 : Nat)) ∈ lw_all := lw_g (lw_at lw_m2 33 rfl) rfl
theorem q360 : (Jvm.Cond.instanceMethod ({ cls := "java/lang/ArrayIndexOutOfBoundsException", name := "<init>", desc := "(Ljava/lang/String;)V" } : Jvm.MethodName)) ∈ lw_all := lw_g (lw_at lw_m2 34 rfl) rfl
theorem q361 : (Jvm.Cond.code ({ cls := "java/lang/ArrayIndexOutOfBoundsException", name := "<init>", desc := "(Ljava/lang/String;)V" } : Jvm.MethodName) prog_18_method_2_code (2 : Nat) (Option.none : Option Jvm.ClassFile.FieldType)) ∈ lw_all := lw_g (lw_at lw_m2 35 rfl) rfl
theorem q362 : (Jvm.Cond.methodLink "java/lang/ArrayIndexOutOfBoundsException" (7 : Nat) ({ cls := "java/lang/IndexOutOfBoundsException", name := "<init>", desc := "(Ljava/lang/String;)V" } : Jvm.MethodName)) ∈ lw_all := lw_g (lw_at lw_m2 36 rfl) rfl
theorem q366 : (Jvm.Cond.lays "java/lang/ArrayIndexOutOfBoundsException" "java/lang/Throwable" "backtrace" "Ljava/lang/Object;") ∈ lw_all := lw_g (lw_at lw_m2 40 rfl) rfl
theorem q367 : (Jvm.Cond.lays "java/lang/ArrayIndexOutOfBoundsException" "java/lang/Throwable" "detailMessage" "Ljava/lang/String;") ∈ lw_all := lw_g (lw_at lw_m2 41 rfl) rfl
theorem q368 : (Jvm.Cond.lays "java/lang/ArrayIndexOutOfBoundsException" "java/lang/Throwable" "cause" "Ljava/lang/Throwable;") ∈ lw_all := lw_g (lw_at lw_m2 42 rfl) rfl
theorem q369 : (Jvm.Cond.lays "java/lang/ArrayIndexOutOfBoundsException" "java/lang/Throwable" "stackTrace" "[Ljava/lang/StackTraceElement;") ∈ lw_all := lw_g (lw_at lw_m2 43 rfl) rfl
theorem q370 : (Jvm.Cond.lays "java/lang/ArrayIndexOutOfBoundsException" "java/lang/Throwable" "depth" "I") ∈ lw_all := lw_g (lw_at lw_m2 44 rfl) rfl
theorem q371 : (Jvm.Cond.lays "java/lang/ArrayIndexOutOfBoundsException" "java/lang/Throwable" "suppressedExceptions" "Ljava/util/List;") ∈ lw_all := lw_g (lw_at lw_m2 45 rfl) rfl
theorem q372 : (Jvm.Cond.superclass "java/lang/ArrayIndexOutOfBoundsException" "java/lang/IndexOutOfBoundsException") ∈ lw_all := lw_g (lw_at lw_m2 46 rfl) rfl
theorem q373 : (Jvm.Cond.castable "java/lang/ArrayIndexOutOfBoundsException" "java/lang/ArrayIndexOutOfBoundsException") ∈ lw_tbl := lw_at lw_m2 47 rfl
theorem q376 : (Jvm.Cond.selects "java/lang/ArrayIndexOutOfBoundsException" ({ cls := "java/lang/Throwable", name := "fillInStackTrace", desc := "(I)Ljava/lang/Throwable;" } : Jvm.MethodName) ({ cls := "java/lang/Throwable", name := "fillInStackTrace", desc := "(I)Ljava/lang/Throwable;" } : Jvm.MethodName)) ∈ lw_all := lw_g (lw_at lw_m2 50 rfl) rfl
theorem q1953 : (Jvm.Cond.castable "java/lang/ArrayIndexOutOfBoundsException" "java/lang/IndexOutOfBoundsException") ∈ lw_tbl := lw_at lw_m8 187 rfl
theorem in_J6 : ∀ w ∈ wsJ60, w ∈ lw_all := lw_in wsJ60 [366, 367, 368, 369, 370, 371] (by decide +kernel) (by decide +kernel)
theorem q100 : (Jvm.Cond.initialized "java/lang/NullPointerException") ∈ lw_all := lw_g (lw_at lw_m1 14 rfl) rfl
theorem q277 : (Jvm.Cond.selects "java/lang/NullPointerException" ({ cls := "java/lang/Throwable", name := "fillInStackTrace", desc := "()Ljava/lang/Throwable;" } : Jvm.MethodName) ({ cls := "java/lang/NullPointerException", name := "fillInStackTrace", desc := "()Ljava/lang/Throwable;" } : Jvm.MethodName)) ∈ lw_all := lw_g (lw_at lw_m1 191 rfl) rfl
theorem q278 : (Jvm.Cond.instanceMethod ({ cls := "java/lang/NullPointerException", name := "fillInStackTrace", desc := "()Ljava/lang/Throwable;" } : Jvm.MethodName)) ∈ lw_all := lw_g (lw_at lw_m1 192 rfl) rfl
theorem q279 : (Jvm.Cond.codeSync ({ cls := "java/lang/NullPointerException", name := "fillInStackTrace", desc := "()Ljava/lang/Throwable;" } : Jvm.MethodName) prog_27_method_3_code (1 : Nat) (Option.some (Jvm.ClassFile.FieldType.object "java/lang/Throwable"))) ∈ lw_all := lw_g (lw_at lw_m1 193 rfl) rfl
theorem q280 : (Jvm.Cond.methodLink "java/lang/NullPointerException" (16 : Nat) ({ cls := "java/lang/NullPointerException", name := "getExtendedNPEMessage", desc := "()Ljava/lang/String;" } : Jvm.MethodName)) ∈ lw_all := lw_g (lw_at lw_m1 194 rfl) rfl
theorem q281 : (Jvm.Cond.privateMethod ({ cls := "java/lang/NullPointerException", name := "getExtendedNPEMessage", desc := "()Ljava/lang/String;" } : Jvm.MethodName)) ∈ lw_tbl := lw_at lw_m1 195 rfl
theorem q282 : (Jvm.Cond.instanceMethod ({ cls := "java/lang/NullPointerException", name := "getExtendedNPEMessage", desc := "()Ljava/lang/String;" } : Jvm.MethodName)) ∈ lw_all := lw_g (lw_at lw_m1 196 rfl) rfl
theorem q283 : (Jvm.Cond.instantiable "java/lang/NullPointerException" (8 : Nat)) ∈ lw_all := lw_g (lw_at lw_m1 197 rfl) rfl
theorem q284 : (Jvm.Cond.native ({ cls := "java/lang/NullPointerException", name := "getExtendedNPEMessage", desc := "()Ljava/lang/String;" } : Jvm.MethodName)) ∈ lw_all := lw_g (lw_at lw_m1 198 rfl) rfl
theorem q285 : (Jvm.Cond.methodLink "java/lang/NullPointerException" (24 : Nat) ({ cls := "java/lang/RuntimeException", name := "fillInStackTrace", desc := "()Ljava/lang/Throwable;" } : Jvm.MethodName)) ∈ lw_all := lw_g (lw_at lw_m1 199 rfl) rfl
theorem q288 : (Jvm.Cond.superclass "java/lang/NullPointerException" "java/lang/RuntimeException") ∈ lw_all := lw_g (lw_at lw_m1 202 rfl) rfl
theorem q424 : (Jvm.Cond.instanceMethod ({ cls := "java/lang/NullPointerException", name := "<init>", desc := "()V" } : Jvm.MethodName)) ∈ lw_all := lw_g (lw_at lw_m2 98 rfl) rfl
theorem q425 : (Jvm.Cond.code ({ cls := "java/lang/NullPointerException", name := "<init>", desc := "()V" } : Jvm.MethodName) prog_27_method_1_code (1 : Nat) (Option.none : Option Jvm.ClassFile.FieldType)) ∈ lw_all := lw_g (lw_at lw_m2 99 rfl) rfl
theorem q426 : (Jvm.Cond.methodLink "java/lang/NullPointerException" (1 : Nat) ({ cls := "java/lang/RuntimeException", name := "<init>", desc := "()V" } : Jvm.MethodName)) ∈ lw_all := lw_g (lw_at lw_m2 100 rfl) rfl
theorem q433 : (Jvm.Cond.fieldLink "java/lang/NullPointerException" (10 : Nat) "java/lang/NullPointerException" "extendedMessageState" "I") ∈ lw_all := lw_g (lw_at lw_m2 107 rfl) rfl
theorem q434 : (Jvm.Cond.fieldLink "java/lang/NullPointerException" (20 : Nat) "java/lang/NullPointerException" "extendedMessage" "Ljava/lang/String;") ∈ lw_all := lw_g (lw_at lw_m2 108 rfl) rfl
theorem q435 : (Jvm.Cond.lays "java/lang/NullPointerException" "java/lang/NullPointerException" "extendedMessageState" "I") ∈ lw_all := lw_g (lw_at lw_m2 109 rfl) rfl
theorem q436 : (Jvm.Cond.soleField "java/lang/NullPointerException" "extendedMessageState") ∈ lw_all := lw_g (lw_at lw_m2 110 rfl) rfl
theorem q437 : (Jvm.Cond.lays "java/lang/NullPointerException" "java/lang/NullPointerException" "extendedMessage" "Ljava/lang/String;") ∈ lw_all := lw_g (lw_at lw_m2 111 rfl) rfl
theorem q438 : (Jvm.Cond.soleField "java/lang/NullPointerException" "extendedMessage") ∈ lw_all := lw_g (lw_at lw_m2 112 rfl) rfl
theorem q439 : (Jvm.Cond.lays "java/lang/NullPointerException" "java/lang/Throwable" "backtrace" "Ljava/lang/Object;") ∈ lw_all := lw_g (lw_at lw_m2 113 rfl) rfl
theorem q440 : (Jvm.Cond.lays "java/lang/NullPointerException" "java/lang/Throwable" "detailMessage" "Ljava/lang/String;") ∈ lw_all := lw_g (lw_at lw_m2 114 rfl) rfl
theorem q441 : (Jvm.Cond.lays "java/lang/NullPointerException" "java/lang/Throwable" "cause" "Ljava/lang/Throwable;") ∈ lw_all := lw_g (lw_at lw_m2 115 rfl) rfl
theorem q442 : (Jvm.Cond.lays "java/lang/NullPointerException" "java/lang/Throwable" "stackTrace" "[Ljava/lang/StackTraceElement;") ∈ lw_all := lw_g (lw_at lw_m2 116 rfl) rfl
theorem q443 : (Jvm.Cond.lays "java/lang/NullPointerException" "java/lang/Throwable" "depth" "I") ∈ lw_all := lw_g (lw_at lw_m2 117 rfl) rfl
theorem q444 : (Jvm.Cond.lays "java/lang/NullPointerException" "java/lang/Throwable" "suppressedExceptions" "Ljava/util/List;") ∈ lw_all := lw_g (lw_at lw_m2 118 rfl) rfl
theorem q445 : (Jvm.Cond.castable "java/lang/NullPointerException" "java/lang/NullPointerException") ∈ lw_tbl := lw_at lw_m2 119 rfl
theorem q446 : (Jvm.Cond.selects "java/lang/NullPointerException" ({ cls := "java/lang/Throwable", name := "fillInStackTrace", desc := "(I)Ljava/lang/Throwable;" } : Jvm.MethodName) ({ cls := "java/lang/Throwable", name := "fillInStackTrace", desc := "(I)Ljava/lang/Throwable;" } : Jvm.MethodName)) ∈ lw_all := lw_g (lw_at lw_m2 120 rfl) rfl
theorem in_J7 : ∀ w ∈ wsJ70, w ∈ lw_all := lw_in wsJ70 [439, 440, 441, 442, 443, 444, 435, 437] (by decide +kernel) (by decide +kernel)
theorem q101 : (Jvm.Cond.initialized "java/lang/ArrayStoreException") ∈ lw_all := lw_g (lw_at lw_m1 15 rfl) rfl
theorem q274 : (Jvm.Cond.selects "java/lang/ArrayStoreException" ({ cls := "java/lang/Throwable", name := "fillInStackTrace", desc := "()Ljava/lang/Throwable;" } : Jvm.MethodName) ({ cls := "java/lang/Throwable", name := "fillInStackTrace", desc := "()Ljava/lang/Throwable;" } : Jvm.MethodName)) ∈ lw_all := lw_g (lw_at lw_m1 188 rfl) rfl
theorem q449 : (Jvm.Cond.instantiable "java/lang/ArrayStoreException" (6 : Nat)) ∈ lw_all := lw_g (lw_at lw_m2 123 rfl) rfl
theorem q450 : (Jvm.Cond.instanceMethod ({ cls := "java/lang/ArrayStoreException", name := "<init>", desc := "(Ljava/lang/String;)V" } : Jvm.MethodName)) ∈ lw_all := lw_g (lw_at lw_m2 124 rfl) rfl
theorem q451 : (Jvm.Cond.code ({ cls := "java/lang/ArrayStoreException", name := "<init>", desc := "(Ljava/lang/String;)V" } : Jvm.MethodName) prog_19_method_2_code (2 : Nat) (Option.none : Option Jvm.ClassFile.FieldType)) ∈ lw_all := lw_g (lw_at lw_m2 125 rfl) rfl
theorem q452 : (Jvm.Cond.methodLink "java/lang/ArrayStoreException" (7 : Nat) ({ cls := "java/lang/RuntimeException", name := "<init>", desc := "(Ljava/lang/String;)V" } : Jvm.MethodName)) ∈ lw_all := lw_g (lw_at lw_m2 126 rfl) rfl
theorem q453 : (Jvm.Cond.lays "java/lang/ArrayStoreException" "java/lang/Throwable" "backtrace" "Ljava/lang/Object;") ∈ lw_all := lw_g (lw_at lw_m2 127 rfl) rfl
theorem q454 : (Jvm.Cond.lays "java/lang/ArrayStoreException" "java/lang/Throwable" "detailMessage" "Ljava/lang/String;") ∈ lw_all := lw_g (lw_at lw_m2 128 rfl) rfl
theorem q455 : (Jvm.Cond.lays "java/lang/ArrayStoreException" "java/lang/Throwable" "cause" "Ljava/lang/Throwable;") ∈ lw_all := lw_g (lw_at lw_m2 129 rfl) rfl
theorem q456 : (Jvm.Cond.lays "java/lang/ArrayStoreException" "java/lang/Throwable" "stackTrace" "[Ljava/lang/StackTraceElement;") ∈ lw_all := lw_g (lw_at lw_m2 130 rfl) rfl
theorem q457 : (Jvm.Cond.lays "java/lang/ArrayStoreException" "java/lang/Throwable" "depth" "I") ∈ lw_all := lw_g (lw_at lw_m2 131 rfl) rfl
theorem q458 : (Jvm.Cond.lays "java/lang/ArrayStoreException" "java/lang/Throwable" "suppressedExceptions" "Ljava/util/List;") ∈ lw_all := lw_g (lw_at lw_m2 132 rfl) rfl
theorem q459 : (Jvm.Cond.superclass "java/lang/ArrayStoreException" "java/lang/RuntimeException") ∈ lw_all := lw_g (lw_at lw_m2 133 rfl) rfl
theorem q460 : (Jvm.Cond.castable "java/lang/ArrayStoreException" "java/lang/ArrayStoreException") ∈ lw_tbl := lw_at lw_m2 134 rfl
theorem q461 : (Jvm.Cond.selects "java/lang/ArrayStoreException" ({ cls := "java/lang/Throwable", name := "fillInStackTrace", desc := "(I)Ljava/lang/Throwable;" } : Jvm.MethodName) ({ cls := "java/lang/Throwable", name := "fillInStackTrace", desc := "(I)Ljava/lang/Throwable;" } : Jvm.MethodName)) ∈ lw_all := lw_g (lw_at lw_m2 135 rfl) rfl
theorem in_J8 : ∀ w ∈ wsJ80, w ∈ lw_all := lw_in wsJ80 [453, 454, 455, 456, 457, 458] (by decide +kernel) (by decide +kernel)
theorem q103 : (Jvm.Cond.initialized "java/lang/ClassCastException") ∈ lw_all := lw_g (lw_at lw_m1 17 rfl) rfl
theorem q275 : (Jvm.Cond.selects "java/lang/ClassCastException" ({ cls := "java/lang/Throwable", name := "fillInStackTrace", desc := "()Ljava/lang/Throwable;" } : Jvm.MethodName) ({ cls := "java/lang/Throwable", name := "fillInStackTrace", desc := "()Ljava/lang/Throwable;" } : Jvm.MethodName)) ∈ lw_all := lw_g (lw_at lw_m1 189 rfl) rfl
theorem q490 : (Jvm.Cond.instantiable "java/lang/ClassCastException" (6 : Nat)) ∈ lw_all := lw_g (lw_at lw_m2 164 rfl) rfl
theorem q491 : (Jvm.Cond.instanceMethod ({ cls := "java/lang/ClassCastException", name := "<init>", desc := "(Ljava/lang/String;)V" } : Jvm.MethodName)) ∈ lw_all := lw_g (lw_at lw_m2 165 rfl) rfl
theorem q492 : (Jvm.Cond.code ({ cls := "java/lang/ClassCastException", name := "<init>", desc := "(Ljava/lang/String;)V" } : Jvm.MethodName) prog_20_method_2_code (2 : Nat) (Option.none : Option Jvm.ClassFile.FieldType)) ∈ lw_all := lw_g (lw_at lw_m2 166 rfl) rfl
theorem q493 : (Jvm.Cond.methodLink "java/lang/ClassCastException" (7 : Nat) ({ cls := "java/lang/RuntimeException", name := "<init>", desc := "(Ljava/lang/String;)V" } : Jvm.MethodName)) ∈ lw_all := lw_g (lw_at lw_m2 167 rfl) rfl
theorem q494 : (Jvm.Cond.lays "java/lang/ClassCastException" "java/lang/Throwable" "backtrace" "Ljava/lang/Object;") ∈ lw_all := lw_g (lw_at lw_m2 168 rfl) rfl
theorem q495 : (Jvm.Cond.lays "java/lang/ClassCastException" "java/lang/Throwable" "detailMessage" "Ljava/lang/String;") ∈ lw_all := lw_g (lw_at lw_m2 169 rfl) rfl
theorem q496 : (Jvm.Cond.lays "java/lang/ClassCastException" "java/lang/Throwable" "cause" "Ljava/lang/Throwable;") ∈ lw_all := lw_g (lw_at lw_m2 170 rfl) rfl
theorem q497 : (Jvm.Cond.lays "java/lang/ClassCastException" "java/lang/Throwable" "stackTrace" "[Ljava/lang/StackTraceElement;") ∈ lw_all := lw_g (lw_at lw_m2 171 rfl) rfl
theorem q498 : (Jvm.Cond.lays "java/lang/ClassCastException" "java/lang/Throwable" "depth" "I") ∈ lw_all := lw_g (lw_at lw_m2 172 rfl) rfl
theorem q499 : (Jvm.Cond.lays "java/lang/ClassCastException" "java/lang/Throwable" "suppressedExceptions" "Ljava/util/List;") ∈ lw_all := lw_g (lw_at lw_m2 173 rfl) rfl
theorem q500 : (Jvm.Cond.superclass "java/lang/ClassCastException" "java/lang/RuntimeException") ∈ lw_all := lw_g (lw_at lw_m2 174 rfl) rfl
theorem q501 : (Jvm.Cond.castable "java/lang/ClassCastException" "java/lang/ClassCastException") ∈ lw_tbl := lw_at lw_m2 175 rfl
theorem q502 : (Jvm.Cond.selects "java/lang/ClassCastException" ({ cls := "java/lang/Throwable", name := "fillInStackTrace", desc := "(I)Ljava/lang/Throwable;" } : Jvm.MethodName) ({ cls := "java/lang/Throwable", name := "fillInStackTrace", desc := "(I)Ljava/lang/Throwable;" } : Jvm.MethodName)) ∈ lw_all := lw_g (lw_at lw_m2 176 rfl) rfl
theorem in_J9 : ∀ w ∈ wsJ90, w ∈ lw_all := lw_in wsJ90 [494, 495, 496, 497, 498, 499] (by decide +kernel) (by decide +kernel)
theorem q104 : (Jvm.Cond.initialized "java/lang/Math") ∈ lw_all := lw_g (lw_at lw_m1 18 rfl) rfl
theorem q531 : (Jvm.Cond.static ({ cls := "java/lang/Math", name := "abs", desc := "(I)I" } : Jvm.MethodName)) ∈ lw_all := lw_g (lw_at lw_m2 205 rfl) rfl
theorem q532 : (Jvm.Cond.code ({ cls := "java/lang/Math", name := "abs", desc := "(I)I" } : Jvm.MethodName) prog_25_method_59_code (1 : Nat) (Option.some Jvm.ClassFile.FieldType.int)) ∈ lw_all := lw_g (lw_at lw_m2 206 rfl) rfl
theorem q813 : (Jvm.Cond.static ({ cls := "java/lang/Math", name := "max", desc := "(II)I" } : Jvm.MethodName)) ∈ lw_all := lw_g (lw_at lw_m4 7 rfl) rfl
theorem q814 : (Jvm.Cond.code ({ cls := "java/lang/Math", name := "max", desc := "(II)I" } : Jvm.MethodName) prog_25_method_65_code (2 : Nat) (Option.some Jvm.ClassFile.FieldType.int)) ∈ lw_all := lw_g (lw_at lw_m4 8 rfl) rfl
theorem q831 : (Jvm.Cond.static ({ cls := "java/lang/Math", name := "min", desc := "(II)I" } : Jvm.MethodName)) ∈ lw_all := lw_g (lw_at lw_m4 25 rfl) rfl
theorem q832 : (Jvm.Cond.code ({ cls := "java/lang/Math", name := "min", desc := "(II)I" } : Jvm.MethodName) prog_25_method_69_code (2 : Nat) (Option.some Jvm.ClassFile.FieldType.int)) ∈ lw_all := lw_g (lw_at lw_m4 26 rfl) rfl
theorem q112 : (Jvm.Cond.initialized "java/lang/AbstractStringBuilder") ∈ lw_all := lw_g (lw_at lw_m1 26 rfl) rfl
theorem q764 : (Jvm.Cond.instanceMethod ({ cls := "java/lang/AbstractStringBuilder", name := "<init>", desc := "(I)V" } : Jvm.MethodName)) ∈ lw_all := lw_g (lw_at lw_m3 198 rfl) rfl
theorem q765 : (Jvm.Cond.code ({ cls := "java/lang/AbstractStringBuilder", name := "<init>", desc := "(I)V" } : Jvm.MethodName) prog_17_method_2_code (2 : Nat) (Option.none : Option Jvm.ClassFile.FieldType)) ∈ lw_all := lw_g (lw_at lw_m3 199 rfl) rfl
theorem q766 : (Jvm.Cond.methodLink "java/lang/AbstractStringBuilder" (3 : Nat) ({ cls := "java/lang/Object", name := "<init>", desc := "()V" } : Jvm.MethodName)) ∈ lw_all := lw_g (lw_at lw_m3 200 rfl) rfl
theorem q767 : (Jvm.Cond.fieldLink "java/lang/AbstractStringBuilder" (18 : Nat) "java/lang/String" "COMPACT_STRINGS" "Z") ∈ lw_all := lw_g (lw_at lw_m3 201 rfl) rfl
theorem q769 : (Jvm.Cond.methodLink "java/lang/AbstractStringBuilder" (26 : Nat) ({ cls := "java/lang/StringUTF16", name := "newBytesFor", desc := "(I)[B" } : Jvm.MethodName)) ∈ lw_all := lw_g (lw_at lw_m3 203 rfl) rfl
theorem q781 : (Jvm.Cond.fieldLink "java/lang/AbstractStringBuilder" (15 : Nat) "java/lang/AbstractStringBuilder" "value" "[B") ∈ lw_all := lw_g (lw_at lw_m3 215 rfl) rfl
theorem q782 : (Jvm.Cond.fieldLink "java/lang/AbstractStringBuilder" (22 : Nat) "java/lang/AbstractStringBuilder" "coder" "B") ∈ lw_all := lw_g (lw_at lw_m3 216 rfl) rfl
theorem q784 : (Jvm.Cond.fieldLink "java/lang/AbstractStringBuilder" (79 : Nat) "java/lang/AbstractStringBuilder" "count" "I") ∈ lw_all := lw_g (lw_at lw_m3 218 rfl) rfl
theorem q786 : (Jvm.Cond.soleField "java/lang/AbstractStringBuilder" "value") ∈ lw_all := lw_g (lw_at lw_m3 220 rfl) rfl
theorem q788 : (Jvm.Cond.soleField "java/lang/AbstractStringBuilder" "coder") ∈ lw_all := lw_g (lw_at lw_m3 222 rfl) rfl
theorem q790 : (Jvm.Cond.soleField "java/lang/AbstractStringBuilder" "maybeLatin1") ∈ lw_all := lw_g (lw_at lw_m3 224 rfl) rfl
theorem q792 : (Jvm.Cond.soleField "java/lang/AbstractStringBuilder" "count") ∈ lw_all := lw_g (lw_at lw_m3 226 rfl) rfl
theorem q799 : (Jvm.Cond.instanceMethod ({ cls := "java/lang/AbstractStringBuilder", name := "append", desc := "(C)Ljava/lang/AbstractStringBuilder;" } : Jvm.MethodName)) ∈ lw_all := lw_g (lw_at lw_m3 233 rfl) rfl
theorem q800 : (Jvm.Cond.code ({ cls := "java/lang/AbstractStringBuilder", name := "append", desc := "(C)Ljava/lang/AbstractStringBuilder;" } : Jvm.MethodName) prog_17_method_31_code (2 : Nat) (Option.some (Jvm.ClassFile.FieldType.object "java/lang/AbstractStringBuilder"))) ∈ lw_all := lw_g (lw_at lw_m3 234 rfl) rfl
theorem q801 : (Jvm.Cond.methodLink "java/lang/AbstractStringBuilder" (100 : Nat) ({ cls := "java/lang/AbstractStringBuilder", name := "ensureCapacityInternal", desc := "(I)V" } : Jvm.MethodName)) ∈ lw_all := lw_g (lw_at lw_m3 235 rfl) rfl
theorem q802 : (Jvm.Cond.privateMethod ({ cls := "java/lang/AbstractStringBuilder", name := "ensureCapacityInternal", desc := "(I)V" } : Jvm.MethodName)) ∈ lw_tbl := lw_at lw_m3 236 rfl
theorem q803 : (Jvm.Cond.instanceMethod ({ cls := "java/lang/AbstractStringBuilder", name := "ensureCapacityInternal", desc := "(I)V" } : Jvm.MethodName)) ∈ lw_all := lw_g (lw_at lw_m3 237 rfl) rfl
theorem q804 : (Jvm.Cond.code ({ cls := "java/lang/AbstractStringBuilder", name := "ensureCapacityInternal", desc := "(I)V" } : Jvm.MethodName) prog_17_method_9_code (3 : Nat) (Option.none : Option Jvm.ClassFile.FieldType)) ∈ lw_all := lw_g (lw_at lw_m3 238 rfl) rfl
theorem q805 : (Jvm.Cond.methodLink "java/lang/AbstractStringBuilder" (104 : Nat) ({ cls := "java/lang/AbstractStringBuilder", name := "newCapacity", desc := "(I)I" } : Jvm.MethodName)) ∈ lw_all := lw_g (lw_at lw_m3 239 rfl) rfl
theorem q806 : (Jvm.Cond.privateMethod ({ cls := "java/lang/AbstractStringBuilder", name := "newCapacity", desc := "(I)I" } : Jvm.MethodName)) ∈ lw_tbl := lw_at lw_m4 0 rfl
theorem q807 : (Jvm.Cond.instanceMethod ({ cls := "java/lang/AbstractStringBuilder", name := "newCapacity", desc := "(I)I" } : Jvm.MethodName)) ∈ lw_all := lw_g (lw_at lw_m4 1 rfl) rfl
theorem q808 : (Jvm.Cond.code ({ cls := "java/lang/AbstractStringBuilder", name := "newCapacity", desc := "(I)I" } : Jvm.MethodName) prog_17_method_10_code (6 : Nat) (Option.some Jvm.ClassFile.FieldType.int)) ∈ lw_all := lw_g (lw_at lw_m4 2 rfl) rfl
theorem q809 : (Jvm.Cond.methodLink "java/lang/AbstractStringBuilder" (114 : Nat) ({ cls := "jdk/internal/util/ArraysSupport", name := "newLength", desc := "(III)I" } : Jvm.MethodName)) ∈ lw_all := lw_g (lw_at lw_m4 3 rfl) rfl
theorem q819 : (Jvm.Cond.constant "java/lang/AbstractStringBuilder" (39 : Nat) (2147483647 : Int32)) ∈ lw_all := lw_g (lw_at lw_m4 13 rfl) rfl
theorem q820 : (Jvm.Cond.methodLink "java/lang/AbstractStringBuilder" (108 : Nat) ({ cls := "java/util/Arrays", name := "copyOf", desc := "([BI)[B" } : Jvm.MethodName)) ∈ lw_all := lw_g (lw_at lw_m4 14 rfl) rfl
theorem q834 : (Jvm.Cond.methodLink "java/lang/AbstractStringBuilder" (83 : Nat) ({ cls := "java/lang/AbstractStringBuilder", name := "isLatin1", desc := "()Z" } : Jvm.MethodName)) ∈ lw_all := lw_g (lw_at lw_m4 28 rfl) rfl
theorem q835 : (Jvm.Cond.instanceMethod ({ cls := "java/lang/AbstractStringBuilder", name := "isLatin1", desc := "()Z" } : Jvm.MethodName)) ∈ lw_all := lw_g (lw_at lw_m4 29 rfl) rfl
theorem q836 : (Jvm.Cond.sameMethod "java/lang/AbstractStringBuilder" "java/lang/AbstractStringBuilder" "isLatin1" "()Z") ∈ lw_all := lw_g (lw_at lw_m4 30 rfl) rfl
theorem q838 : (Jvm.Cond.code ({ cls := "java/lang/AbstractStringBuilder", name := "isLatin1", desc := "()Z" } : Jvm.MethodName) prog_17_method_68_code (1 : Nat) (Option.some Jvm.ClassFile.FieldType.boolean)) ∈ lw_all := lw_g (lw_at lw_m4 32 rfl) rfl
theorem q839 : (Jvm.Cond.methodLink "java/lang/AbstractStringBuilder" (191 : Nat) ({ cls := "java/lang/StringLatin1", name := "canEncode", desc := "(C)Z" } : Jvm.MethodName)) ∈ lw_all := lw_g (lw_at lw_m4 33 rfl) rfl
theorem q842 : (Jvm.Cond.methodLink "java/lang/AbstractStringBuilder" (195 : Nat) ({ cls := "java/lang/AbstractStringBuilder", name := "inflate", desc := "()V" } : Jvm.MethodName)) ∈ lw_all := lw_g (lw_at lw_m4 36 rfl) rfl
theorem q843 : (Jvm.Cond.privateMethod ({ cls := "java/lang/AbstractStringBuilder", name := "inflate", desc := "()V" } : Jvm.MethodName)) ∈ lw_tbl := lw_at lw_m4 37 rfl
theorem q844 : (Jvm.Cond.instanceMethod ({ cls := "java/lang/AbstractStringBuilder", name := "inflate", desc := "()V" } : Jvm.MethodName)) ∈ lw_all := lw_g (lw_at lw_m4 38 rfl) rfl
theorem q845 : (Jvm.Cond.code ({ cls := "java/lang/AbstractStringBuilder", name := "inflate", desc := "()V" } : Jvm.MethodName) prog_17_method_11_code (2 : Nat) (Option.none : Option Jvm.ClassFile.FieldType)) ∈ lw_all := lw_g (lw_at lw_m4 39 rfl) rfl
theorem q846 : (Jvm.Cond.methodLink "java/lang/AbstractStringBuilder" (125 : Nat) ({ cls := "java/lang/StringLatin1", name := "inflate", desc := "([BI[BII)V" } : Jvm.MethodName)) ∈ lw_all := lw_g (lw_at lw_m4 40 rfl) rfl
theorem q875 : (Jvm.Cond.methodLink "java/lang/AbstractStringBuilder" (197 : Nat) ({ cls := "java/lang/StringUTF16", name := "putCharSB", desc := "([BII)V" } : Jvm.MethodName)) ∈ lw_all := lw_g (lw_at lw_m4 69 rfl) rfl
theorem q900 : (Jvm.Cond.instanceMethod ({ cls := "java/lang/AbstractStringBuilder", name := "getValue", desc := "()[B" } : Jvm.MethodName)) ∈ lw_all := lw_g (lw_at lw_m4 94 rfl) rfl
theorem q901 : (Jvm.Cond.sameMethod "java/lang/AbstractStringBuilder" "java/lang/AbstractStringBuilder" "getValue" "()[B") ∈ lw_all := lw_g (lw_at lw_m4 95 rfl) rfl
theorem q903 : (Jvm.Cond.code ({ cls := "java/lang/AbstractStringBuilder", name := "getValue", desc := "()[B" } : Jvm.MethodName) prog_17_method_64_code (1 : Nat) (Option.some (Jvm.ClassFile.FieldType.array Jvm.ClassFile.FieldType.byte))) ∈ lw_all := lw_g (lw_at lw_m4 97 rfl) rfl
theorem q905 : (Jvm.Cond.instanceMethod ({ cls := "java/lang/AbstractStringBuilder", name := "length", desc := "()I" } : Jvm.MethodName)) ∈ lw_all := lw_g (lw_at lw_m4 99 rfl) rfl
theorem q906 : (Jvm.Cond.sameMethod "java/lang/AbstractStringBuilder" "java/lang/AbstractStringBuilder" "length" "()I") ∈ lw_all := lw_g (lw_at lw_m4 100 rfl) rfl
theorem q911 : (Jvm.Cond.code ({ cls := "java/lang/AbstractStringBuilder", name := "length", desc := "()I" } : Jvm.MethodName) prog_17_method_6_code (1 : Nat) (Option.some Jvm.ClassFile.FieldType.int)) ∈ lw_all := lw_g (lw_at lw_m4 105 rfl) rfl
theorem q1949 : (Jvm.Cond.sameMethod "java/lang/AbstractStringBuilder" "java/lang/AbstractStringBuilder" "append" "(C)Ljava/lang/AbstractStringBuilder;") ∈ lw_all := lw_g (lw_at lw_m8 183 rfl) rfl
theorem q1950 : (Jvm.Cond.sameMethod "java/lang/AbstractStringBuilder" "java/lang/AbstractStringBuilder" "ensureCapacityInternal" "(I)V") ∈ lw_all := lw_g (lw_at lw_m8 184 rfl) rfl
theorem q1951 : (Jvm.Cond.sameMethod "java/lang/AbstractStringBuilder" "java/lang/AbstractStringBuilder" "newCapacity" "(I)I") ∈ lw_all := lw_g (lw_at lw_m8 185 rfl) rfl
theorem q1952 : (Jvm.Cond.sameMethod "java/lang/AbstractStringBuilder" "java/lang/AbstractStringBuilder" "inflate" "()V") ∈ lw_all := lw_g (lw_at lw_m8 186 rfl) rfl
theorem q113 : (Jvm.Cond.initialized "java/lang/StringBuilder") ∈ lw_all := lw_g (lw_at lw_m1 27 rfl) rfl
theorem q759 : (Jvm.Cond.instantiable "java/lang/StringBuilder" (4 : Nat)) ∈ lw_all := lw_g (lw_at lw_m3 193 rfl) rfl
theorem q761 : (Jvm.Cond.instanceMethod ({ cls := "java/lang/StringBuilder", name := "<init>", desc := "()V" } : Jvm.MethodName)) ∈ lw_all := lw_g (lw_at lw_m3 195 rfl) rfl
theorem q762 : (Jvm.Cond.code ({ cls := "java/lang/StringBuilder", name := "<init>", desc := "()V" } : Jvm.MethodName) prog_30_method_1_code (1 : Nat) (Option.none : Option Jvm.ClassFile.FieldType)) ∈ lw_all := lw_g (lw_at lw_m3 196 rfl) rfl
theorem q763 : (Jvm.Cond.methodLink "java/lang/StringBuilder" (1 : Nat) ({ cls := "java/lang/AbstractStringBuilder", name := "<init>", desc := "(I)V" } : Jvm.MethodName)) ∈ lw_all := lw_g (lw_at lw_m3 197 rfl) rfl
theorem q785 : (Jvm.Cond.lays "java/lang/StringBuilder" "java/lang/AbstractStringBuilder" "value" "[B") ∈ lw_all := lw_g (lw_at lw_m3 219 rfl) rfl
theorem q787 : (Jvm.Cond.lays "java/lang/StringBuilder" "java/lang/AbstractStringBuilder" "coder" "B") ∈ lw_all := lw_g (lw_at lw_m3 221 rfl) rfl
theorem q789 : (Jvm.Cond.lays "java/lang/StringBuilder" "java/lang/AbstractStringBuilder" "maybeLatin1" "Z") ∈ lw_all := lw_g (lw_at lw_m3 223 rfl) rfl
theorem q791 : (Jvm.Cond.lays "java/lang/StringBuilder" "java/lang/AbstractStringBuilder" "count" "I") ∈ lw_all := lw_g (lw_at lw_m3 225 rfl) rfl
theorem q793 : (Jvm.Cond.superclass "java/lang/StringBuilder" "java/lang/AbstractStringBuilder") ∈ lw_all := lw_g (lw_at lw_m3 227 rfl) rfl
theorem q795 : (Jvm.Cond.instanceMethod ({ cls := "java/lang/StringBuilder", name := "append", desc := "(C)Ljava/lang/StringBuilder;" } : Jvm.MethodName)) ∈ lw_all := lw_g (lw_at lw_m3 229 rfl) rfl
theorem q796 : (Jvm.Cond.selects "java/lang/StringBuilder" ({ cls := "java/lang/StringBuilder", name := "append", desc := "(C)Ljava/lang/StringBuilder;" } : Jvm.MethodName) ({ cls := "java/lang/StringBuilder", name := "append", desc := "(C)Ljava/lang/StringBuilder;" } : Jvm.MethodName)) ∈ lw_all := lw_g (lw_at lw_m3 230 rfl) rfl
theorem q797 : (Jvm.Cond.code ({ cls := "java/lang/StringBuilder", name := "append", desc := "(C)Ljava/lang/StringBuilder;" } : Jvm.MethodName) prog_30_method_14_code (2 : Nat) (Option.some (Jvm.ClassFile.FieldType.object "java/lang/StringBuilder"))) ∈ lw_all := lw_g (lw_at lw_m3 231 rfl) rfl
theorem q798 : (Jvm.Cond.methodLink "java/lang/StringBuilder" (50 : Nat) ({ cls := "java/lang/AbstractStringBuilder", name := "append", desc := "(C)Ljava/lang/AbstractStringBuilder;" } : Jvm.MethodName)) ∈ lw_all := lw_g (lw_at lw_m3 232 rfl) rfl
theorem q837 : (Jvm.Cond.selects "java/lang/StringBuilder" ({ cls := "java/lang/AbstractStringBuilder", name := "isLatin1", desc := "()Z" } : Jvm.MethodName) ({ cls := "java/lang/AbstractStringBuilder", name := "isLatin1", desc := "()Z" } : Jvm.MethodName)) ∈ lw_all := lw_g (lw_at lw_m4 31 rfl) rfl
theorem q888 : (Jvm.Cond.instanceMethod ({ cls := "java/lang/StringBuilder", name := "toString", desc := "()Ljava/lang/String;" } : Jvm.MethodName)) ∈ lw_all := lw_g (lw_at lw_m4 82 rfl) rfl
theorem q889 : (Jvm.Cond.selects "java/lang/StringBuilder" ({ cls := "java/lang/StringBuilder", name := "toString", desc := "()Ljava/lang/String;" } : Jvm.MethodName) ({ cls := "java/lang/StringBuilder", name := "toString", desc := "()Ljava/lang/String;" } : Jvm.MethodName)) ∈ lw_all := lw_g (lw_at lw_m4 83 rfl) rfl
theorem q890 : (Jvm.Cond.code ({ cls := "java/lang/StringBuilder", name := "toString", desc := "()Ljava/lang/String;" } : Jvm.MethodName) prog_30_method_42_code (1 : Nat) (Option.some (Jvm.ClassFile.FieldType.object "java/lang/String"))) ∈ lw_all := lw_g (lw_at lw_m4 84 rfl) rfl
theorem q891 : (Jvm.Cond.classLink "java/lang/StringBuilder" (18 : Nat) "java/lang/String") ∈ lw_all := lw_g (lw_at lw_m4 85 rfl) rfl
theorem q892 : (Jvm.Cond.methodLink "java/lang/StringBuilder" (137 : Nat) ({ cls := "java/lang/String", name := "<init>", desc := "(Ljava/lang/StringBuilder;)V" } : Jvm.MethodName)) ∈ lw_all := lw_g (lw_at lw_m4 86 rfl) rfl
theorem q902 : (Jvm.Cond.selects "java/lang/StringBuilder" ({ cls := "java/lang/AbstractStringBuilder", name := "getValue", desc := "()[B" } : Jvm.MethodName) ({ cls := "java/lang/AbstractStringBuilder", name := "getValue", desc := "()[B" } : Jvm.MethodName)) ∈ lw_all := lw_g (lw_at lw_m4 96 rfl) rfl
theorem q907 : (Jvm.Cond.selects "java/lang/StringBuilder" ({ cls := "java/lang/AbstractStringBuilder", name := "length", desc := "()I" } : Jvm.MethodName) ({ cls := "java/lang/StringBuilder", name := "length", desc := "()I" } : Jvm.MethodName)) ∈ lw_all := lw_g (lw_at lw_m4 101 rfl) rfl
theorem q908 : (Jvm.Cond.instanceMethod ({ cls := "java/lang/StringBuilder", name := "length", desc := "()I" } : Jvm.MethodName)) ∈ lw_all := lw_g (lw_at lw_m4 102 rfl) rfl
theorem q909 : (Jvm.Cond.code ({ cls := "java/lang/StringBuilder", name := "length", desc := "()I" } : Jvm.MethodName) prog_30_method_93_code (1 : Nat) (Option.some Jvm.ClassFile.FieldType.int)) ∈ lw_all := lw_g (lw_at lw_m4 103 rfl) rfl
theorem q910 : (Jvm.Cond.methodLink "java/lang/StringBuilder" (343 : Nat) ({ cls := "java/lang/AbstractStringBuilder", name := "length", desc := "()I" } : Jvm.MethodName)) ∈ lw_all := lw_g (lw_at lw_m4 104 rfl) rfl
theorem in_J12 : ∀ w ∈ wsJ120, w ∈ lw_all := lw_in wsJ120 [785, 787, 789, 791] (by decide +kernel) (by decide +kernel)
theorem q114 : (Jvm.Cond.initialized "java/lang/StringUTF16") ∈ lw_all := lw_g (lw_at lw_m1 28 rfl) rfl
theorem q770 : (Jvm.Cond.static ({ cls := "java/lang/StringUTF16", name := "newBytesFor", desc := "(I)[B" } : Jvm.MethodName)) ∈ lw_all := lw_g (lw_at lw_m3 204 rfl) rfl
theorem q771 : (Jvm.Cond.code ({ cls := "java/lang/StringUTF16", name := "newBytesFor", desc := "(I)[B" } : Jvm.MethodName) prog_32_method_2_code (1 : Nat) (Option.some (Jvm.ClassFile.FieldType.array Jvm.ClassFile.FieldType.byte))) ∈ lw_all := lw_g (lw_at lw_m3 205 rfl) rfl
theorem q772 : (Jvm.Cond.methodLink "java/lang/StringUTF16" (11 : Nat) ({ cls := "java/lang/StringUTF16", name := "newBytesLength", desc := "(I)I" } : Jvm.MethodName)) ∈ lw_all := lw_g (lw_at lw_m3 206 rfl) rfl
theorem q773 : (Jvm.Cond.static ({ cls := "java/lang/StringUTF16", name := "newBytesLength", desc := "(I)I" } : Jvm.MethodName)) ∈ lw_all := lw_g (lw_at lw_m3 207 rfl) rfl
theorem q774 : (Jvm.Cond.code ({ cls := "java/lang/StringUTF16", name := "newBytesLength", desc := "(I)I" } : Jvm.MethodName) prog_32_method_3_code (1 : Nat) (Option.some Jvm.ClassFile.FieldType.int)) ∈ lw_all := lw_g (lw_at lw_m3 208 rfl) rfl
theorem q775 : (Jvm.Cond.classLink "java/lang/StringUTF16" (17 : Nat) "java/lang/NegativeArraySizeException") ∈ lw_all := lw_g (lw_at lw_m3 209 rfl) rfl
theorem q776 : (Jvm.Cond.methodLink "java/lang/StringUTF16" (19 : Nat) ({ cls := "java/lang/NegativeArraySizeException", name := "<init>", desc := "()V" } : Jvm.MethodName)) ∈ lw_all := lw_g (lw_at lw_m3 210 rfl) rfl
theorem q780 : (Jvm.Cond.constant "java/lang/StringUTF16" (20 : Nat) (1073741823 : Int32)) ∈ lw_all := lw_g (lw_at lw_m3 214 rfl) rfl
theorem q850 : (Jvm.Cond.static ({ cls := "java/lang/StringUTF16", name := "inflate", desc := "([BI[BII)V" } : Jvm.MethodName)) ∈ lw_all := lw_g (lw_at lw_m4 44 rfl) rfl
theorem q851 : (Jvm.Cond.code ({ cls := "java/lang/StringUTF16", name := "inflate", desc := "([BI[BII)V" } : Jvm.MethodName) prog_32_method_86_code (6 : Nat) (Option.none : Option Jvm.ClassFile.FieldType)) ∈ lw_all := lw_g (lw_at lw_m4 45 rfl) rfl
theorem q852 : (Jvm.Cond.methodLink "java/lang/StringUTF16" (173 : Nat) ({ cls := "java/lang/StringUTF16", name := "checkBoundsOffCount", desc := "(II[B)V" } : Jvm.MethodName)) ∈ lw_all := lw_g (lw_at lw_m4 46 rfl) rfl
theorem q853 : (Jvm.Cond.static ({ cls := "java/lang/StringUTF16", name := "checkBoundsOffCount", desc := "(II[B)V" } : Jvm.MethodName)) ∈ lw_all := lw_g (lw_at lw_m4 47 rfl) rfl
theorem q854 : (Jvm.Cond.code ({ cls := "java/lang/StringUTF16", name := "checkBoundsOffCount", desc := "(II[B)V" } : Jvm.MethodName) prog_32_method_94_code (3 : Nat) (Option.none : Option Jvm.ClassFile.FieldType)) ∈ lw_all := lw_g (lw_at lw_m4 48 rfl) rfl
theorem q855 : (Jvm.Cond.methodLink "java/lang/StringUTF16" (48 : Nat) ({ cls := "java/lang/StringUTF16", name := "length", desc := "([B)I" } : Jvm.MethodName)) ∈ lw_all := lw_g (lw_at lw_m4 49 rfl) rfl
theorem q856 : (Jvm.Cond.static ({ cls := "java/lang/StringUTF16", name := "length", desc := "([B)I" } : Jvm.MethodName)) ∈ lw_all := lw_g (lw_at lw_m4 50 rfl) rfl
theorem q857 : (Jvm.Cond.code ({ cls := "java/lang/StringUTF16", name := "length", desc := "([B)I" } : Jvm.MethodName) prog_32_method_6_code (1 : Nat) (Option.some Jvm.ClassFile.FieldType.int)) ∈ lw_all := lw_g (lw_at lw_m4 51 rfl) rfl
theorem q858 : (Jvm.Cond.methodLink "java/lang/StringUTF16" (419 : Nat) ({ cls := "java/lang/String", name := "checkBoundsOffCount", desc := "(III)I" } : Jvm.MethodName)) ∈ lw_all := lw_g (lw_at lw_m4 52 rfl) rfl
theorem q866 : (Jvm.Cond.methodLink "java/lang/StringUTF16" (111 : Nat) ({ cls := "java/lang/StringUTF16", name := "putChar", desc := "([BII)V" } : Jvm.MethodName)) ∈ lw_all := lw_g (lw_at lw_m4 60 rfl) rfl
theorem q867 : (Jvm.Cond.static ({ cls := "java/lang/StringUTF16", name := "putChar", desc := "([BII)V" } : Jvm.MethodName)) ∈ lw_all := lw_g (lw_at lw_m4 61 rfl) rfl
theorem q868 : (Jvm.Cond.code ({ cls := "java/lang/StringUTF16", name := "putChar", desc := "([BII)V" } : Jvm.MethodName) prog_32_method_4_code (3 : Nat) (Option.none : Option Jvm.ClassFile.FieldType)) ∈ lw_all := lw_g (lw_at lw_m4 62 rfl) rfl
theorem q869 : (Jvm.Cond.fieldLink "java/lang/StringUTF16" (44 : Nat) "java/lang/StringUTF16" "$assertionsDisabled" "Z") ∈ lw_all := lw_g (lw_at lw_m4 63 rfl) rfl
theorem q870 : (Jvm.Cond.laysStatic "java/lang/StringUTF16" "$assertionsDisabled" "Z") ∈ lw_tbl := lw_at lw_m4 64 rfl
theorem q871 : (Jvm.Cond.fieldLink "java/lang/StringUTF16" (59 : Nat) "java/lang/StringUTF16" "HI_BYTE_SHIFT" "I") ∈ lw_all := lw_g (lw_at lw_m4 65 rfl) rfl
theorem q872 : (Jvm.Cond.laysStatic "java/lang/StringUTF16" "HI_BYTE_SHIFT" "I") ∈ lw_tbl := lw_at lw_m4 66 rfl
theorem q873 : (Jvm.Cond.fieldLink "java/lang/StringUTF16" (63 : Nat) "java/lang/StringUTF16" "LO_BYTE_SHIFT" "I") ∈ lw_all := lw_g (lw_at lw_m4 67 rfl) rfl
theorem q874 : (Jvm.Cond.laysStatic "java/lang/StringUTF16" "LO_BYTE_SHIFT" "I") ∈ lw_tbl := lw_at lw_m4 68 rfl
theorem q876 : (Jvm.Cond.static ({ cls := "java/lang/StringUTF16", name := "putCharSB", desc := "([BII)V" } : Jvm.MethodName)) ∈ lw_all := lw_g (lw_at lw_m4 70 rfl) rfl
theorem q877 : (Jvm.Cond.code ({ cls := "java/lang/StringUTF16", name := "putCharSB", desc := "([BII)V" } : Jvm.MethodName) prog_32_method_71_code (3 : Nat) (Option.none : Option Jvm.ClassFile.FieldType)) ∈ lw_all := lw_g (lw_at lw_m4 71 rfl) rfl
theorem q878 : (Jvm.Cond.methodLink "java/lang/StringUTF16" (67 : Nat) ({ cls := "java/lang/StringUTF16", name := "checkIndex", desc := "(I[B)V" } : Jvm.MethodName)) ∈ lw_all := lw_g (lw_at lw_m4 72 rfl) rfl
theorem q879 : (Jvm.Cond.static ({ cls := "java/lang/StringUTF16", name := "checkIndex", desc := "(I[B)V" } : Jvm.MethodName)) ∈ lw_all := lw_g (lw_at lw_m4 73 rfl) rfl
theorem q880 : (Jvm.Cond.code ({ cls := "java/lang/StringUTF16", name := "checkIndex", desc := "(I[B)V" } : Jvm.MethodName) prog_32_method_91_code (2 : Nat) (Option.none : Option Jvm.ClassFile.FieldType)) ∈ lw_all := lw_g (lw_at lw_m4 74 rfl) rfl
theorem q881 : (Jvm.Cond.methodLink "java/lang/StringUTF16" (414 : Nat) ({ cls := "java/lang/String", name := "checkIndex", desc := "(II)V" } : Jvm.MethodName)) ∈ lw_all := lw_g (lw_at lw_m4 75 rfl) rfl
theorem q924 : (Jvm.Cond.static ({ cls := "java/lang/StringUTF16", name := "compress", desc := "([BII)[B" } : Jvm.MethodName)) ∈ lw_all := lw_g (lw_at lw_m4 118 rfl) rfl
theorem q925 : (Jvm.Cond.code ({ cls := "java/lang/StringUTF16", name := "compress", desc := "([BII)[B" } : Jvm.MethodName) prog_32_method_17_code (6 : Nat) (Option.some (Jvm.ClassFile.FieldType.array Jvm.ClassFile.FieldType.byte))) ∈ lw_all := lw_g (lw_at lw_m4 119 rfl) rfl
theorem q926 : (Jvm.Cond.methodLink "java/lang/StringUTF16" (123 : Nat) ({ cls := "java/lang/StringUTF16", name := "compress", desc := "([BI[BII)I" } : Jvm.MethodName)) ∈ lw_all := lw_g (lw_at lw_m4 120 rfl) rfl
theorem q927 : (Jvm.Cond.static ({ cls := "java/lang/StringUTF16", name := "compress", desc := "([BI[BII)I" } : Jvm.MethodName)) ∈ lw_all := lw_g (lw_at lw_m4 121 rfl) rfl
theorem q928 : (Jvm.Cond.code ({ cls := "java/lang/StringUTF16", name := "compress", desc := "([BI[BII)I" } : Jvm.MethodName) prog_32_method_22_code (7 : Nat) (Option.some Jvm.ClassFile.FieldType.int)) ∈ lw_all := lw_g (lw_at lw_m4 122 rfl) rfl
theorem q929 : (Jvm.Cond.methodLink "java/lang/StringUTF16" (71 : Nat) ({ cls := "java/lang/StringUTF16", name := "getChar", desc := "([BI)C" } : Jvm.MethodName)) ∈ lw_all := lw_g (lw_at lw_m4 123 rfl) rfl
theorem q930 : (Jvm.Cond.static ({ cls := "java/lang/StringUTF16", name := "getChar", desc := "([BI)C" } : Jvm.MethodName)) ∈ lw_all := lw_g (lw_at lw_m4 124 rfl) rfl
theorem q931 : (Jvm.Cond.code ({ cls := "java/lang/StringUTF16", name := "getChar", desc := "([BI)C" } : Jvm.MethodName) prog_32_method_5_code (2 : Nat) (Option.some Jvm.ClassFile.FieldType.char)) ∈ lw_all := lw_g (lw_at lw_m4 125 rfl) rfl
theorem q932 : (Jvm.Cond.methodLink "java/lang/StringUTF16" (126 : Nat) ({ cls := "java/util/Arrays", name := "copyOfRange", desc := "([BII)[B" } : Jvm.MethodName)) ∈ lw_all := lw_g (lw_at lw_m4 126 rfl) rfl
theorem q934 : (Jvm.Cond.static ({ cls := "java/lang/StringUTF16", name := "coderFromArrayLen", desc := "([BI)B" } : Jvm.MethodName)) ∈ lw_all := lw_g (lw_at lw_m4 128 rfl) rfl
theorem q935 : (Jvm.Cond.code ({ cls := "java/lang/StringUTF16", name := "coderFromArrayLen", desc := "([BI)B" } : Jvm.MethodName) prog_32_method_15_code (2 : Nat) (Option.some Jvm.ClassFile.FieldType.byte)) ∈ lw_all := lw_g (lw_at lw_m4 129 rfl) rfl
theorem q1024 : (Jvm.Cond.static ({ cls := "java/lang/StringUTF16", name := "hashCode", desc := "([B)I" } : Jvm.MethodName)) ∈ lw_all := lw_g (lw_at lw_m4 218 rfl) rfl
theorem q1025 : (Jvm.Cond.code ({ cls := "java/lang/StringUTF16", name := "hashCode", desc := "([B)I" } : Jvm.MethodName) prog_32_method_39_code (1 : Nat) (Option.some Jvm.ClassFile.FieldType.int)) ∈ lw_all := lw_g (lw_at lw_m4 219 rfl) rfl
theorem q1026 : (Jvm.Cond.methodLink "java/lang/StringUTF16" (220 : Nat) ({ cls := "jdk/internal/util/ArraysSupport", name := "vectorizedHashCode", desc := "(Ljava/lang/Object;IIII)I" } : Jvm.MethodName)) ∈ lw_all := lw_g (lw_at lw_m4 220 rfl) rfl
theorem q1669 : (Jvm.Cond.static ({ cls := "java/lang/StringUTF16", name := "charAt", desc := "([BI)C" } : Jvm.MethodName)) ∈ lw_all := lw_g (lw_at lw_m7 143 rfl) rfl
theorem q1670 : (Jvm.Cond.code ({ cls := "java/lang/StringUTF16", name := "charAt", desc := "([BI)C" } : Jvm.MethodName) prog_32_method_83_code (2 : Nat) (Option.some Jvm.ClassFile.FieldType.char)) ∈ lw_all := lw_g (lw_at lw_m7 144 rfl) rfl
theorem q115 : (Jvm.Cond.initialized "jdk/internal/util/ArraysSupport") ∈ lw_all := lw_g (lw_at lw_m1 29 rfl) rfl
theorem q810 : (Jvm.Cond.static ({ cls := "jdk/internal/util/ArraysSupport", name := "newLength", desc := "(III)I" } : Jvm.MethodName)) ∈ lw_all := lw_g (lw_at lw_m4 4 rfl) rfl
theorem q811 : (Jvm.Cond.code ({ cls := "jdk/internal/util/ArraysSupport", name := "newLength", desc := "(III)I" } : Jvm.MethodName) prog_38_method_27_code (4 : Nat) (Option.some Jvm.ClassFile.FieldType.int)) ∈ lw_all := lw_g (lw_at lw_m4 5 rfl) rfl
theorem q812 : (Jvm.Cond.methodLink "jdk/internal/util/ArraysSupport" (194 : Nat) ({ cls := "java/lang/Math", name := "max", desc := "(II)I" } : Jvm.MethodName)) ∈ lw_all := lw_g (lw_at lw_m4 6 rfl) rfl
theorem q815 : (Jvm.Cond.constant "jdk/internal/util/ArraysSupport" (200 : Nat) (2147483639 : Int32)) ∈ lw_all := lw_g (lw_at lw_m4 9 rfl) rfl
theorem q816 : (Jvm.Cond.methodLink "jdk/internal/util/ArraysSupport" (201 : Nat) ({ cls := "jdk/internal/util/ArraysSupport", name := "hugeLength", desc := "(II)I" } : Jvm.MethodName)) ∈ lw_all := lw_g (lw_at lw_m4 10 rfl) rfl
theorem q817 : (Jvm.Cond.static ({ cls := "jdk/internal/util/ArraysSupport", name := "hugeLength", desc := "(II)I" } : Jvm.MethodName)) ∈ lw_all := lw_g (lw_at lw_m4 11 rfl) rfl
theorem q818 : (Jvm.Cond.code ({ cls := "jdk/internal/util/ArraysSupport", name := "hugeLength", desc := "(II)I" } : Jvm.MethodName) prog_38_method_28_code (3 : Nat) (Option.some Jvm.ClassFile.FieldType.int)) ∈ lw_all := lw_g (lw_at lw_m4 12 rfl) rfl
theorem q986 : (Jvm.Cond.static ({ cls := "jdk/internal/util/ArraysSupport", name := "vectorizedHashCode", desc := "(Ljava/lang/Object;IIII)I" } : Jvm.MethodName)) ∈ lw_all := lw_g (lw_at lw_m4 180 rfl) rfl
theorem q987 : (Jvm.Cond.code ({ cls := "jdk/internal/util/ArraysSupport", name := "vectorizedHashCode", desc := "(Ljava/lang/Object;IIII)I" } : Jvm.MethodName) prog_38_method_4_code (5 : Nat) (Option.some Jvm.ClassFile.FieldType.int)) ∈ lw_all := lw_g (lw_at lw_m4 181 rfl) rfl
theorem q988 : (Jvm.Cond.classLink "jdk/internal/util/ArraysSupport" (60 : Nat) "[B") ∈ lw_all := lw_g (lw_at lw_m4 182 rfl) rfl
theorem q989 : (Jvm.Cond.methodLink "jdk/internal/util/ArraysSupport" (62 : Nat) ({ cls := "jdk/internal/util/ArraysSupport", name := "signedHashCode", desc := "(I[BII)I" } : Jvm.MethodName)) ∈ lw_all := lw_g (lw_at lw_m4 183 rfl) rfl
theorem q990 : (Jvm.Cond.static ({ cls := "jdk/internal/util/ArraysSupport", name := "signedHashCode", desc := "(I[BII)I" } : Jvm.MethodName)) ∈ lw_all := lw_g (lw_at lw_m4 184 rfl) rfl
theorem q991 : (Jvm.Cond.code ({ cls := "jdk/internal/util/ArraysSupport", name := "signedHashCode", desc := "(I[BII)I" } : Jvm.MethodName) prog_38_method_5_code (6 : Nat) (Option.some Jvm.ClassFile.FieldType.int)) ∈ lw_all := lw_g (lw_at lw_m4 185 rfl) rfl
theorem q992 : (Jvm.Cond.methodLink "jdk/internal/util/ArraysSupport" (66 : Nat) ({ cls := "jdk/internal/util/ArraysSupport", name := "utf16hashCode", desc := "(I[BII)I" } : Jvm.MethodName)) ∈ lw_all := lw_g (lw_at lw_m4 186 rfl) rfl
theorem q993 : (Jvm.Cond.static ({ cls := "jdk/internal/util/ArraysSupport", name := "utf16hashCode", desc := "(I[BII)I" } : Jvm.MethodName)) ∈ lw_all := lw_g (lw_at lw_m4 187 rfl) rfl
theorem q994 : (Jvm.Cond.code ({ cls := "jdk/internal/util/ArraysSupport", name := "utf16hashCode", desc := "(I[BII)I" } : Jvm.MethodName) prog_38_method_10_code (6 : Nat) (Option.some Jvm.ClassFile.FieldType.int)) ∈ lw_all := lw_g (lw_at lw_m4 188 rfl) rfl
theorem q995 : (Jvm.Cond.fieldLink "jdk/internal/util/ArraysSupport" (106 : Nat) "jdk/internal/util/ArraysSupport" "JLA" "Ljdk/internal/access/JavaLangAccess;") ∈ lw_all := lw_g (lw_at lw_m4 189 rfl) rfl
theorem q996 : (Jvm.Cond.laysStatic "jdk/internal/util/ArraysSupport" "JLA" "Ljdk/internal/access/JavaLangAccess;") ∈ lw_tbl := lw_at lw_m4 190 rfl
theorem q997 : (Jvm.Cond.interfaceEntry "jdk/internal/util/ArraysSupport" (110 : Nat)) ∈ lw_tbl := lw_at lw_m4 191 rfl
theorem q998 : (Jvm.Cond.methodLink "jdk/internal/util/ArraysSupport" (110 : Nat) ({ cls := "jdk/internal/access/JavaLangAccess", name := "getUTF16Char", desc := "([BI)C" } : Jvm.MethodName)) ∈ lw_all := lw_g (lw_at lw_m4 192 rfl) rfl
theorem q1008 : (Jvm.Cond.classLink "jdk/internal/util/ArraysSupport" (69 : Nat) "[C") ∈ lw_all := lw_g (lw_at lw_m4 202 rfl) rfl
theorem q1009 : (Jvm.Cond.methodLink "jdk/internal/util/ArraysSupport" (71 : Nat) ({ cls := "jdk/internal/util/ArraysSupport", name := "hashCode", desc := "(I[CII)I" } : Jvm.MethodName)) ∈ lw_all := lw_g (lw_at lw_m4 203 rfl) rfl
theorem q1010 : (Jvm.Cond.static ({ cls := "jdk/internal/util/ArraysSupport", name := "hashCode", desc := "(I[CII)I" } : Jvm.MethodName)) ∈ lw_all := lw_g (lw_at lw_m4 204 rfl) rfl
theorem q1011 : (Jvm.Cond.code ({ cls := "jdk/internal/util/ArraysSupport", name := "hashCode", desc := "(I[CII)I" } : Jvm.MethodName) prog_38_method_7_code (6 : Nat) (Option.some Jvm.ClassFile.FieldType.int)) ∈ lw_all := lw_g (lw_at lw_m4 205 rfl) rfl
theorem q1012 : (Jvm.Cond.methodLink "jdk/internal/util/ArraysSupport" (75 : Nat) ({ cls := "jdk/internal/util/ArraysSupport", name := "hashCode", desc := "(I[BII)I" } : Jvm.MethodName)) ∈ lw_all := lw_g (lw_at lw_m4 206 rfl) rfl
theorem q1013 : (Jvm.Cond.static ({ cls := "jdk/internal/util/ArraysSupport", name := "hashCode", desc := "(I[BII)I" } : Jvm.MethodName)) ∈ lw_all := lw_g (lw_at lw_m4 207 rfl) rfl
theorem q1014 : (Jvm.Cond.code ({ cls := "jdk/internal/util/ArraysSupport", name := "hashCode", desc := "(I[BII)I" } : Jvm.MethodName) prog_38_method_6_code (6 : Nat) (Option.some Jvm.ClassFile.FieldType.int)) ∈ lw_all := lw_g (lw_at lw_m4 208 rfl) rfl
theorem q1015 : (Jvm.Cond.classLink "jdk/internal/util/ArraysSupport" (77 : Nat) "[S") ∈ lw_all := lw_g (lw_at lw_m4 209 rfl) rfl
theorem q1016 : (Jvm.Cond.methodLink "jdk/internal/util/ArraysSupport" (79 : Nat) ({ cls := "jdk/internal/util/ArraysSupport", name := "hashCode", desc := "(I[SII)I" } : Jvm.MethodName)) ∈ lw_all := lw_g (lw_at lw_m4 210 rfl) rfl
theorem q1017 : (Jvm.Cond.static ({ cls := "jdk/internal/util/ArraysSupport", name := "hashCode", desc := "(I[SII)I" } : Jvm.MethodName)) ∈ lw_all := lw_g (lw_at lw_m4 211 rfl) rfl
theorem q1018 : (Jvm.Cond.code ({ cls := "jdk/internal/util/ArraysSupport", name := "hashCode", desc := "(I[SII)I" } : Jvm.MethodName) prog_38_method_8_code (6 : Nat) (Option.some Jvm.ClassFile.FieldType.int)) ∈ lw_all := lw_g (lw_at lw_m4 212 rfl) rfl
theorem q1019 : (Jvm.Cond.classLink "jdk/internal/util/ArraysSupport" (82 : Nat) "[I") ∈ lw_all := lw_g (lw_at lw_m4 213 rfl) rfl
theorem q1020 : (Jvm.Cond.methodLink "jdk/internal/util/ArraysSupport" (84 : Nat) ({ cls := "jdk/internal/util/ArraysSupport", name := "hashCode", desc := "(I[III)I" } : Jvm.MethodName)) ∈ lw_all := lw_g (lw_at lw_m4 214 rfl) rfl
theorem q1021 : (Jvm.Cond.static ({ cls := "jdk/internal/util/ArraysSupport", name := "hashCode", desc := "(I[III)I" } : Jvm.MethodName)) ∈ lw_all := lw_g (lw_at lw_m4 215 rfl) rfl
theorem q1022 : (Jvm.Cond.code ({ cls := "jdk/internal/util/ArraysSupport", name := "hashCode", desc := "(I[III)I" } : Jvm.MethodName) prog_38_method_9_code (6 : Nat) (Option.some Jvm.ClassFile.FieldType.int)) ∈ lw_all := lw_g (lw_at lw_m4 216 rfl) rfl
theorem q116 : (Jvm.Cond.initialized "java/util/Arrays") ∈ lw_all := lw_g (lw_at lw_m1 30 rfl) rfl
theorem q821 : (Jvm.Cond.static ({ cls := "java/util/Arrays", name := "copyOf", desc := "([BI)[B" } : Jvm.MethodName)) ∈ lw_all := lw_g (lw_at lw_m4 15 rfl) rfl
theorem q822 : (Jvm.Cond.code ({ cls := "java/util/Arrays", name := "copyOf", desc := "([BI)[B" } : Jvm.MethodName) prog_36_method_121_code (3 : Nat) (Option.some (Jvm.ClassFile.FieldType.array Jvm.ClassFile.FieldType.byte))) ∈ lw_all := lw_g (lw_at lw_m4 16 rfl) rfl
theorem q823 : (Jvm.Cond.methodLink "java/util/Arrays" (310 : Nat) ({ cls := "[B", name := "clone", desc := "()Ljava/lang/Object;" } : Jvm.MethodName)) ∈ lw_all := lw_g (lw_at lw_m4 17 rfl) rfl
theorem q829 : (Jvm.Cond.classLink "java/util/Arrays" (311 : Nat) "[B") ∈ lw_all := lw_g (lw_at lw_m4 23 rfl) rfl
theorem q830 : (Jvm.Cond.methodLink "java/util/Arrays" (304 : Nat) ({ cls := "java/lang/Math", name := "min", desc := "(II)I" } : Jvm.MethodName)) ∈ lw_all := lw_g (lw_at lw_m4 24 rfl) rfl
theorem q833 : (Jvm.Cond.methodLink "java/util/Arrays" (150 : Nat) ({ cls := "java/lang/System", name := "arraycopy", desc := "(Ljava/lang/Object;ILjava/lang/Object;II)V" } : Jvm.MethodName)) ∈ lw_all := lw_g (lw_at lw_m4 27 rfl) rfl
theorem q914 : (Jvm.Cond.static ({ cls := "java/util/Arrays", name := "copyOfRange", desc := "([BII)[B" } : Jvm.MethodName)) ∈ lw_all := lw_g (lw_at lw_m4 108 rfl) rfl
theorem q915 : (Jvm.Cond.code ({ cls := "java/util/Arrays", name := "copyOfRange", desc := "([BII)[B" } : Jvm.MethodName) prog_36_method_132_code (3 : Nat) (Option.some (Jvm.ClassFile.FieldType.array Jvm.ClassFile.FieldType.byte))) ∈ lw_all := lw_g (lw_at lw_m4 109 rfl) rfl
theorem q916 : (Jvm.Cond.methodLink "java/util/Arrays" (339 : Nat) ({ cls := "java/util/Arrays", name := "copyOfRangeByte", desc := "([BII)[B" } : Jvm.MethodName)) ∈ lw_all := lw_g (lw_at lw_m4 110 rfl) rfl
theorem q917 : (Jvm.Cond.static ({ cls := "java/util/Arrays", name := "copyOfRangeByte", desc := "([BII)[B" } : Jvm.MethodName)) ∈ lw_all := lw_g (lw_at lw_m4 111 rfl) rfl
theorem q918 : (Jvm.Cond.code ({ cls := "java/util/Arrays", name := "copyOfRangeByte", desc := "([BII)[B" } : Jvm.MethodName) prog_36_method_133_code (5 : Nat) (Option.some (Jvm.ClassFile.FieldType.array Jvm.ClassFile.FieldType.byte))) ∈ lw_all := lw_g (lw_at lw_m4 112 rfl) rfl
theorem q919 : (Jvm.Cond.methodLink "java/util/Arrays" (343 : Nat) ({ cls := "java/util/Arrays", name := "checkLength", desc := "(II)V" } : Jvm.MethodName)) ∈ lw_all := lw_g (lw_at lw_m4 113 rfl) rfl
theorem q920 : (Jvm.Cond.static ({ cls := "java/util/Arrays", name := "checkLength", desc := "(II)V" } : Jvm.MethodName)) ∈ lw_all := lw_g (lw_at lw_m4 114 rfl) rfl
theorem q921 : (Jvm.Cond.code ({ cls := "java/util/Arrays", name := "checkLength", desc := "(II)V" } : Jvm.MethodName) prog_36_method_131_code (2 : Nat) (Option.none : Option Jvm.ClassFile.FieldType)) ∈ lw_all := lw_g (lw_at lw_m4 115 rfl) rfl
theorem q1105 : (Jvm.Cond.static ({ cls := "java/util/Arrays", name := "fill", desc := "([II)V" } : Jvm.MethodName)) ∈ lw_all := lw_g (lw_at lw_m5 59 rfl) rfl
theorem q1106 : (Jvm.Cond.code ({ cls := "java/util/Arrays", name := "fill", desc := "([II)V" } : Jvm.MethodName) prog_36_method_103_code (4 : Nat) (Option.none : Option Jvm.ClassFile.FieldType)) ∈ lw_all := lw_g (lw_at lw_m5 60 rfl) rfl
theorem q117 : (Jvm.Cond.initialized "java/lang/StringLatin1") ∈ lw_all := lw_g (lw_at lw_m1 31 rfl) rfl
theorem q840 : (Jvm.Cond.static ({ cls := "java/lang/StringLatin1", name := "canEncode", desc := "(C)Z" } : Jvm.MethodName)) ∈ lw_all := lw_g (lw_at lw_m4 34 rfl) rfl
theorem q841 : (Jvm.Cond.code ({ cls := "java/lang/StringLatin1", name := "canEncode", desc := "(C)Z" } : Jvm.MethodName) prog_31_method_3_code (1 : Nat) (Option.some Jvm.ClassFile.FieldType.boolean)) ∈ lw_all := lw_g (lw_at lw_m4 35 rfl) rfl
theorem q847 : (Jvm.Cond.static ({ cls := "java/lang/StringLatin1", name := "inflate", desc := "([BI[BII)V" } : Jvm.MethodName)) ∈ lw_all := lw_g (lw_at lw_m4 41 rfl) rfl
theorem q848 : (Jvm.Cond.code ({ cls := "java/lang/StringLatin1", name := "inflate", desc := "([BI[BII)V" } : Jvm.MethodName) prog_31_method_50_code (5 : Nat) (Option.none : Option Jvm.ClassFile.FieldType)) ∈ lw_all := lw_g (lw_at lw_m4 42 rfl) rfl
theorem q849 : (Jvm.Cond.methodLink "java/lang/StringLatin1" (240 : Nat) ({ cls := "java/lang/StringUTF16", name := "inflate", desc := "([BI[BII)V" } : Jvm.MethodName)) ∈ lw_all := lw_g (lw_at lw_m4 43 rfl) rfl
theorem q983 : (Jvm.Cond.static ({ cls := "java/lang/StringLatin1", name := "hashCode", desc := "([B)I" } : Jvm.MethodName)) ∈ lw_all := lw_g (lw_at lw_m4 177 rfl) rfl
theorem q984 : (Jvm.Cond.code ({ cls := "java/lang/StringLatin1", name := "hashCode", desc := "([B)I" } : Jvm.MethodName) prog_31_method_21_code (1 : Nat) (Option.some Jvm.ClassFile.FieldType.int)) ∈ lw_all := lw_g (lw_at lw_m4 178 rfl) rfl
theorem q985 : (Jvm.Cond.methodLink "java/lang/StringLatin1" (84 : Nat) ({ cls := "jdk/internal/util/ArraysSupport", name := "vectorizedHashCode", desc := "(Ljava/lang/Object;IIII)I" } : Jvm.MethodName)) ∈ lw_all := lw_g (lw_at lw_m4 179 rfl) rfl
theorem q1034 : (Jvm.Cond.static ({ cls := "java/lang/StringLatin1", name := "equals", desc := "([B[B)Z" } : Jvm.MethodName)) ∈ lw_all := lw_g (lw_at lw_m4 228 rfl) rfl
theorem q1035 : (Jvm.Cond.code ({ cls := "java/lang/StringLatin1", name := "equals", desc := "([B[B)Z" } : Jvm.MethodName) prog_31_method_13_code (3 : Nat) (Option.some Jvm.ClassFile.FieldType.boolean)) ∈ lw_all := lw_g (lw_at lw_m4 229 rfl) rfl
theorem q1665 : (Jvm.Cond.static ({ cls := "java/lang/StringLatin1", name := "charAt", desc := "([BI)C" } : Jvm.MethodName)) ∈ lw_all := lw_g (lw_at lw_m7 139 rfl) rfl
theorem q1666 : (Jvm.Cond.code ({ cls := "java/lang/StringLatin1", name := "charAt", desc := "([BI)C" } : Jvm.MethodName) prog_31_method_2_code (2 : Nat) (Option.some Jvm.ClassFile.FieldType.char)) ∈ lw_all := lw_g (lw_at lw_m7 140 rfl) rfl
theorem q1667 : (Jvm.Cond.methodLink "java/lang/StringLatin1" (9 : Nat) ({ cls := "java/lang/String", name := "checkIndex", desc := "(II)V" } : Jvm.MethodName)) ∈ lw_all := lw_g (lw_at lw_m7 141 rfl) rfl
theorem q118 : (Jvm.Cond.initialized "jdk/internal/util/Preconditions") ∈ lw_all := lw_g (lw_at lw_m1 32 rfl) rfl
theorem q862 : (Jvm.Cond.laysStatic "jdk/internal/util/Preconditions" "SIOOBE_FORMATTER" "Ljava/util/function/BiFunction;") ∈ lw_tbl := lw_at lw_m4 56 rfl
theorem q864 : (Jvm.Cond.static ({ cls := "jdk/internal/util/Preconditions", name := "checkFromIndexSize", desc := "(IIILjava/util/function/BiFunction;)I" } : Jvm.MethodName)) ∈ lw_all := lw_g (lw_at lw_m4 58 rfl) rfl
theorem q865 : (Jvm.Cond.code ({ cls := "jdk/internal/util/Preconditions", name := "checkFromIndexSize", desc := "(IIILjava/util/function/BiFunction;)I" } : Jvm.MethodName) prog_39_method_13_code (4 : Nat) (Option.some Jvm.ClassFile.FieldType.int)) ∈ lw_all := lw_g (lw_at lw_m4 59 rfl) rfl
theorem q885 : (Jvm.Cond.static ({ cls := "jdk/internal/util/Preconditions", name := "checkIndex", desc := "(IILjava/util/function/BiFunction;)I" } : Jvm.MethodName)) ∈ lw_all := lw_g (lw_at lw_m4 79 rfl) rfl
theorem q886 : (Jvm.Cond.code ({ cls := "jdk/internal/util/Preconditions", name := "checkIndex", desc := "(IILjava/util/function/BiFunction;)I" } : Jvm.MethodName) prog_39_method_11_code (3 : Nat) (Option.some Jvm.ClassFile.FieldType.int)) ∈ lw_all := lw_g (lw_at lw_m4 80 rfl) rfl
theorem q120 : (Jvm.Cond.initialized "java/lang/Integer") ∈ lw_all := lw_g (lw_at lw_m1 34 rfl) rfl
theorem q1260 : (Jvm.Cond.static ({ cls := "java/lang/Integer", name := "bitCount", desc := "(I)I" } : Jvm.MethodName)) ∈ lw_all := lw_g (lw_at lw_m5 214 rfl) rfl
theorem q1261 : (Jvm.Cond.code ({ cls := "java/lang/Integer", name := "bitCount", desc := "(I)I" } : Jvm.MethodName) prog_24_method_49_code (1 : Nat) (Option.some Jvm.ClassFile.FieldType.int)) ∈ lw_all := lw_g (lw_at lw_m5 215 rfl) rfl
theorem q1262 : (Jvm.Cond.constant "java/lang/Integer" (265 : Nat) (1431655765 : Int32)) ∈ lw_all := lw_g (lw_at lw_m5 216 rfl) rfl
theorem q1263 : (Jvm.Cond.constant "java/lang/Integer" (266 : Nat) (858993459 : Int32)) ∈ lw_all := lw_g (lw_at lw_m5 217 rfl) rfl
theorem q1264 : (Jvm.Cond.constant "java/lang/Integer" (267 : Nat) (252645135 : Int32)) ∈ lw_all := lw_g (lw_at lw_m5 218 rfl) rfl
theorem q127 : (Jvm.Cond.instanceMethod ({ cls := "java/lang/Object", name := "<init>", desc := "()V" } : Jvm.MethodName)) ∈ lw_all := lw_g (lw_at lw_m1 41 rfl) rfl
theorem q128 : (Jvm.Cond.code ({ cls := "java/lang/Object", name := "<init>", desc := "()V" } : Jvm.MethodName) object_method_1_code (1 : Nat) (Option.none : Option Jvm.ClassFile.FieldType)) ∈ lw_all := lw_g (lw_at lw_m1 42 rfl) rfl
theorem q825 : (Jvm.Cond.native ({ cls := "java/lang/Object", name := "clone", desc := "()Ljava/lang/Object;" } : Jvm.MethodName)) ∈ lw_all := lw_g (lw_at lw_m4 19 rfl) rfl
theorem q826 : (Jvm.Cond.instanceMethod ({ cls := "java/lang/Object", name := "clone", desc := "()Ljava/lang/Object;" } : Jvm.MethodName)) ∈ lw_all := lw_g (lw_at lw_m4 20 rfl) rfl
theorem q1001 : (Jvm.Cond.castable "java/lang/System$2" "jdk/internal/access/JavaLangAccess") ∈ lw_tbl := lw_at lw_m4 195 rfl
theorem q1002 : (Jvm.Cond.selects "java/lang/System$2" ({ cls := "jdk/internal/access/JavaLangAccess", name := "getUTF16Char", desc := "([BI)C" } : Jvm.MethodName) ({ cls := "java/lang/System$2", name := "getUTF16Char", desc := "([BI)C" } : Jvm.MethodName)) ∈ lw_all := lw_g (lw_at lw_m4 196 rfl) rfl
theorem q1003 : (Jvm.Cond.unhidden "java/lang/System$2" "getUTF16Char" "([BI)C") ∈ lw_tbl := lw_at lw_m4 197 rfl
theorem q1004 : (Jvm.Cond.instanceMethod ({ cls := "java/lang/System$2", name := "getUTF16Char", desc := "([BI)C" } : Jvm.MethodName)) ∈ lw_all := lw_g (lw_at lw_m4 198 rfl) rfl
theorem q1005 : (Jvm.Cond.publicMethod ({ cls := "java/lang/System$2", name := "getUTF16Char", desc := "([BI)C" } : Jvm.MethodName)) ∈ lw_tbl := lw_at lw_m4 199 rfl
theorem q1006 : (Jvm.Cond.code ({ cls := "java/lang/System$2", name := "getUTF16Char", desc := "([BI)C" } : Jvm.MethodName) prog_34_method_45_code (3 : Nat) (Option.some Jvm.ClassFile.FieldType.char)) ∈ lw_all := lw_g (lw_at lw_m4 200 rfl) rfl
theorem q1007 : (Jvm.Cond.methodLink "java/lang/System$2" (185 : Nat) ({ cls := "java/lang/StringUTF16", name := "getChar", desc := "([BI)C" } : Jvm.MethodName)) ∈ lw_all := lw_g (lw_at lw_m4 201 rfl) rfl
theorem q86 : (Jvm.Cond.initialized "PointAtWhoIsLostLaw") ∈ lw_all := lw_g (lw_at lw_m1 0 rfl) rfl
theorem q121 : (Jvm.Cond.classLink "PointAtWhoIsLostLaw" (7 : Nat) "PointAtWhoIsLost") ∈ lw_all := lw_g (lw_at lw_m1 35 rfl) rfl
theorem q123 : (Jvm.Cond.methodLink "PointAtWhoIsLostLaw" (9 : Nat) ({ cls := "PointAtWhoIsLost", name := "<init>", desc := "()V" } : Jvm.MethodName)) ∈ lw_all := lw_g (lw_at lw_m1 37 rfl) rfl
theorem q246 : (Jvm.Cond.methodLink "PointAtWhoIsLostLaw" (13 : Nat) ({ cls := "PointAtWhoIsLost", name := "row", desc := "(III)I" } : Jvm.MethodName)) ∈ lw_all := lw_g (lw_at lw_m1 160 rfl) rfl
theorem q353 : (Jvm.Cond.methodLink "PointAtWhoIsLostLaw" (20 : Nat) ({ cls := "PointAtWhoIsLost", name := "set", desc := "(IIJ)I" } : Jvm.MethodName)) ∈ lw_all := lw_g (lw_at lw_m2 27 rfl) rfl
theorem q419 : (Jvm.Cond.methodLink "PointAtWhoIsLostLaw" (25 : Nat) ({ cls := "PointAtWhoIsLost", name := "copy", desc := "(IIIII)I" } : Jvm.MethodName)) ∈ lw_all := lw_g (lw_at lw_m2 93 rfl) rfl
theorem q466 : (Jvm.Cond.methodLink "PointAtWhoIsLostLaw" (30 : Nat) ({ cls := "PointAtWhoIsLost", name := "element", desc := "(II)J" } : Jvm.MethodName)) ∈ lw_all := lw_g (lw_at lw_m2 140 rfl) rfl
theorem q473 : (Jvm.Cond.methodLink "PointAtWhoIsLostLaw" (35 : Nat) ({ cls := "PointAtWhoIsLost", name := "holds", desc := "(I)I" } : Jvm.MethodName)) ∈ lw_all := lw_g (lw_at lw_m2 147 rfl) rfl
theorem q477 : (Jvm.Cond.methodLink "PointAtWhoIsLostLaw" (40 : Nat) ({ cls := "PointAtWhoIsLost", name := "show", desc := "(II)I" } : Jvm.MethodName)) ∈ lw_all := lw_g (lw_at lw_m2 151 rfl) rfl
theorem q485 : (Jvm.Cond.methodLink "PointAtWhoIsLostLaw" (45 : Nat) ({ cls := "PointAtWhoIsLost", name := "says", desc := "(II)I" } : Jvm.MethodName)) ∈ lw_all := lw_g (lw_at lw_m2 159 rfl) rfl
theorem q569 : (Jvm.Cond.methodLink "PointAtWhoIsLostLaw" (49 : Nat) ({ cls := "PointAtWhoIsLost", name := "side", desc := "(I)I" } : Jvm.MethodName)) ∈ lw_all := lw_g (lw_at lw_m3 3 rfl) rfl
theorem q573 : (Jvm.Cond.methodLink "PointAtWhoIsLostLaw" (53 : Nat) ({ cls := "PointAtWhoIsLost", name := "bog", desc := "(IZ)I" } : Jvm.MethodName)) ∈ lw_all := lw_g (lw_at lw_m3 7 rfl) rfl
theorem q597 : (Jvm.Cond.methodLink "PointAtWhoIsLostLaw" (58 : Nat) ({ cls := "PointAtWhoIsLost", name := "home", desc := "(I)I" } : Jvm.MethodName)) ∈ lw_all := lw_g (lw_at lw_m3 31 rfl) rfl
theorem q601 : (Jvm.Cond.methodLink "PointAtWhoIsLostLaw" (62 : Nat) ({ cls := "PointAtWhoIsLost", name := "post", desc := "(III)I" } : Jvm.MethodName)) ∈ lw_all := lw_g (lw_at lw_m3 35 rfl) rfl
theorem q680 : (Jvm.Cond.methodLink "PointAtWhoIsLostLaw" (66 : Nat) ({ cls := "PointAtWhoIsLost", name := "walker", desc := "(II)I" } : Jvm.MethodName)) ∈ lw_all := lw_g (lw_at lw_m3 114 rfl) rfl
theorem q688 : (Jvm.Cond.methodLink "PointAtWhoIsLostLaw" (70 : Nat) ({ cls := "PointAtWhoIsLost", name := "sure", desc := "(II)I" } : Jvm.MethodName)) ∈ lw_all := lw_g (lw_at lw_m3 122 rfl) rfl
theorem q697 : (Jvm.Cond.methodLink "PointAtWhoIsLostLaw" (74 : Nat) ({ cls := "PointAtWhoIsLost", name := "feed", desc := "(I)I" } : Jvm.MethodName)) ∈ lw_all := lw_g (lw_at lw_m3 131 rfl) rfl
theorem q701 : (Jvm.Cond.methodLink "PointAtWhoIsLostLaw" (78 : Nat) ({ cls := "PointAtWhoIsLost", name := "wipe", desc := "()I" } : Jvm.MethodName)) ∈ lw_all := lw_g (lw_at lw_m3 135 rfl) rfl
theorem q705 : (Jvm.Cond.methodLink "PointAtWhoIsLostLaw" (83 : Nat) ({ cls := "PointAtWhoIsLost", name := "fen", desc := "()I" } : Jvm.MethodName)) ∈ lw_all := lw_g (lw_at lw_m3 139 rfl) rfl
theorem q1067 : (Jvm.Cond.methodLink "PointAtWhoIsLostLaw" (87 : Nat) ({ cls := "PointAtWhoIsLost", name := "postOf", desc := "(II)I" } : Jvm.MethodName)) ∈ lw_all := lw_g (lw_at lw_m5 21 rfl) rfl
theorem q1091 : (Jvm.Cond.methodLink "PointAtWhoIsLostLaw" (91 : Nat) ({ cls := "PointAtWhoIsLost", name := "walkerOf", desc := "(II)I" } : Jvm.MethodName)) ∈ lw_all := lw_g (lw_at lw_m5 45 rfl) rfl
theorem q1116 : (Jvm.Cond.methodLink "PointAtWhoIsLostLaw" (95 : Nat) ({ cls := "PointAtWhoIsLost", name := "isBog", desc := "(I)I" } : Jvm.MethodName)) ∈ lw_all := lw_g (lw_at lw_m5 70 rfl) rfl
theorem q1120 : (Jvm.Cond.methodLink "PointAtWhoIsLostLaw" (99 : Nat) ({ cls := "PointAtWhoIsLost", name := "way", desc := "(II)I" } : Jvm.MethodName)) ∈ lw_all := lw_g (lw_at lw_m5 74 rfl) rfl
theorem q1125 : (Jvm.Cond.methodLink "PointAtWhoIsLostLaw" (103 : Nat) ({ cls := "PointAtWhoIsLost", name := "arm", desc := "(II)I" } : Jvm.MethodName)) ∈ lw_all := lw_g (lw_at lw_m5 79 rfl) rfl
theorem q1137 : (Jvm.Cond.methodLink "PointAtWhoIsLostLaw" (107 : Nat) ({ cls := "PointAtWhoIsLost", name := "where", desc := "(III)I" } : Jvm.MethodName)) ∈ lw_all := lw_g (lw_at lw_m5 91 rfl) rfl
theorem q1168 : (Jvm.Cond.methodLink "PointAtWhoIsLostLaw" (111 : Nat) ({ cls := "PointAtWhoIsLost", name := "of", desc := "(III)I" } : Jvm.MethodName)) ∈ lw_all := lw_g (lw_at lw_m5 122 rfl) rfl
theorem q1187 : (Jvm.Cond.methodLink "PointAtWhoIsLostLaw" (131 : Nat) ({ cls := "PointAtWhoIsLost", name := "armed", desc := "(II)I" } : Jvm.MethodName)) ∈ lw_all := lw_g (lw_at lw_m5 141 rfl) rfl
theorem q1191 : (Jvm.Cond.methodLink "PointAtWhoIsLostLaw" (135 : Nat) ({ cls := "PointAtWhoIsLost", name := "alike", desc := "(I)I" } : Jvm.MethodName)) ∈ lw_all := lw_g (lw_at lw_m5 145 rfl) rfl
theorem q1210 : (Jvm.Cond.methodLink "PointAtWhoIsLostLaw" (139 : Nat) ({ cls := "PointAtWhoIsLost", name := "right", desc := "(I)I" } : Jvm.MethodName)) ∈ lw_all := lw_g (lw_at lw_m5 164 rfl) rfl
theorem q1214 : (Jvm.Cond.methodLink "PointAtWhoIsLostLaw" (143 : Nat) ({ cls := "PointAtWhoIsLost", name := "pointing", desc := "(I)I" } : Jvm.MethodName)) ∈ lw_all := lw_g (lw_at lw_m5 168 rfl) rfl
theorem q1218 : (Jvm.Cond.methodLink "PointAtWhoIsLostLaw" (147 : Nat) ({ cls := "PointAtWhoIsLost", name := "trembling", desc := "()I" } : Jvm.MethodName)) ∈ lw_all := lw_g (lw_at lw_m5 172 rfl) rfl
theorem q1222 : (Jvm.Cond.methodLink "PointAtWhoIsLostLaw" (151 : Nat) ({ cls := "PointAtWhoIsLost", name := "bestPair", desc := "()I" } : Jvm.MethodName)) ∈ lw_all := lw_g (lw_at lw_m5 176 rfl) rfl
theorem q1234 : (Jvm.Cond.methodLink "PointAtWhoIsLostLaw" (155 : Nat) ({ cls := "PointAtWhoIsLost", name := "idlest", desc := "()I" } : Jvm.MethodName)) ∈ lw_all := lw_g (lw_at lw_m5 188 rfl) rfl
theorem q1238 : (Jvm.Cond.methodLink "PointAtWhoIsLostLaw" (115 : Nat) ({ cls := "PointAtWhoIsLost", name := "kinds", desc := "(II)I" } : Jvm.MethodName)) ∈ lw_all := lw_g (lw_at lw_m5 192 rfl) rfl
theorem q1243 : (Jvm.Cond.methodLink "PointAtWhoIsLostLaw" (119 : Nat) ({ cls := "PointAtWhoIsLost", name := "apart", desc := "(I)I" } : Jvm.MethodName)) ∈ lw_all := lw_g (lw_at lw_m5 197 rfl) rfl
theorem q1255 : (Jvm.Cond.methodLink "PointAtWhoIsLostLaw" (123 : Nat) ({ cls := "PointAtWhoIsLost", name := "fewest", desc := "(I)I" } : Jvm.MethodName)) ∈ lw_all := lw_g (lw_at lw_m5 209 rfl) rfl
theorem q1265 : (Jvm.Cond.methodLink "PointAtWhoIsLostLaw" (127 : Nat) ({ cls := "PointAtWhoIsLost", name := "more", desc := "()I" } : Jvm.MethodName)) ∈ lw_all := lw_g (lw_at lw_m5 219 rfl) rfl
theorem q1269 : (Jvm.Cond.methodLink "PointAtWhoIsLostLaw" (179 : Nat) ({ cls := "PointAtWhoIsLost", name := "path", desc := "(II)I" } : Jvm.MethodName)) ∈ lw_all := lw_g (lw_at lw_m5 223 rfl) rfl
theorem q1273 : (Jvm.Cond.methodLink "PointAtWhoIsLostLaw" (183 : Nat) ({ cls := "PointAtWhoIsLost", name := "found", desc := "()I" } : Jvm.MethodName)) ∈ lw_all := lw_g (lw_at lw_m5 227 rfl) rfl
theorem q1277 : (Jvm.Cond.methodLink "PointAtWhoIsLostLaw" (159 : Nat) ({ cls := "PointAtWhoIsLost", name := "leads", desc := "(II)I" } : Jvm.MethodName)) ∈ lw_all := lw_g (lw_at lw_m5 231 rfl) rfl
theorem q1283 : (Jvm.Cond.methodLink "PointAtWhoIsLostLaw" (163 : Nat) ({ cls := "PointAtWhoIsLost", name := "reach", desc := "(II)I" } : Jvm.MethodName)) ∈ lw_all := lw_g (lw_at lw_m5 237 rfl) rfl
theorem q1287 : (Jvm.Cond.methodLink "PointAtWhoIsLostLaw" (167 : Nat) ({ cls := "PointAtWhoIsLost", name := "open", desc := "(I)I" } : Jvm.MethodName)) ∈ lw_all := lw_g (lw_at lw_m6 1 rfl) rfl
theorem q1291 : (Jvm.Cond.methodLink "PointAtWhoIsLostLaw" (171 : Nat) ({ cls := "PointAtWhoIsLost", name := "parts", desc := "()I" } : Jvm.MethodName)) ∈ lw_all := lw_g (lw_at lw_m6 5 rfl) rfl
theorem q1295 : (Jvm.Cond.methodLink "PointAtWhoIsLostLaw" (175 : Nat) ({ cls := "PointAtWhoIsLost", name := "worst", desc := "(I)I" } : Jvm.MethodName)) ∈ lw_all := lw_g (lw_at lw_m6 9 rfl) rfl
theorem q1299 : (Jvm.Cond.methodLink "PointAtWhoIsLostLaw" (187 : Nat) ({ cls := "PointAtWhoIsLost", name := "meet", desc := "()I" } : Jvm.MethodName)) ∈ lw_all := lw_g (lw_at lw_m6 13 rfl) rfl
theorem q1307 : (Jvm.Cond.methodLink "PointAtWhoIsLostLaw" (191 : Nat) ({ cls := "PointAtWhoIsLost", name := "judge", desc := "(III)I" } : Jvm.MethodName)) ∈ lw_all := lw_g (lw_at lw_m6 21 rfl) rfl
theorem q1316 : (Jvm.Cond.methodLink "PointAtWhoIsLostLaw" (195 : Nat) ({ cls := "PointAtWhoIsLost", name := "nears", desc := "(III)I" } : Jvm.MethodName)) ∈ lw_all := lw_g (lw_at lw_m6 30 rfl) rfl
theorem q1324 : (Jvm.Cond.methodLink "PointAtWhoIsLostLaw" (199 : Nat) ({ cls := "PointAtWhoIsLost", name := "done", desc := "(III)I" } : Jvm.MethodName)) ∈ lw_all := lw_g (lw_at lw_m6 38 rfl) rfl
theorem q1333 : (Jvm.Cond.methodLink "PointAtWhoIsLostLaw" (203 : Nat) ({ cls := "PointAtWhoIsLost", name := "goes", desc := "(II)I" } : Jvm.MethodName)) ∈ lw_all := lw_g (lw_at lw_m6 47 rfl) rfl
theorem q1337 : (Jvm.Cond.methodLink "PointAtWhoIsLostLaw" (207 : Nat) ({ cls := "PointAtWhoIsLost", name := "days", desc := "(I)I" } : Jvm.MethodName)) ∈ lw_all := lw_g (lw_at lw_m6 51 rfl) rfl
theorem q1359 : (Jvm.Cond.methodLink "PointAtWhoIsLostLaw" (211 : Nat) ({ cls := "PointAtWhoIsLost", name := "seed", desc := "(I)I" } : Jvm.MethodName)) ∈ lw_all := lw_g (lw_at lw_m6 73 rfl) rfl
theorem q1363 : (Jvm.Cond.methodLink "PointAtWhoIsLostLaw" (215 : Nat) ({ cls := "PointAtWhoIsLost", name := "image", desc := "()I" } : Jvm.MethodName)) ∈ lw_all := lw_g (lw_at lw_m6 77 rfl) rfl
theorem q1367 : (Jvm.Cond.methodLink "PointAtWhoIsLostLaw" (219 : Nat) ({ cls := "PointAtWhoIsLost", name := "back", desc := "()I" } : Jvm.MethodName)) ∈ lw_all := lw_g (lw_at lw_m6 81 rfl) rfl
theorem q1371 : (Jvm.Cond.methodLink "PointAtWhoIsLostLaw" (223 : Nat) ({ cls := "PointAtWhoIsLost", name := "status", desc := "(I)I" } : Jvm.MethodName)) ∈ lw_all := lw_g (lw_at lw_m6 85 rfl) rfl
theorem q1384 : (Jvm.Cond.classLink "PointAtWhoIsLostLaw" (10 : Nat) "PointAtWhoIsLostModel") ∈ lw_all := lw_g (lw_at lw_m6 98 rfl) rfl
theorem q1386 : (Jvm.Cond.methodLink "PointAtWhoIsLostLaw" (12 : Nat) ({ cls := "PointAtWhoIsLostModel", name := "<init>", desc := "()V" } : Jvm.MethodName)) ∈ lw_all := lw_g (lw_at lw_m6 100 rfl) rfl
theorem q1475 : (Jvm.Cond.methodLink "PointAtWhoIsLostLaw" (17 : Nat) ({ cls := "PointAtWhoIsLostModel", name := "row", desc := "(III)I" } : Jvm.MethodName)) ∈ lw_all := lw_g (lw_at lw_m6 189 rfl) rfl
theorem q1489 : (Jvm.Cond.methodLink "PointAtWhoIsLostLaw" (24 : Nat) ({ cls := "PointAtWhoIsLostModel", name := "set", desc := "(IIJ)I" } : Jvm.MethodName)) ∈ lw_all := lw_g (lw_at lw_m6 203 rfl) rfl
theorem q1504 : (Jvm.Cond.methodLink "PointAtWhoIsLostLaw" (29 : Nat) ({ cls := "PointAtWhoIsLostModel", name := "copy", desc := "(IIIII)I" } : Jvm.MethodName)) ∈ lw_all := lw_g (lw_at lw_m6 218 rfl) rfl
theorem q1508 : (Jvm.Cond.methodLink "PointAtWhoIsLostLaw" (34 : Nat) ({ cls := "PointAtWhoIsLostModel", name := "element", desc := "(II)J" } : Jvm.MethodName)) ∈ lw_all := lw_g (lw_at lw_m6 222 rfl) rfl
theorem q1512 : (Jvm.Cond.methodLink "PointAtWhoIsLostLaw" (39 : Nat) ({ cls := "PointAtWhoIsLostModel", name := "holds", desc := "(I)I" } : Jvm.MethodName)) ∈ lw_all := lw_g (lw_at lw_m6 226 rfl) rfl
theorem q1516 : (Jvm.Cond.methodLink "PointAtWhoIsLostLaw" (44 : Nat) ({ cls := "PointAtWhoIsLostModel", name := "show", desc := "(II)I" } : Jvm.MethodName)) ∈ lw_all := lw_g (lw_at lw_m6 230 rfl) rfl
theorem q1524 : (Jvm.Cond.methodLink "PointAtWhoIsLostLaw" (48 : Nat) ({ cls := "PointAtWhoIsLostModel", name := "says", desc := "(II)I" } : Jvm.MethodName)) ∈ lw_all := lw_g (lw_at lw_m6 238 rfl) rfl
theorem q1572 : (Jvm.Cond.methodLink "PointAtWhoIsLostLaw" (52 : Nat) ({ cls := "PointAtWhoIsLostModel", name := "side", desc := "(I)I" } : Jvm.MethodName)) ∈ lw_all := lw_g (lw_at lw_m7 46 rfl) rfl
theorem q1576 : (Jvm.Cond.methodLink "PointAtWhoIsLostLaw" (57 : Nat) ({ cls := "PointAtWhoIsLostModel", name := "bog", desc := "(IZ)I" } : Jvm.MethodName)) ∈ lw_all := lw_g (lw_at lw_m7 50 rfl) rfl
theorem q1589 : (Jvm.Cond.methodLink "PointAtWhoIsLostLaw" (61 : Nat) ({ cls := "PointAtWhoIsLostModel", name := "home", desc := "(I)I" } : Jvm.MethodName)) ∈ lw_all := lw_g (lw_at lw_m7 63 rfl) rfl
theorem q1593 : (Jvm.Cond.methodLink "PointAtWhoIsLostLaw" (65 : Nat) ({ cls := "PointAtWhoIsLostModel", name := "post", desc := "(III)I" } : Jvm.MethodName)) ∈ lw_all := lw_g (lw_at lw_m7 67 rfl) rfl
theorem q1601 : (Jvm.Cond.methodLink "PointAtWhoIsLostLaw" (69 : Nat) ({ cls := "PointAtWhoIsLostModel", name := "walker", desc := "(II)I" } : Jvm.MethodName)) ∈ lw_all := lw_g (lw_at lw_m7 75 rfl) rfl
theorem q1609 : (Jvm.Cond.methodLink "PointAtWhoIsLostLaw" (73 : Nat) ({ cls := "PointAtWhoIsLostModel", name := "sure", desc := "(II)I" } : Jvm.MethodName)) ∈ lw_all := lw_g (lw_at lw_m7 83 rfl) rfl
theorem q1617 : (Jvm.Cond.methodLink "PointAtWhoIsLostLaw" (77 : Nat) ({ cls := "PointAtWhoIsLostModel", name := "feed", desc := "(I)I" } : Jvm.MethodName)) ∈ lw_all := lw_g (lw_at lw_m7 91 rfl) rfl
theorem q1621 : (Jvm.Cond.methodLink "PointAtWhoIsLostLaw" (82 : Nat) ({ cls := "PointAtWhoIsLostModel", name := "wipe", desc := "()I" } : Jvm.MethodName)) ∈ lw_all := lw_g (lw_at lw_m7 95 rfl) rfl
theorem q1625 : (Jvm.Cond.methodLink "PointAtWhoIsLostLaw" (86 : Nat) ({ cls := "PointAtWhoIsLostModel", name := "fen", desc := "()I" } : Jvm.MethodName)) ∈ lw_all := lw_g (lw_at lw_m7 99 rfl) rfl
theorem q1688 : (Jvm.Cond.methodLink "PointAtWhoIsLostLaw" (90 : Nat) ({ cls := "PointAtWhoIsLostModel", name := "postOf", desc := "(II)I" } : Jvm.MethodName)) ∈ lw_all := lw_g (lw_at lw_m7 162 rfl) rfl
theorem q1692 : (Jvm.Cond.methodLink "PointAtWhoIsLostLaw" (94 : Nat) ({ cls := "PointAtWhoIsLostModel", name := "walkerOf", desc := "(II)I" } : Jvm.MethodName)) ∈ lw_all := lw_g (lw_at lw_m7 166 rfl) rfl
theorem q1712 : (Jvm.Cond.methodLink "PointAtWhoIsLostLaw" (98 : Nat) ({ cls := "PointAtWhoIsLostModel", name := "isBog", desc := "(I)I" } : Jvm.MethodName)) ∈ lw_all := lw_g (lw_at lw_m7 186 rfl) rfl
theorem q1716 : (Jvm.Cond.methodLink "PointAtWhoIsLostLaw" (102 : Nat) ({ cls := "PointAtWhoIsLostModel", name := "way", desc := "(II)I" } : Jvm.MethodName)) ∈ lw_all := lw_g (lw_at lw_m7 190 rfl) rfl
theorem q1720 : (Jvm.Cond.methodLink "PointAtWhoIsLostLaw" (106 : Nat) ({ cls := "PointAtWhoIsLostModel", name := "arm", desc := "(II)I" } : Jvm.MethodName)) ∈ lw_all := lw_g (lw_at lw_m7 194 rfl) rfl
theorem q1732 : (Jvm.Cond.methodLink "PointAtWhoIsLostLaw" (110 : Nat) ({ cls := "PointAtWhoIsLostModel", name := "where", desc := "(III)I" } : Jvm.MethodName)) ∈ lw_all := lw_g (lw_at lw_m7 206 rfl) rfl
theorem q1762 : (Jvm.Cond.methodLink "PointAtWhoIsLostLaw" (114 : Nat) ({ cls := "PointAtWhoIsLostModel", name := "of", desc := "(III)I" } : Jvm.MethodName)) ∈ lw_all := lw_g (lw_at lw_m7 236 rfl) rfl
theorem q1779 : (Jvm.Cond.methodLink "PointAtWhoIsLostLaw" (118 : Nat) ({ cls := "PointAtWhoIsLostModel", name := "kinds", desc := "(II)I" } : Jvm.MethodName)) ∈ lw_all := lw_g (lw_at lw_m8 13 rfl) rfl
theorem q1783 : (Jvm.Cond.methodLink "PointAtWhoIsLostLaw" (122 : Nat) ({ cls := "PointAtWhoIsLostModel", name := "apart", desc := "(I)I" } : Jvm.MethodName)) ∈ lw_all := lw_g (lw_at lw_m8 17 rfl) rfl
theorem q1807 : (Jvm.Cond.methodLink "PointAtWhoIsLostLaw" (126 : Nat) ({ cls := "PointAtWhoIsLostModel", name := "fewest", desc := "(I)I" } : Jvm.MethodName)) ∈ lw_all := lw_g (lw_at lw_m8 41 rfl) rfl
theorem q1812 : (Jvm.Cond.methodLink "PointAtWhoIsLostLaw" (130 : Nat) ({ cls := "PointAtWhoIsLostModel", name := "more", desc := "()I" } : Jvm.MethodName)) ∈ lw_all := lw_g (lw_at lw_m8 46 rfl) rfl
theorem q1816 : (Jvm.Cond.methodLink "PointAtWhoIsLostLaw" (134 : Nat) ({ cls := "PointAtWhoIsLostModel", name := "armed", desc := "(II)I" } : Jvm.MethodName)) ∈ lw_all := lw_g (lw_at lw_m8 50 rfl) rfl
theorem q1820 : (Jvm.Cond.methodLink "PointAtWhoIsLostLaw" (138 : Nat) ({ cls := "PointAtWhoIsLostModel", name := "alike", desc := "(I)I" } : Jvm.MethodName)) ∈ lw_all := lw_g (lw_at lw_m8 54 rfl) rfl
theorem q1824 : (Jvm.Cond.methodLink "PointAtWhoIsLostLaw" (142 : Nat) ({ cls := "PointAtWhoIsLostModel", name := "right", desc := "(I)I" } : Jvm.MethodName)) ∈ lw_all := lw_g (lw_at lw_m8 58 rfl) rfl
theorem q1828 : (Jvm.Cond.methodLink "PointAtWhoIsLostLaw" (146 : Nat) ({ cls := "PointAtWhoIsLostModel", name := "pointing", desc := "(I)I" } : Jvm.MethodName)) ∈ lw_all := lw_g (lw_at lw_m8 62 rfl) rfl
theorem q1832 : (Jvm.Cond.methodLink "PointAtWhoIsLostLaw" (150 : Nat) ({ cls := "PointAtWhoIsLostModel", name := "trembling", desc := "()I" } : Jvm.MethodName)) ∈ lw_all := lw_g (lw_at lw_m8 66 rfl) rfl
theorem q1836 : (Jvm.Cond.methodLink "PointAtWhoIsLostLaw" (154 : Nat) ({ cls := "PointAtWhoIsLostModel", name := "bestPair", desc := "()I" } : Jvm.MethodName)) ∈ lw_all := lw_g (lw_at lw_m8 70 rfl) rfl
theorem q1840 : (Jvm.Cond.methodLink "PointAtWhoIsLostLaw" (158 : Nat) ({ cls := "PointAtWhoIsLostModel", name := "idlest", desc := "()I" } : Jvm.MethodName)) ∈ lw_all := lw_g (lw_at lw_m8 74 rfl) rfl
theorem q1844 : (Jvm.Cond.methodLink "PointAtWhoIsLostLaw" (162 : Nat) ({ cls := "PointAtWhoIsLostModel", name := "leads", desc := "(II)I" } : Jvm.MethodName)) ∈ lw_all := lw_g (lw_at lw_m8 78 rfl) rfl
theorem q1852 : (Jvm.Cond.methodLink "PointAtWhoIsLostLaw" (166 : Nat) ({ cls := "PointAtWhoIsLostModel", name := "reach", desc := "(II)I" } : Jvm.MethodName)) ∈ lw_all := lw_g (lw_at lw_m8 86 rfl) rfl
theorem q1856 : (Jvm.Cond.methodLink "PointAtWhoIsLostLaw" (170 : Nat) ({ cls := "PointAtWhoIsLostModel", name := "open", desc := "(I)I" } : Jvm.MethodName)) ∈ lw_all := lw_g (lw_at lw_m8 90 rfl) rfl
theorem q1860 : (Jvm.Cond.methodLink "PointAtWhoIsLostLaw" (174 : Nat) ({ cls := "PointAtWhoIsLostModel", name := "parts", desc := "()I" } : Jvm.MethodName)) ∈ lw_all := lw_g (lw_at lw_m8 94 rfl) rfl
theorem q1864 : (Jvm.Cond.methodLink "PointAtWhoIsLostLaw" (178 : Nat) ({ cls := "PointAtWhoIsLostModel", name := "worst", desc := "(I)I" } : Jvm.MethodName)) ∈ lw_all := lw_g (lw_at lw_m8 98 rfl) rfl
theorem q1872 : (Jvm.Cond.methodLink "PointAtWhoIsLostLaw" (182 : Nat) ({ cls := "PointAtWhoIsLostModel", name := "path", desc := "(II)I" } : Jvm.MethodName)) ∈ lw_all := lw_g (lw_at lw_m8 106 rfl) rfl
theorem q1876 : (Jvm.Cond.methodLink "PointAtWhoIsLostLaw" (186 : Nat) ({ cls := "PointAtWhoIsLostModel", name := "found", desc := "()I" } : Jvm.MethodName)) ∈ lw_all := lw_g (lw_at lw_m8 110 rfl) rfl
theorem q1880 : (Jvm.Cond.methodLink "PointAtWhoIsLostLaw" (190 : Nat) ({ cls := "PointAtWhoIsLostModel", name := "meet", desc := "()I" } : Jvm.MethodName)) ∈ lw_all := lw_g (lw_at lw_m8 114 rfl) rfl
theorem q1884 : (Jvm.Cond.methodLink "PointAtWhoIsLostLaw" (194 : Nat) ({ cls := "PointAtWhoIsLostModel", name := "judge", desc := "(III)I" } : Jvm.MethodName)) ∈ lw_all := lw_g (lw_at lw_m8 118 rfl) rfl
theorem q1892 : (Jvm.Cond.methodLink "PointAtWhoIsLostLaw" (198 : Nat) ({ cls := "PointAtWhoIsLostModel", name := "nears", desc := "(III)I" } : Jvm.MethodName)) ∈ lw_all := lw_g (lw_at lw_m8 126 rfl) rfl
theorem q1900 : (Jvm.Cond.methodLink "PointAtWhoIsLostLaw" (202 : Nat) ({ cls := "PointAtWhoIsLostModel", name := "done", desc := "(III)I" } : Jvm.MethodName)) ∈ lw_all := lw_g (lw_at lw_m8 134 rfl) rfl
theorem q1904 : (Jvm.Cond.methodLink "PointAtWhoIsLostLaw" (206 : Nat) ({ cls := "PointAtWhoIsLostModel", name := "goes", desc := "(II)I" } : Jvm.MethodName)) ∈ lw_all := lw_g (lw_at lw_m8 138 rfl) rfl
theorem q1912 : (Jvm.Cond.methodLink "PointAtWhoIsLostLaw" (210 : Nat) ({ cls := "PointAtWhoIsLostModel", name := "days", desc := "(I)I" } : Jvm.MethodName)) ∈ lw_all := lw_g (lw_at lw_m8 146 rfl) rfl
theorem q1929 : (Jvm.Cond.methodLink "PointAtWhoIsLostLaw" (214 : Nat) ({ cls := "PointAtWhoIsLostModel", name := "seed", desc := "(I)I" } : Jvm.MethodName)) ∈ lw_all := lw_g (lw_at lw_m8 163 rfl) rfl
theorem q1933 : (Jvm.Cond.methodLink "PointAtWhoIsLostLaw" (218 : Nat) ({ cls := "PointAtWhoIsLostModel", name := "image", desc := "()I" } : Jvm.MethodName)) ∈ lw_all := lw_g (lw_at lw_m8 167 rfl) rfl
theorem q1937 : (Jvm.Cond.methodLink "PointAtWhoIsLostLaw" (222 : Nat) ({ cls := "PointAtWhoIsLostModel", name := "back", desc := "()I" } : Jvm.MethodName)) ∈ lw_all := lw_g (lw_at lw_m8 171 rfl) rfl
theorem q1941 : (Jvm.Cond.methodLink "PointAtWhoIsLostLaw" (226 : Nat) ({ cls := "PointAtWhoIsLostModel", name := "status", desc := "(I)I" } : Jvm.MethodName)) ∈ lw_all := lw_g (lw_at lw_m8 175 rfl) rfl
theorem q1945 : (Jvm.Cond.constantLong "PointAtWhoIsLostLaw" (18 : Nat) (4294967295 : Int64)) ∈ lw_all := lw_g (lw_at lw_m8 179 rfl) rfl
theorem q824 : (Jvm.Cond.sameMethod "[B" "java/lang/Object" "clone" "()Ljava/lang/Object;") ∈ lw_all := lw_g (lw_at lw_m4 18 rfl) rfl
theorem q827 : (Jvm.Cond.selects "[B" ({ cls := "[B", name := "clone", desc := "()Ljava/lang/Object;" } : Jvm.MethodName) ({ cls := "java/lang/Object", name := "clone", desc := "()Ljava/lang/Object;" } : Jvm.MethodName)) ∈ lw_all := lw_g (lw_at lw_m4 21 rfl) rfl
theorem q828 : (Jvm.Cond.castable "[B" "java/lang/Cloneable") ∈ lw_tbl := lw_at lw_m4 22 rfl
theorem q102 : (Jvm.Cond.initialized "java/lang/System") ∈ lw_all := lw_g (lw_at lw_m1 16 rfl) rfl
theorem q464 : (Jvm.Cond.static ({ cls := "java/lang/System", name := "arraycopy", desc := "(Ljava/lang/Object;ILjava/lang/Object;II)V" } : Jvm.MethodName)) ∈ lw_all := lw_g (lw_at lw_m2 138 rfl) rfl
theorem q465 : (Jvm.Cond.native ({ cls := "java/lang/System", name := "arraycopy", desc := "(Ljava/lang/Object;ILjava/lang/Object;II)V" } : Jvm.MethodName)) ∈ lw_all := lw_g (lw_at lw_m2 139 rfl) rfl
theorem q999 : (Jvm.Cond.interfaceMethod "jdk/internal/access/JavaLangAccess" "jdk/internal/access/JavaLangAccess" "getUTF16Char" "([BI)C") ∈ lw_tbl := lw_at lw_m4 193 rfl
theorem q1000 : (Jvm.Cond.declares ({ cls := "jdk/internal/access/JavaLangAccess", name := "getUTF16Char", desc := "([BI)C" } : Jvm.MethodName)) ∈ lw_tbl := lw_at lw_m4 194 rfl
theorem q136 : (Jvm.Cond.arrayOver (Jvm.ClassFile.FieldType.object "PointAtWhoIsLost$Post")) ∈ lw_tbl := lw_at lw_m1 50 rfl
theorem q159 : (Jvm.Cond.arrayClass Jvm.ClassFile.FieldType.int) ∈ lw_all := lw_g (lw_at lw_m1 73 rfl) rfl
theorem q210 : (Jvm.Cond.arrayOver (Jvm.ClassFile.FieldType.object "PointAtWhoIsLost$Sheet")) ∈ lw_tbl := lw_at lw_m1 124 rfl
theorem q220 : (Jvm.Cond.arrayClass Jvm.ClassFile.FieldType.long) ∈ lw_all := lw_g (lw_at lw_m1 134 rfl) rfl
theorem q333 : (Jvm.Cond.arrayClass Jvm.ClassFile.FieldType.byte) ∈ lw_all := lw_g (lw_at lw_m2 7 rfl) rfl
theorem q351 : (Jvm.Cond.arrayClass Jvm.ClassFile.FieldType.short) ∈ lw_all := lw_g (lw_at lw_m2 25 rfl) rfl
theorem q352 : (Jvm.Cond.arrayClass Jvm.ClassFile.FieldType.boolean) ∈ lw_all := lw_g (lw_at lw_m2 26 rfl) rfl
theorem q1961 : (Jvm.Cond.arrayClass Jvm.ClassFile.FieldType.char) ∈ lw_all := lw_g (lw_at lw_m8 195 rfl) rfl
