/-! PullThePlugLaw -/
set_option maxRecDepth 100000
def RX0 : String := "PullThePlugLaw"
abbrev cX0_lake : ByteArray := method_3_code
def yX0_lake : MethodName := ⟨RX0, "lake", "(LPullThePlug;II[J)I"⟩
def dkwX0_lake_0 : List UInt8 := [45, 3, 42, 27, 28, 182, 0, 7, 133, 80, 167, 0, 7, 58, 4, 4, 172, 3, 172]
abbrev dktX0_lake_0 : List UInt8 := dkwX0_lake_0 ++ []
theorem dksX0_lake_0 : cX0_lake.data.toList.drop 0 = dktX0_lake_0 := by decide +kernel
theorem dX0_lake_0 : decode cX0_lake 0 = .ok (.aload_n 3, 1) := dk_45 (dk_at dksX0_lake_0 0 rfl rfl)
theorem dX0_lake_1 : decode cX0_lake 1 = .ok (.iconst 0, 1) := dk_3 (dk_at dksX0_lake_0 1 rfl rfl)
theorem dX0_lake_2 : decode cX0_lake 2 = .ok (.aload_n 0, 1) := dk_42 (dk_at dksX0_lake_0 2 rfl rfl)
theorem dX0_lake_3 : decode cX0_lake 3 = .ok (.iload_n 1, 1) := dk_27 (dk_at dksX0_lake_0 3 rfl rfl)
theorem dX0_lake_4 : decode cX0_lake 4 = .ok (.iload_n 2, 1) := dk_28 (dk_at dksX0_lake_0 4 rfl rfl)
theorem dX0_lake_5 : decode cX0_lake 5 = .ok (.invokevirtual 7, 3) := dk_182 0 7 (dk_at dksX0_lake_0 5 rfl rfl)
theorem dX0_lake_8 : decode cX0_lake 8 = .ok (.i2l, 1) := dk_133 (dk_at dksX0_lake_0 8 rfl rfl)
theorem dX0_lake_9 : decode cX0_lake 9 = .ok (.lastore, 1) := dk_80 (dk_at dksX0_lake_0 9 rfl rfl)
theorem dX0_lake_10 : decode cX0_lake 10 = .ok (.goto 7, 3) := dk_167 0 7 (dk_at dksX0_lake_0 10 rfl rfl)
theorem dX0_lake_13 : decode cX0_lake 13 = .ok (.astore 4, 2) := dk_58 4 (dk_at dksX0_lake_0 13 rfl rfl)
theorem dX0_lake_15 : decode cX0_lake 15 = .ok (.iconst 1, 1) := dk_4 (dk_at dksX0_lake_0 15 rfl rfl)
theorem dX0_lake_16 : decode cX0_lake 16 = .ok (.ireturn, 1) := dk_172 (dk_at dksX0_lake_0 16 rfl rfl)
theorem dX0_lake_17 : decode cX0_lake 17 = .ok (.iconst 0, 1) := dk_3 (dk_at dksX0_lake_0 17 rfl rfl)
theorem dX0_lake_18 : decode cX0_lake 18 = .ok (.ireturn, 1) := dk_172 (dk_at dksX0_lake_0 18 rfl rfl)
abbrev cX0_row : ByteArray := method_4_code
def yX0_row : MethodName := ⟨RX0, "row", "(LPullThePlug;I[J)I"⟩
def dkwX0_row_0 : List UInt8 := [44, 3, 42, 27, 182, 0, 15, 80, 167, 0, 6, 78, 4, 172, 3, 172]
abbrev dktX0_row_0 : List UInt8 := dkwX0_row_0 ++ []
theorem dksX0_row_0 : cX0_row.data.toList.drop 0 = dktX0_row_0 := by decide +kernel
theorem dX0_row_0 : decode cX0_row 0 = .ok (.aload_n 2, 1) := dk_44 (dk_at dksX0_row_0 0 rfl rfl)
theorem dX0_row_1 : decode cX0_row 1 = .ok (.iconst 0, 1) := dk_3 (dk_at dksX0_row_0 1 rfl rfl)
theorem dX0_row_2 : decode cX0_row 2 = .ok (.aload_n 0, 1) := dk_42 (dk_at dksX0_row_0 2 rfl rfl)
theorem dX0_row_3 : decode cX0_row 3 = .ok (.iload_n 1, 1) := dk_27 (dk_at dksX0_row_0 3 rfl rfl)
theorem dX0_row_4 : decode cX0_row 4 = .ok (.invokevirtual 15, 3) := dk_182 0 15 (dk_at dksX0_row_0 4 rfl rfl)
theorem dX0_row_7 : decode cX0_row 7 = .ok (.lastore, 1) := dk_80 (dk_at dksX0_row_0 7 rfl rfl)
theorem dX0_row_8 : decode cX0_row 8 = .ok (.goto 6, 3) := dk_167 0 6 (dk_at dksX0_row_0 8 rfl rfl)
theorem dX0_row_11 : decode cX0_row 11 = .ok (.astore_n 3, 1) := dk_78 (dk_at dksX0_row_0 11 rfl rfl)
theorem dX0_row_12 : decode cX0_row 12 = .ok (.iconst 1, 1) := dk_4 (dk_at dksX0_row_0 12 rfl rfl)
theorem dX0_row_13 : decode cX0_row 13 = .ok (.ireturn, 1) := dk_172 (dk_at dksX0_row_0 13 rfl rfl)
theorem dX0_row_14 : decode cX0_row 14 = .ok (.iconst 0, 1) := dk_3 (dk_at dksX0_row_0 14 rfl rfl)
theorem dX0_row_15 : decode cX0_row 15 = .ok (.ireturn, 1) := dk_172 (dk_at dksX0_row_0 15 rfl rfl)
theorem q96 : (Jvm.Cond.initialized "PullThePlugLaw") ∈ lw_all := lw_g (lw_at lw_m1 0 rfl) rfl
theorem q118 : (Jvm.Cond.classLink "PullThePlugLaw" (8 : Nat) "PullThePlug") ∈ lw_all := lw_g (lw_at lw_m1 22 rfl) rfl
theorem q120 : (Jvm.Cond.methodLink "PullThePlugLaw" (19 : Nat) ({ cls := "PullThePlug", name := "<init>", desc := "()V" } : Jvm.MethodName)) ∈ lw_all := lw_g (lw_at lw_m1 24 rfl) rfl
theorem q325 : (Jvm.Cond.methodLink "PullThePlugLaw" (23 : Nat) ({ cls := "PullThePlug", name := "sign", desc := "(I)I" } : Jvm.MethodName)) ∈ lw_all := lw_g (lw_at lw_m1 229 rfl) rfl
theorem q329 : (Jvm.Cond.methodLink "PullThePlugLaw" (28 : Nat) ({ cls := "PullThePlug", name := "end", desc := "(I)Z" } : Jvm.MethodName)) ∈ lw_all := lw_g (lw_at lw_m1 233 rfl) rfl
theorem q336 : (Jvm.Cond.methodLink "PullThePlugLaw" (33 : Nat) ({ cls := "PullThePlug", name := "lakes", desc := "()I" } : Jvm.MethodName)) ∈ lw_all := lw_g (lw_at lw_m2 0 rfl) rfl
theorem q552 : (Jvm.Cond.methodLink "PullThePlugLaw" (38 : Nat) ({ cls := "PullThePlug", name := "rule", desc := "()I" } : Jvm.MethodName)) ∈ lw_all := lw_g (lw_at lw_m2 216 rfl) rfl
theorem q642 : (Jvm.Cond.methodLink "PullThePlugLaw" (51 : Nat) ({ cls := "PullThePlug", name := "sheet", desc := "(IIII)I" } : Jvm.MethodName)) ∈ lw_all := lw_g (lw_at lw_m3 66 rfl) rfl
theorem q663 : (Jvm.Cond.methodLink "PullThePlugLaw" (84 : Nat) ({ cls := "PullThePlug", name := "undo", desc := "()I" } : Jvm.MethodName)) ∈ lw_all := lw_g (lw_at lw_m3 87 rfl) rfl
theorem q672 : (Jvm.Cond.methodLink "PullThePlugLaw" (56 : Nat) ({ cls := "PullThePlug", name := "days", desc := "(I)I" } : Jvm.MethodName)) ∈ lw_all := lw_g (lw_at lw_m3 96 rfl) rfl
theorem q724 : (Jvm.Cond.methodLink "PullThePlugLaw" (60 : Nat) ({ cls := "PullThePlug", name := "pulls", desc := "(I)I" } : Jvm.MethodName)) ∈ lw_all := lw_g (lw_at lw_m3 148 rfl) rfl
theorem q741 : (Jvm.Cond.methodLink "PullThePlugLaw" (64 : Nat) ({ cls := "PullThePlug", name := "stops", desc := "(I)I" } : Jvm.MethodName)) ∈ lw_all := lw_g (lw_at lw_m3 165 rfl) rfl
theorem q745 : (Jvm.Cond.methodLink "PullThePlugLaw" (68 : Nat) ({ cls := "PullThePlug", name := "combs", desc := "(I)I" } : Jvm.MethodName)) ∈ lw_all := lw_g (lw_at lw_m3 169 rfl) rfl
theorem q753 : (Jvm.Cond.methodLink "PullThePlugLaw" (72 : Nat) ({ cls := "PullThePlug", name := "taps", desc := "(II)I" } : Jvm.MethodName)) ∈ lw_all := lw_g (lw_at lw_m3 177 rfl) rfl
theorem q762 : (Jvm.Cond.methodLink "PullThePlugLaw" (76 : Nat) ({ cls := "PullThePlug", name := "gives", desc := "(II)I" } : Jvm.MethodName)) ∈ lw_all := lw_g (lw_at lw_m3 186 rfl) rfl
theorem q770 : (Jvm.Cond.methodLink "PullThePlugLaw" (80 : Nat) ({ cls := "PullThePlug", name := "year", desc := "()I" } : Jvm.MethodName)) ∈ lw_all := lw_g (lw_at lw_m3 194 rfl) rfl
theorem q783 : (Jvm.Cond.methodLink "PullThePlugLaw" (88 : Nat) ({ cls := "PullThePlug", name := "later", desc := "(II)I" } : Jvm.MethodName)) ∈ lw_all := lw_g (lw_at lw_m3 207 rfl) rfl
theorem q788 : (Jvm.Cond.methodLink "PullThePlugLaw" (92 : Nat) ({ cls := "PullThePlug", name := "dries", desc := "(I)I" } : Jvm.MethodName)) ∈ lw_all := lw_g (lw_at lw_m3 212 rfl) rfl
theorem q796 : (Jvm.Cond.methodLink "PullThePlugLaw" (96 : Nat) ({ cls := "PullThePlug", name := "brims", desc := "(I)I" } : Jvm.MethodName)) ∈ lw_all := lw_g (lw_at lw_m3 220 rfl) rfl
theorem q800 : (Jvm.Cond.methodLink "PullThePlugLaw" (100 : Nat) ({ cls := "PullThePlug", name := "marks", desc := "(II)I" } : Jvm.MethodName)) ∈ lw_all := lw_g (lw_at lw_m3 224 rfl) rfl
theorem q804 : (Jvm.Cond.methodLink "PullThePlugLaw" (104 : Nat) ({ cls := "PullThePlug", name := "realm", desc := "(I)I" } : Jvm.MethodName)) ∈ lw_all := lw_g (lw_at lw_m3 228 rfl) rfl
theorem q812 : (Jvm.Cond.methodLink "PullThePlugLaw" (108 : Nat) ({ cls := "PullThePlug", name := "course", desc := "(I)I" } : Jvm.MethodName)) ∈ lw_all := lw_g (lw_at lw_m3 236 rfl) rfl
theorem q816 : (Jvm.Cond.methodLink "PullThePlugLaw" (112 : Nat) ({ cls := "PullThePlug", name := "basin", desc := "(I)I" } : Jvm.MethodName)) ∈ lw_all := lw_g (lw_at lw_m4 0 rfl) rfl
theorem q820 : (Jvm.Cond.methodLink "PullThePlugLaw" (116 : Nat) ({ cls := "PullThePlug", name := "order", desc := "(I)I" } : Jvm.MethodName)) ∈ lw_all := lw_g (lw_at lw_m4 4 rfl) rfl
theorem q828 : (Jvm.Cond.methodLink "PullThePlugLaw" (120 : Nat) ({ cls := "PullThePlug", name := "meets", desc := "(II)I" } : Jvm.MethodName)) ∈ lw_all := lw_g (lw_at lw_m4 12 rfl) rfl
theorem q832 : (Jvm.Cond.methodLink "PullThePlugLaw" (124 : Nat) ({ cls := "PullThePlug", name := "richest", desc := "(I)I" } : Jvm.MethodName)) ∈ lw_all := lw_g (lw_at lw_m4 16 rfl) rfl
theorem q836 : (Jvm.Cond.methodLink "PullThePlugLaw" (128 : Nat) ({ cls := "PullThePlug", name := "swims", desc := "(III)I" } : Jvm.MethodName)) ∈ lw_all := lw_g (lw_at lw_m4 20 rfl) rfl
theorem q840 : (Jvm.Cond.methodLink "PullThePlugLaw" (133 : Nat) ({ cls := "PullThePlug", name := "lets", desc := "(II)I" } : Jvm.MethodName)) ∈ lw_all := lw_g (lw_at lw_m4 24 rfl) rfl
theorem q856 : (Jvm.Cond.methodLink "PullThePlugLaw" (137 : Nat) ({ cls := "PullThePlug", name := "just", desc := "(II)I" } : Jvm.MethodName)) ∈ lw_all := lw_g (lw_at lw_m4 40 rfl) rfl
theorem q864 : (Jvm.Cond.methodLink "PullThePlugLaw" (141 : Nat) ({ cls := "PullThePlug", name := "fills", desc := "(II)I" } : Jvm.MethodName)) ∈ lw_all := lw_g (lw_at lw_m4 48 rfl) rfl
theorem q869 : (Jvm.Cond.methodLink "PullThePlugLaw" (145 : Nat) ({ cls := "PullThePlug", name := "needs", desc := "(III)I" } : Jvm.MethodName)) ∈ lw_all := lw_g (lw_at lw_m4 53 rfl) rfl
theorem q873 : (Jvm.Cond.methodLink "PullThePlugLaw" (149 : Nat) ({ cls := "PullThePlug", name := "crosses", desc := "(I)I" } : Jvm.MethodName)) ∈ lw_all := lw_g (lw_at lw_m4 57 rfl) rfl
theorem q878 : (Jvm.Cond.methodLink "PullThePlugLaw" (153 : Nat) ({ cls := "PullThePlug", name := "ring", desc := "(III)I" } : Jvm.MethodName)) ∈ lw_all := lw_g (lw_at lw_m4 62 rfl) rfl
theorem q883 : (Jvm.Cond.methodLink "PullThePlugLaw" (157 : Nat) ({ cls := "PullThePlug", name := "washes", desc := "()I" } : Jvm.MethodName)) ∈ lw_all := lw_g (lw_at lw_m4 67 rfl) rfl
theorem q887 : (Jvm.Cond.methodLink "PullThePlugLaw" (161 : Nat) ({ cls := "PullThePlug", name := "leaks", desc := "()I" } : Jvm.MethodName)) ∈ lw_all := lw_g (lw_at lw_m4 71 rfl) rfl
theorem q902 : (Jvm.Cond.methodLink "PullThePlugLaw" (165 : Nat) ({ cls := "PullThePlug", name := "reads", desc := "()I" } : Jvm.MethodName)) ∈ lw_all := lw_g (lw_at lw_m4 86 rfl) rfl
theorem q911 : (Jvm.Cond.methodLink "PullThePlugLaw" (169 : Nat) ({ cls := "PullThePlug", name := "threat", desc := "(I)I" } : Jvm.MethodName)) ∈ lw_all := lw_g (lw_at lw_m4 95 rfl) rfl
theorem q915 : (Jvm.Cond.methodLink "PullThePlugLaw" (173 : Nat) ({ cls := "PullThePlug", name := "treaty", desc := "(I)I" } : Jvm.MethodName)) ∈ lw_all := lw_g (lw_at lw_m4 99 rfl) rfl
theorem q928 : (Jvm.Cond.methodLink "PullThePlugLaw" (177 : Nat) ({ cls := "PullThePlug", name := "wants", desc := "(I)I" } : Jvm.MethodName)) ∈ lw_all := lw_g (lw_at lw_m4 112 rfl) rfl
theorem q932 : (Jvm.Cond.methodLink "PullThePlugLaw" (181 : Nat) ({ cls := "PullThePlug", name := "evens", desc := "()I" } : Jvm.MethodName)) ∈ lw_all := lw_g (lw_at lw_m4 116 rfl) rfl
theorem q939 : (Jvm.Cond.methodLink "PullThePlugLaw" (185 : Nat) ({ cls := "PullThePlug", name := "feared", desc := "()I" } : Jvm.MethodName)) ∈ lw_all := lw_g (lw_at lw_m4 123 rfl) rfl
theorem q943 : (Jvm.Cond.methodLink "PullThePlugLaw" (189 : Nat) ({ cls := "PullThePlug", name := "heirs", desc := "()I" } : Jvm.MethodName)) ∈ lw_all := lw_g (lw_at lw_m4 127 rfl) rfl
theorem q952 : (Jvm.Cond.methodLink "PullThePlugLaw" (193 : Nat) ({ cls := "PullThePlug", name := "duck", desc := "(III)I" } : Jvm.MethodName)) ∈ lw_all := lw_g (lw_at lw_m4 136 rfl) rfl
theorem q968 : (Jvm.Cond.methodLink "PullThePlugLaw" (197 : Nat) ({ cls := "PullThePlug", name := "spoon", desc := "(III)I" } : Jvm.MethodName)) ∈ lw_all := lw_g (lw_at lw_m4 152 rfl) rfl
theorem q972 : (Jvm.Cond.methodLink "PullThePlugLaw" (201 : Nat) ({ cls := "PullThePlug", name := "rests", desc := "(I)I" } : Jvm.MethodName)) ∈ lw_all := lw_g (lw_at lw_m4 156 rfl) rfl
theorem q982 : (Jvm.Cond.methodLink "PullThePlugLaw" (205 : Nat) ({ cls := "PullThePlug", name := "law", desc := "()I" } : Jvm.MethodName)) ∈ lw_all := lw_g (lw_at lw_m4 166 rfl) rfl
theorem q986 : (Jvm.Cond.methodLink "PullThePlugLaw" (209 : Nat) ({ cls := "PullThePlug", name := "years", desc := "(II)I" } : Jvm.MethodName)) ∈ lw_all := lw_g (lw_at lw_m4 170 rfl) rfl
theorem q995 : (Jvm.Cond.methodLink "PullThePlugLaw" (213 : Nat) ({ cls := "PullThePlug", name := "keep", desc := "(I)Z" } : Jvm.MethodName)) ∈ lw_all := lw_g (lw_at lw_m4 179 rfl) rfl
theorem q999 : (Jvm.Cond.methodLink "PullThePlugLaw" (217 : Nat) ({ cls := "PullThePlug", name := "again", desc := "(I)Z" } : Jvm.MethodName)) ∈ lw_all := lw_g (lw_at lw_m4 183 rfl) rfl
theorem q1003 : (Jvm.Cond.methodLink "PullThePlugLaw" (221 : Nat) ({ cls := "PullThePlug", name := "count", desc := "(I)I" } : Jvm.MethodName)) ∈ lw_all := lw_g (lw_at lw_m4 187 rfl) rfl
theorem q1011 : (Jvm.Cond.methodLink "PullThePlugLaw" (42 : Nat) ({ cls := "PullThePlugLaw", name := "lake", desc := "(LPullThePlug;II[J)I" } : Jvm.MethodName)) ∈ lw_all := lw_g (lw_at lw_m4 195 rfl) rfl
theorem q1012 : (Jvm.Cond.static ({ cls := "PullThePlugLaw", name := "lake", desc := "(LPullThePlug;II[J)I" } : Jvm.MethodName)) ∈ lw_all := lw_g (lw_at lw_m4 196 rfl) rfl
theorem q1013 : (Jvm.Cond.codeWith ({ cls := "PullThePlugLaw", name := "lake", desc := "(LPullThePlug;II[J)I" } : Jvm.MethodName) method_3_code (5 : Nat) (Option.some Jvm.ClassFile.FieldType.int) [((0 : Nat), (10 : Nat), (13 : Nat), (13 : Nat))]) ∈ lw_all := lw_g (lw_at lw_m4 197 rfl) rfl
theorem q1014 : (Jvm.Cond.classLink "PullThePlugLaw" (13 : Nat) "java/util/NoSuchElementException") ∈ lw_all := lw_g (lw_at lw_m4 198 rfl) rfl
theorem q1015 : (Jvm.Cond.methodLink "PullThePlugLaw" (7 : Nat) ({ cls := "PullThePlug", name := "lake", desc := "(II)I" } : Jvm.MethodName)) ∈ lw_all := lw_g (lw_at lw_m4 199 rfl) rfl
theorem q1080 : (Jvm.Cond.methodLink "PullThePlugLaw" (225 : Nat) ({ cls := "PullThePlugLaw", name := "row", desc := "(LPullThePlug;I[J)I" } : Jvm.MethodName)) ∈ lw_all := lw_g (lw_at lw_m5 24 rfl) rfl
theorem q1081 : (Jvm.Cond.static ({ cls := "PullThePlugLaw", name := "row", desc := "(LPullThePlug;I[J)I" } : Jvm.MethodName)) ∈ lw_all := lw_g (lw_at lw_m5 25 rfl) rfl
theorem q1082 : (Jvm.Cond.codeWith ({ cls := "PullThePlugLaw", name := "row", desc := "(LPullThePlug;I[J)I" } : Jvm.MethodName) method_4_code (4 : Nat) (Option.some Jvm.ClassFile.FieldType.int) [((0 : Nat), (8 : Nat), (11 : Nat), (13 : Nat))]) ∈ lw_all := lw_g (lw_at lw_m5 26 rfl) rfl
theorem q1083 : (Jvm.Cond.methodLink "PullThePlugLaw" (15 : Nat) ({ cls := "PullThePlug", name := "row", desc := "(I)J" } : Jvm.MethodName)) ∈ lw_all := lw_g (lw_at lw_m5 27 rfl) rfl
theorem q1087 : (Jvm.Cond.classLink "PullThePlugLaw" (20 : Nat) "PullThePlugModel") ∈ lw_all := lw_g (lw_at lw_m5 31 rfl) rfl
theorem q1089 : (Jvm.Cond.methodLink "PullThePlugLaw" (22 : Nat) ({ cls := "PullThePlugModel", name := "<init>", desc := "()V" } : Jvm.MethodName)) ∈ lw_all := lw_g (lw_at lw_m5 33 rfl) rfl
theorem q1223 : (Jvm.Cond.methodLink "PullThePlugLaw" (48 : Nat) ({ cls := "PullThePlugModel", name := "thrown", desc := "()I" } : Jvm.MethodName)) ∈ lw_all := lw_g (lw_at lw_m5 167 rfl) rfl
theorem q1227 : (Jvm.Cond.methodLink "PullThePlugLaw" (27 : Nat) ({ cls := "PullThePlugModel", name := "sign", desc := "(I)I" } : Jvm.MethodName)) ∈ lw_all := lw_g (lw_at lw_m5 171 rfl) rfl
theorem q1231 : (Jvm.Cond.methodLink "PullThePlugLaw" (32 : Nat) ({ cls := "PullThePlugModel", name := "end", desc := "(I)Z" } : Jvm.MethodName)) ∈ lw_all := lw_g (lw_at lw_m5 175 rfl) rfl
theorem q1238 : (Jvm.Cond.methodLink "PullThePlugLaw" (37 : Nat) ({ cls := "PullThePlugModel", name := "lakes", desc := "()I" } : Jvm.MethodName)) ∈ lw_all := lw_g (lw_at lw_m5 182 rfl) rfl
theorem q1278 : (Jvm.Cond.methodLink "PullThePlugLaw" (41 : Nat) ({ cls := "PullThePlugModel", name := "rule", desc := "()I" } : Jvm.MethodName)) ∈ lw_all := lw_g (lw_at lw_m5 222 rfl) rfl
theorem q1313 : (Jvm.Cond.methodLink "PullThePlugLaw" (47 : Nat) ({ cls := "PullThePlugModel", name := "lake", desc := "(II)I" } : Jvm.MethodName)) ∈ lw_all := lw_g (lw_at lw_m6 17 rfl) rfl
theorem q1336 : (Jvm.Cond.methodLink "PullThePlugLaw" (55 : Nat) ({ cls := "PullThePlugModel", name := "sheet", desc := "(IIII)I" } : Jvm.MethodName)) ∈ lw_all := lw_g (lw_at lw_m6 40 rfl) rfl
theorem q1344 : (Jvm.Cond.methodLink "PullThePlugLaw" (59 : Nat) ({ cls := "PullThePlugModel", name := "days", desc := "(I)I" } : Jvm.MethodName)) ∈ lw_all := lw_g (lw_at lw_m6 48 rfl) rfl
theorem q1367 : (Jvm.Cond.methodLink "PullThePlugLaw" (63 : Nat) ({ cls := "PullThePlugModel", name := "pulls", desc := "(I)I" } : Jvm.MethodName)) ∈ lw_all := lw_g (lw_at lw_m6 71 rfl) rfl
theorem q1379 : (Jvm.Cond.methodLink "PullThePlugLaw" (67 : Nat) ({ cls := "PullThePlugModel", name := "stops", desc := "(I)I" } : Jvm.MethodName)) ∈ lw_all := lw_g (lw_at lw_m6 83 rfl) rfl
theorem q1383 : (Jvm.Cond.methodLink "PullThePlugLaw" (71 : Nat) ({ cls := "PullThePlugModel", name := "combs", desc := "(I)I" } : Jvm.MethodName)) ∈ lw_all := lw_g (lw_at lw_m6 87 rfl) rfl
theorem q1391 : (Jvm.Cond.methodLink "PullThePlugLaw" (75 : Nat) ({ cls := "PullThePlugModel", name := "taps", desc := "(II)I" } : Jvm.MethodName)) ∈ lw_all := lw_g (lw_at lw_m6 95 rfl) rfl
theorem q1403 : (Jvm.Cond.methodLink "PullThePlugLaw" (79 : Nat) ({ cls := "PullThePlugModel", name := "gives", desc := "(II)I" } : Jvm.MethodName)) ∈ lw_all := lw_g (lw_at lw_m6 107 rfl) rfl
theorem q1407 : (Jvm.Cond.methodLink "PullThePlugLaw" (83 : Nat) ({ cls := "PullThePlugModel", name := "year", desc := "()I" } : Jvm.MethodName)) ∈ lw_all := lw_g (lw_at lw_m6 111 rfl) rfl
theorem q1419 : (Jvm.Cond.methodLink "PullThePlugLaw" (87 : Nat) ({ cls := "PullThePlugModel", name := "undo", desc := "()I" } : Jvm.MethodName)) ∈ lw_all := lw_g (lw_at lw_m6 123 rfl) rfl
theorem q1423 : (Jvm.Cond.methodLink "PullThePlugLaw" (91 : Nat) ({ cls := "PullThePlugModel", name := "later", desc := "(II)I" } : Jvm.MethodName)) ∈ lw_all := lw_g (lw_at lw_m6 127 rfl) rfl
theorem q1431 : (Jvm.Cond.methodLink "PullThePlugLaw" (95 : Nat) ({ cls := "PullThePlugModel", name := "dries", desc := "(I)I" } : Jvm.MethodName)) ∈ lw_all := lw_g (lw_at lw_m6 135 rfl) rfl
theorem q1435 : (Jvm.Cond.methodLink "PullThePlugLaw" (99 : Nat) ({ cls := "PullThePlugModel", name := "brims", desc := "(I)I" } : Jvm.MethodName)) ∈ lw_all := lw_g (lw_at lw_m6 139 rfl) rfl
theorem q1439 : (Jvm.Cond.methodLink "PullThePlugLaw" (103 : Nat) ({ cls := "PullThePlugModel", name := "marks", desc := "(II)I" } : Jvm.MethodName)) ∈ lw_all := lw_g (lw_at lw_m6 143 rfl) rfl
theorem q1443 : (Jvm.Cond.methodLink "PullThePlugLaw" (107 : Nat) ({ cls := "PullThePlugModel", name := "realm", desc := "(I)I" } : Jvm.MethodName)) ∈ lw_all := lw_g (lw_at lw_m6 147 rfl) rfl
theorem q1461 : (Jvm.Cond.methodLink "PullThePlugLaw" (111 : Nat) ({ cls := "PullThePlugModel", name := "course", desc := "(I)I" } : Jvm.MethodName)) ∈ lw_all := lw_g (lw_at lw_m6 165 rfl) rfl
theorem q1465 : (Jvm.Cond.methodLink "PullThePlugLaw" (115 : Nat) ({ cls := "PullThePlugModel", name := "basin", desc := "(I)I" } : Jvm.MethodName)) ∈ lw_all := lw_g (lw_at lw_m6 169 rfl) rfl
theorem q1469 : (Jvm.Cond.methodLink "PullThePlugLaw" (119 : Nat) ({ cls := "PullThePlugModel", name := "order", desc := "(I)I" } : Jvm.MethodName)) ∈ lw_all := lw_g (lw_at lw_m6 173 rfl) rfl
theorem q1473 : (Jvm.Cond.methodLink "PullThePlugLaw" (123 : Nat) ({ cls := "PullThePlugModel", name := "meets", desc := "(II)I" } : Jvm.MethodName)) ∈ lw_all := lw_g (lw_at lw_m6 177 rfl) rfl
theorem q1481 : (Jvm.Cond.methodLink "PullThePlugLaw" (127 : Nat) ({ cls := "PullThePlugModel", name := "richest", desc := "(I)I" } : Jvm.MethodName)) ∈ lw_all := lw_g (lw_at lw_m6 185 rfl) rfl
theorem q1485 : (Jvm.Cond.methodLink "PullThePlugLaw" (132 : Nat) ({ cls := "PullThePlugModel", name := "swims", desc := "(III)I" } : Jvm.MethodName)) ∈ lw_all := lw_g (lw_at lw_m6 189 rfl) rfl
theorem q1489 : (Jvm.Cond.methodLink "PullThePlugLaw" (136 : Nat) ({ cls := "PullThePlugModel", name := "lets", desc := "(II)I" } : Jvm.MethodName)) ∈ lw_all := lw_g (lw_at lw_m6 193 rfl) rfl
theorem q1509 : (Jvm.Cond.methodLink "PullThePlugLaw" (140 : Nat) ({ cls := "PullThePlugModel", name := "just", desc := "(II)I" } : Jvm.MethodName)) ∈ lw_all := lw_g (lw_at lw_m6 213 rfl) rfl
theorem q1513 : (Jvm.Cond.methodLink "PullThePlugLaw" (144 : Nat) ({ cls := "PullThePlugModel", name := "fills", desc := "(II)I" } : Jvm.MethodName)) ∈ lw_all := lw_g (lw_at lw_m6 217 rfl) rfl
theorem q1517 : (Jvm.Cond.methodLink "PullThePlugLaw" (148 : Nat) ({ cls := "PullThePlugModel", name := "needs", desc := "(III)I" } : Jvm.MethodName)) ∈ lw_all := lw_g (lw_at lw_m6 221 rfl) rfl
theorem q1521 : (Jvm.Cond.methodLink "PullThePlugLaw" (152 : Nat) ({ cls := "PullThePlugModel", name := "crosses", desc := "(I)I" } : Jvm.MethodName)) ∈ lw_all := lw_g (lw_at lw_m6 225 rfl) rfl
theorem q1526 : (Jvm.Cond.methodLink "PullThePlugLaw" (156 : Nat) ({ cls := "PullThePlugModel", name := "ring", desc := "(III)I" } : Jvm.MethodName)) ∈ lw_all := lw_g (lw_at lw_m6 230 rfl) rfl
theorem q1530 : (Jvm.Cond.methodLink "PullThePlugLaw" (160 : Nat) ({ cls := "PullThePlugModel", name := "washes", desc := "()I" } : Jvm.MethodName)) ∈ lw_all := lw_g (lw_at lw_m6 234 rfl) rfl
theorem q1534 : (Jvm.Cond.methodLink "PullThePlugLaw" (164 : Nat) ({ cls := "PullThePlugModel", name := "leaks", desc := "()I" } : Jvm.MethodName)) ∈ lw_all := lw_g (lw_at lw_m6 238 rfl) rfl
theorem q1542 : (Jvm.Cond.methodLink "PullThePlugLaw" (168 : Nat) ({ cls := "PullThePlugModel", name := "reads", desc := "()I" } : Jvm.MethodName)) ∈ lw_all := lw_g (lw_at lw_m7 6 rfl) rfl
theorem q1549 : (Jvm.Cond.methodLink "PullThePlugLaw" (172 : Nat) ({ cls := "PullThePlugModel", name := "threat", desc := "(I)I" } : Jvm.MethodName)) ∈ lw_all := lw_g (lw_at lw_m7 13 rfl) rfl
theorem q1553 : (Jvm.Cond.methodLink "PullThePlugLaw" (176 : Nat) ({ cls := "PullThePlugModel", name := "treaty", desc := "(I)I" } : Jvm.MethodName)) ∈ lw_all := lw_g (lw_at lw_m7 17 rfl) rfl
theorem q1561 : (Jvm.Cond.methodLink "PullThePlugLaw" (180 : Nat) ({ cls := "PullThePlugModel", name := "wants", desc := "(I)I" } : Jvm.MethodName)) ∈ lw_all := lw_g (lw_at lw_m7 25 rfl) rfl
theorem q1565 : (Jvm.Cond.methodLink "PullThePlugLaw" (184 : Nat) ({ cls := "PullThePlugModel", name := "evens", desc := "()I" } : Jvm.MethodName)) ∈ lw_all := lw_g (lw_at lw_m7 29 rfl) rfl
theorem q1570 : (Jvm.Cond.methodLink "PullThePlugLaw" (188 : Nat) ({ cls := "PullThePlugModel", name := "feared", desc := "()I" } : Jvm.MethodName)) ∈ lw_all := lw_g (lw_at lw_m7 34 rfl) rfl
theorem q1574 : (Jvm.Cond.methodLink "PullThePlugLaw" (192 : Nat) ({ cls := "PullThePlugModel", name := "heirs", desc := "()I" } : Jvm.MethodName)) ∈ lw_all := lw_g (lw_at lw_m7 38 rfl) rfl
theorem q1582 : (Jvm.Cond.methodLink "PullThePlugLaw" (196 : Nat) ({ cls := "PullThePlugModel", name := "duck", desc := "(III)I" } : Jvm.MethodName)) ∈ lw_all := lw_g (lw_at lw_m7 46 rfl) rfl
theorem q1598 : (Jvm.Cond.methodLink "PullThePlugLaw" (200 : Nat) ({ cls := "PullThePlugModel", name := "spoon", desc := "(III)I" } : Jvm.MethodName)) ∈ lw_all := lw_g (lw_at lw_m7 62 rfl) rfl
theorem q1602 : (Jvm.Cond.methodLink "PullThePlugLaw" (204 : Nat) ({ cls := "PullThePlugModel", name := "rests", desc := "(I)I" } : Jvm.MethodName)) ∈ lw_all := lw_g (lw_at lw_m7 66 rfl) rfl
theorem q1612 : (Jvm.Cond.methodLink "PullThePlugLaw" (208 : Nat) ({ cls := "PullThePlugModel", name := "law", desc := "()I" } : Jvm.MethodName)) ∈ lw_all := lw_g (lw_at lw_m7 76 rfl) rfl
theorem q1620 : (Jvm.Cond.methodLink "PullThePlugLaw" (212 : Nat) ({ cls := "PullThePlugModel", name := "years", desc := "(II)I" } : Jvm.MethodName)) ∈ lw_all := lw_g (lw_at lw_m7 84 rfl) rfl
theorem q1629 : (Jvm.Cond.methodLink "PullThePlugLaw" (216 : Nat) ({ cls := "PullThePlugModel", name := "keep", desc := "(I)Z" } : Jvm.MethodName)) ∈ lw_all := lw_g (lw_at lw_m7 93 rfl) rfl
theorem q1633 : (Jvm.Cond.methodLink "PullThePlugLaw" (220 : Nat) ({ cls := "PullThePlugModel", name := "again", desc := "(I)Z" } : Jvm.MethodName)) ∈ lw_all := lw_g (lw_at lw_m7 97 rfl) rfl
theorem q1637 : (Jvm.Cond.methodLink "PullThePlugLaw" (224 : Nat) ({ cls := "PullThePlugModel", name := "count", desc := "(I)I" } : Jvm.MethodName)) ∈ lw_all := lw_g (lw_at lw_m7 101 rfl) rfl
theorem q1645 : (Jvm.Cond.methodLink "PullThePlugLaw" (228 : Nat) ({ cls := "PullThePlugModel", name := "row", desc := "(I)J" } : Jvm.MethodName)) ∈ lw_all := lw_g (lw_at lw_m7 109 rfl) rfl
/-! PullThePlug$Water -/
set_option maxRecDepth 100000
def RX2 : String := "PullThePlug$Water"
def TX2 : u_T := fun k => match k with
  | 0 => ("PullThePlug$Water", "level", "[I", true)
  | 1 => ("PullThePlug$Water", "hair", "[I", true)
  | 2 => ("PullThePlug$Water", "tap", "[I", true)
  | 3 => ("PullThePlug$Water", "king", "[I", true)
  | 4 => ("PullThePlug$Water", "out", "I", false)
  | 5 => ("PullThePlug$Water", "day", "I", false)
  | 6 => ("PullThePlug$Water", "spilt", "I", false)
  | _ => ("PullThePlug$Water", "dried", "I", false)
def tyX2 : Nat → FieldType := fun k => match k with
  | 0 => .array .int
  | 1 => .array .int
  | 2 => .array .int
  | 3 => .array .int
  | 4 => .int
  | 5 => .int
  | 6 => .int
  | _ => .int
abbrev wsX20 : List Cond := u_ws RX2 TX2 8
theorem nmX2 : ∀ a, a < 8 → ∀ b, b < 8 → a ≠ b → (TX2 a).2.1 ≠ (TX2 b).2.1 := by decide +kernel
theorem tyX2_ok : ∀ k, k < 8 → parseFieldDescriptor (TX2 k).2.2.1 = some (tyX2 k) := by decide +kernel
abbrev cX2_init : ByteArray := prog_7_method_1_code
def yX2_init : MethodName := ⟨RX2, "<init>", "()V"⟩
def dkwX2_init_1 : List UInt8 := [188, 10, 181, 0, 18, 42, 16, 6, 188, 10, 181, 0, 21, 177]
abbrev dktX2_init_1 : List UInt8 := dkwX2_init_1 ++ []
def dkwX2_init_0 : List UInt8 := [42, 183, 0, 3, 42, 16, 6, 188, 10, 181, 0, 9, 42, 16, 6, 188, 10, 181, 0, 15, 42, 16, 6]
abbrev dktX2_init_0 : List UInt8 := dkwX2_init_0 ++ dktX2_init_1
theorem dksX2_init_0 : cX2_init.data.toList.drop 0 = dktX2_init_0 := by decide +kernel
theorem dksX2_init_1 : cX2_init.data.toList.drop 23 = dktX2_init_1 := dk_seg dksX2_init_0 23 rfl rfl
theorem dX2_init_0 : decode cX2_init 0 = .ok (.aload_n 0, 1) := dk_42 (dk_at dksX2_init_0 0 rfl rfl)
theorem dX2_init_1 : decode cX2_init 1 = .ok (.invokespecial 3, 3) := dk_183 0 3 (dk_at dksX2_init_0 1 rfl rfl)
theorem dX2_init_4 : decode cX2_init 4 = .ok (.aload_n 0, 1) := dk_42 (dk_at dksX2_init_0 4 rfl rfl)
theorem dX2_init_5 : decode cX2_init 5 = .ok (.bipush 6, 2) := dk_16 6 (dk_at dksX2_init_0 5 rfl rfl)
theorem dX2_init_7 : decode cX2_init 7 = .ok (.newarray .int, 2) := dk_188_10 (dk_at dksX2_init_0 7 rfl rfl)
theorem dX2_init_9 : decode cX2_init 9 = .ok (.putfield 9, 3) := dk_181 0 9 (dk_at dksX2_init_0 9 rfl rfl)
theorem dX2_init_12 : decode cX2_init 12 = .ok (.aload_n 0, 1) := dk_42 (dk_at dksX2_init_0 12 rfl rfl)
theorem dX2_init_13 : decode cX2_init 13 = .ok (.bipush 6, 2) := dk_16 6 (dk_at dksX2_init_0 13 rfl rfl)
theorem dX2_init_15 : decode cX2_init 15 = .ok (.newarray .int, 2) := dk_188_10 (dk_at dksX2_init_0 15 rfl rfl)
theorem dX2_init_17 : decode cX2_init 17 = .ok (.putfield 15, 3) := dk_181 0 15 (dk_at dksX2_init_0 17 rfl rfl)
theorem dX2_init_20 : decode cX2_init 20 = .ok (.aload_n 0, 1) := dk_42 (dk_at dksX2_init_0 20 rfl rfl)
theorem dX2_init_21 : decode cX2_init 21 = .ok (.bipush 6, 2) := dk_16 6 (dk_at dksX2_init_0 21 rfl rfl)
theorem dX2_init_23 : decode cX2_init 23 = .ok (.newarray .int, 2) := dk_188_10 (dk_at dksX2_init_1 0 rfl rfl)
theorem dX2_init_25 : decode cX2_init 25 = .ok (.putfield 18, 3) := dk_181 0 18 (dk_at dksX2_init_1 2 rfl rfl)
theorem dX2_init_28 : decode cX2_init 28 = .ok (.aload_n 0, 1) := dk_42 (dk_at dksX2_init_1 5 rfl rfl)
theorem dX2_init_29 : decode cX2_init 29 = .ok (.bipush 6, 2) := dk_16 6 (dk_at dksX2_init_1 6 rfl rfl)
theorem dX2_init_31 : decode cX2_init 31 = .ok (.newarray .int, 2) := dk_188_10 (dk_at dksX2_init_1 8 rfl rfl)
theorem dX2_init_33 : decode cX2_init 33 = .ok (.putfield 21, 3) := dk_181 0 21 (dk_at dksX2_init_1 10 rfl rfl)
theorem dX2_init_36 : decode cX2_init 36 = .ok (.return_, 1) := dk_177 (dk_at dksX2_init_1 13 rfl rfl)
abbrev cX2_becomes : ByteArray := prog_7_method_2_code
def yX2_becomes : MethodName := ⟨RX2, "becomes", "(LPullThePlug$Water;)V"⟩
def dkwX2_becomes_3 : List UInt8 := [180, 0, 34, 181, 0, 34, 42, 43, 180, 0, 37, 181, 0, 37, 42, 43, 180, 0, 40, 181, 0, 40, 177]
abbrev dktX2_becomes_3 : List UInt8 := dkwX2_becomes_3 ++ []
def dkwX2_becomes_2 : List UInt8 := [180, 0, 21, 3, 42, 180, 0, 21, 3, 16, 6, 184, 0, 24, 42, 43, 180, 0, 30, 181, 0, 30, 42, 43]
abbrev dktX2_becomes_2 : List UInt8 := dkwX2_becomes_2 ++ dktX2_becomes_3
def dkwX2_becomes_1 : List UInt8 := [3, 16, 6, 184, 0, 24, 43, 180, 0, 18, 3, 42, 180, 0, 18, 3, 16, 6, 184, 0, 24, 43]
abbrev dktX2_becomes_1 : List UInt8 := dkwX2_becomes_1 ++ dktX2_becomes_2
def dkwX2_becomes_0 : List UInt8 := [43, 180, 0, 9, 3, 42, 180, 0, 9, 3, 16, 6, 184, 0, 24, 43, 180, 0, 15, 3, 42, 180, 0, 15]
abbrev dktX2_becomes_0 : List UInt8 := dkwX2_becomes_0 ++ dktX2_becomes_1
theorem dksX2_becomes_0 : cX2_becomes.data.toList.drop 0 = dktX2_becomes_0 := by decide +kernel
theorem dksX2_becomes_1 : cX2_becomes.data.toList.drop 24 = dktX2_becomes_1 := dk_seg dksX2_becomes_0 24 rfl rfl
theorem dksX2_becomes_2 : cX2_becomes.data.toList.drop 46 = dktX2_becomes_2 := dk_seg dksX2_becomes_1 22 rfl rfl
theorem dksX2_becomes_3 : cX2_becomes.data.toList.drop 70 = dktX2_becomes_3 := dk_seg dksX2_becomes_2 24 rfl rfl
theorem dX2_becomes_0 : decode cX2_becomes 0 = .ok (.aload_n 1, 1) := dk_43 (dk_at dksX2_becomes_0 0 rfl rfl)
theorem dX2_becomes_1 : decode cX2_becomes 1 = .ok (.getfield 9, 3) := dk_180 0 9 (dk_at dksX2_becomes_0 1 rfl rfl)
theorem dX2_becomes_4 : decode cX2_becomes 4 = .ok (.iconst 0, 1) := dk_3 (dk_at dksX2_becomes_0 4 rfl rfl)
theorem dX2_becomes_5 : decode cX2_becomes 5 = .ok (.aload_n 0, 1) := dk_42 (dk_at dksX2_becomes_0 5 rfl rfl)
theorem dX2_becomes_6 : decode cX2_becomes 6 = .ok (.getfield 9, 3) := dk_180 0 9 (dk_at dksX2_becomes_0 6 rfl rfl)
theorem dX2_becomes_9 : decode cX2_becomes 9 = .ok (.iconst 0, 1) := dk_3 (dk_at dksX2_becomes_0 9 rfl rfl)
theorem dX2_becomes_10 : decode cX2_becomes 10 = .ok (.bipush 6, 2) := dk_16 6 (dk_at dksX2_becomes_0 10 rfl rfl)
theorem dX2_becomes_12 : decode cX2_becomes 12 = .ok (.invokestatic 24, 3) := dk_184 0 24 (dk_at dksX2_becomes_0 12 rfl rfl)
theorem dX2_becomes_15 : decode cX2_becomes 15 = .ok (.aload_n 1, 1) := dk_43 (dk_at dksX2_becomes_0 15 rfl rfl)
theorem dX2_becomes_16 : decode cX2_becomes 16 = .ok (.getfield 15, 3) := dk_180 0 15 (dk_at dksX2_becomes_0 16 rfl rfl)
theorem dX2_becomes_19 : decode cX2_becomes 19 = .ok (.iconst 0, 1) := dk_3 (dk_at dksX2_becomes_0 19 rfl rfl)
theorem dX2_becomes_20 : decode cX2_becomes 20 = .ok (.aload_n 0, 1) := dk_42 (dk_at dksX2_becomes_0 20 rfl rfl)
theorem dX2_becomes_21 : decode cX2_becomes 21 = .ok (.getfield 15, 3) := dk_180 0 15 (dk_at dksX2_becomes_0 21 rfl rfl)
theorem dX2_becomes_24 : decode cX2_becomes 24 = .ok (.iconst 0, 1) := dk_3 (dk_at dksX2_becomes_1 0 rfl rfl)
theorem dX2_becomes_25 : decode cX2_becomes 25 = .ok (.bipush 6, 2) := dk_16 6 (dk_at dksX2_becomes_1 1 rfl rfl)
theorem dX2_becomes_27 : decode cX2_becomes 27 = .ok (.invokestatic 24, 3) := dk_184 0 24 (dk_at dksX2_becomes_1 3 rfl rfl)
theorem dX2_becomes_30 : decode cX2_becomes 30 = .ok (.aload_n 1, 1) := dk_43 (dk_at dksX2_becomes_1 6 rfl rfl)
theorem dX2_becomes_31 : decode cX2_becomes 31 = .ok (.getfield 18, 3) := dk_180 0 18 (dk_at dksX2_becomes_1 7 rfl rfl)
theorem dX2_becomes_34 : decode cX2_becomes 34 = .ok (.iconst 0, 1) := dk_3 (dk_at dksX2_becomes_1 10 rfl rfl)
theorem dX2_becomes_35 : decode cX2_becomes 35 = .ok (.aload_n 0, 1) := dk_42 (dk_at dksX2_becomes_1 11 rfl rfl)
theorem dX2_becomes_36 : decode cX2_becomes 36 = .ok (.getfield 18, 3) := dk_180 0 18 (dk_at dksX2_becomes_1 12 rfl rfl)
theorem dX2_becomes_39 : decode cX2_becomes 39 = .ok (.iconst 0, 1) := dk_3 (dk_at dksX2_becomes_1 15 rfl rfl)
theorem dX2_becomes_40 : decode cX2_becomes 40 = .ok (.bipush 6, 2) := dk_16 6 (dk_at dksX2_becomes_1 16 rfl rfl)
theorem dX2_becomes_42 : decode cX2_becomes 42 = .ok (.invokestatic 24, 3) := dk_184 0 24 (dk_at dksX2_becomes_1 18 rfl rfl)
theorem dX2_becomes_45 : decode cX2_becomes 45 = .ok (.aload_n 1, 1) := dk_43 (dk_at dksX2_becomes_1 21 rfl rfl)
theorem dX2_becomes_46 : decode cX2_becomes 46 = .ok (.getfield 21, 3) := dk_180 0 21 (dk_at dksX2_becomes_2 0 rfl rfl)
theorem dX2_becomes_49 : decode cX2_becomes 49 = .ok (.iconst 0, 1) := dk_3 (dk_at dksX2_becomes_2 3 rfl rfl)
theorem dX2_becomes_50 : decode cX2_becomes 50 = .ok (.aload_n 0, 1) := dk_42 (dk_at dksX2_becomes_2 4 rfl rfl)
theorem dX2_becomes_51 : decode cX2_becomes 51 = .ok (.getfield 21, 3) := dk_180 0 21 (dk_at dksX2_becomes_2 5 rfl rfl)
theorem dX2_becomes_54 : decode cX2_becomes 54 = .ok (.iconst 0, 1) := dk_3 (dk_at dksX2_becomes_2 8 rfl rfl)
theorem dX2_becomes_55 : decode cX2_becomes 55 = .ok (.bipush 6, 2) := dk_16 6 (dk_at dksX2_becomes_2 9 rfl rfl)
theorem dX2_becomes_57 : decode cX2_becomes 57 = .ok (.invokestatic 24, 3) := dk_184 0 24 (dk_at dksX2_becomes_2 11 rfl rfl)
theorem dX2_becomes_60 : decode cX2_becomes 60 = .ok (.aload_n 0, 1) := dk_42 (dk_at dksX2_becomes_2 14 rfl rfl)
theorem dX2_becomes_61 : decode cX2_becomes 61 = .ok (.aload_n 1, 1) := dk_43 (dk_at dksX2_becomes_2 15 rfl rfl)
theorem dX2_becomes_62 : decode cX2_becomes 62 = .ok (.getfield 30, 3) := dk_180 0 30 (dk_at dksX2_becomes_2 16 rfl rfl)
theorem dX2_becomes_65 : decode cX2_becomes 65 = .ok (.putfield 30, 3) := dk_181 0 30 (dk_at dksX2_becomes_2 19 rfl rfl)
theorem dX2_becomes_68 : decode cX2_becomes 68 = .ok (.aload_n 0, 1) := dk_42 (dk_at dksX2_becomes_2 22 rfl rfl)
theorem dX2_becomes_69 : decode cX2_becomes 69 = .ok (.aload_n 1, 1) := dk_43 (dk_at dksX2_becomes_2 23 rfl rfl)
theorem dX2_becomes_70 : decode cX2_becomes 70 = .ok (.getfield 34, 3) := dk_180 0 34 (dk_at dksX2_becomes_3 0 rfl rfl)
theorem dX2_becomes_73 : decode cX2_becomes 73 = .ok (.putfield 34, 3) := dk_181 0 34 (dk_at dksX2_becomes_3 3 rfl rfl)
theorem dX2_becomes_76 : decode cX2_becomes 76 = .ok (.aload_n 0, 1) := dk_42 (dk_at dksX2_becomes_3 6 rfl rfl)
theorem dX2_becomes_77 : decode cX2_becomes 77 = .ok (.aload_n 1, 1) := dk_43 (dk_at dksX2_becomes_3 7 rfl rfl)
theorem dX2_becomes_78 : decode cX2_becomes 78 = .ok (.getfield 37, 3) := dk_180 0 37 (dk_at dksX2_becomes_3 8 rfl rfl)
theorem dX2_becomes_81 : decode cX2_becomes 81 = .ok (.putfield 37, 3) := dk_181 0 37 (dk_at dksX2_becomes_3 11 rfl rfl)
theorem dX2_becomes_84 : decode cX2_becomes 84 = .ok (.aload_n 0, 1) := dk_42 (dk_at dksX2_becomes_3 14 rfl rfl)
theorem dX2_becomes_85 : decode cX2_becomes 85 = .ok (.aload_n 1, 1) := dk_43 (dk_at dksX2_becomes_3 15 rfl rfl)
theorem dX2_becomes_86 : decode cX2_becomes 86 = .ok (.getfield 40, 3) := dk_180 0 40 (dk_at dksX2_becomes_3 16 rfl rfl)
theorem dX2_becomes_89 : decode cX2_becomes 89 = .ok (.putfield 40, 3) := dk_181 0 40 (dk_at dksX2_becomes_3 19 rfl rfl)
theorem dX2_becomes_92 : decode cX2_becomes 92 = .ok (.return_, 1) := dk_177 (dk_at dksX2_becomes_3 22 rfl rfl)
theorem q98 : (Jvm.Cond.initialized "PullThePlug$Water") ∈ lw_all := lw_g (lw_at lw_m1 2 rfl) rfl
theorem q127 : (Jvm.Cond.instantiable "PullThePlug$Water" (8 : Nat)) ∈ lw_all := lw_g (lw_at lw_m1 31 rfl) rfl
theorem q129 : (Jvm.Cond.instanceMethod ({ cls := "PullThePlug$Water", name := "<init>", desc := "()V" } : Jvm.MethodName)) ∈ lw_all := lw_g (lw_at lw_m1 33 rfl) rfl
theorem q130 : (Jvm.Cond.code ({ cls := "PullThePlug$Water", name := "<init>", desc := "()V" } : Jvm.MethodName) prog_7_method_1_code (1 : Nat) (Option.none : Option Jvm.ClassFile.FieldType)) ∈ lw_all := lw_g (lw_at lw_m1 34 rfl) rfl
theorem q131 : (Jvm.Cond.methodLink "PullThePlug$Water" (3 : Nat) ({ cls := "java/lang/Object", name := "<init>", desc := "()V" } : Jvm.MethodName)) ∈ lw_all := lw_g (lw_at lw_m1 35 rfl) rfl
theorem q132 : (Jvm.Cond.fieldLink "PullThePlug$Water" (9 : Nat) "PullThePlug$Water" "level" "[I") ∈ lw_all := lw_g (lw_at lw_m1 36 rfl) rfl
theorem q135 : (Jvm.Cond.fieldLink "PullThePlug$Water" (15 : Nat) "PullThePlug$Water" "hair" "[I") ∈ lw_all := lw_g (lw_at lw_m1 39 rfl) rfl
theorem q138 : (Jvm.Cond.fieldLink "PullThePlug$Water" (18 : Nat) "PullThePlug$Water" "tap" "[I") ∈ lw_all := lw_g (lw_at lw_m1 42 rfl) rfl
theorem q141 : (Jvm.Cond.fieldLink "PullThePlug$Water" (21 : Nat) "PullThePlug$Water" "king" "[I") ∈ lw_all := lw_g (lw_at lw_m1 45 rfl) rfl
theorem q143 : (Jvm.Cond.fieldLink "PullThePlug$Water" (30 : Nat) "PullThePlug$Water" "out" "I") ∈ lw_all := lw_g (lw_at lw_m1 47 rfl) rfl
theorem q146 : (Jvm.Cond.fieldLink "PullThePlug$Water" (34 : Nat) "PullThePlug$Water" "day" "I") ∈ lw_all := lw_g (lw_at lw_m1 50 rfl) rfl
theorem q149 : (Jvm.Cond.fieldLink "PullThePlug$Water" (37 : Nat) "PullThePlug$Water" "spilt" "I") ∈ lw_all := lw_g (lw_at lw_m1 53 rfl) rfl
theorem q151 : (Jvm.Cond.fieldLink "PullThePlug$Water" (40 : Nat) "PullThePlug$Water" "dried" "I") ∈ lw_all := lw_g (lw_at lw_m1 55 rfl) rfl
theorem q153 : (Jvm.Cond.laysFinal "PullThePlug$Water" "PullThePlug$Water" "level" "[I") ∈ lw_all := lw_g (lw_at lw_m1 57 rfl) rfl
theorem q154 : (Jvm.Cond.soleField "PullThePlug$Water" "level") ∈ lw_all := lw_g (lw_at lw_m1 58 rfl) rfl
theorem q155 : (Jvm.Cond.laysFinal "PullThePlug$Water" "PullThePlug$Water" "hair" "[I") ∈ lw_all := lw_g (lw_at lw_m1 59 rfl) rfl
theorem q156 : (Jvm.Cond.soleField "PullThePlug$Water" "hair") ∈ lw_all := lw_g (lw_at lw_m1 60 rfl) rfl
theorem q157 : (Jvm.Cond.laysFinal "PullThePlug$Water" "PullThePlug$Water" "tap" "[I") ∈ lw_all := lw_g (lw_at lw_m1 61 rfl) rfl
theorem q158 : (Jvm.Cond.soleField "PullThePlug$Water" "tap") ∈ lw_all := lw_g (lw_at lw_m1 62 rfl) rfl
theorem q159 : (Jvm.Cond.laysFinal "PullThePlug$Water" "PullThePlug$Water" "king" "[I") ∈ lw_all := lw_g (lw_at lw_m1 63 rfl) rfl
theorem q160 : (Jvm.Cond.soleField "PullThePlug$Water" "king") ∈ lw_all := lw_g (lw_at lw_m1 64 rfl) rfl
theorem q161 : (Jvm.Cond.lays "PullThePlug$Water" "PullThePlug$Water" "out" "I") ∈ lw_all := lw_g (lw_at lw_m1 65 rfl) rfl
theorem q162 : (Jvm.Cond.soleField "PullThePlug$Water" "out") ∈ lw_all := lw_g (lw_at lw_m1 66 rfl) rfl
theorem q163 : (Jvm.Cond.lays "PullThePlug$Water" "PullThePlug$Water" "day" "I") ∈ lw_all := lw_g (lw_at lw_m1 67 rfl) rfl
theorem q164 : (Jvm.Cond.soleField "PullThePlug$Water" "day") ∈ lw_all := lw_g (lw_at lw_m1 68 rfl) rfl
theorem q165 : (Jvm.Cond.lays "PullThePlug$Water" "PullThePlug$Water" "spilt" "I") ∈ lw_all := lw_g (lw_at lw_m1 69 rfl) rfl
theorem q166 : (Jvm.Cond.soleField "PullThePlug$Water" "spilt") ∈ lw_all := lw_g (lw_at lw_m1 70 rfl) rfl
theorem q167 : (Jvm.Cond.lays "PullThePlug$Water" "PullThePlug$Water" "dried" "I") ∈ lw_all := lw_g (lw_at lw_m1 71 rfl) rfl
theorem q168 : (Jvm.Cond.soleField "PullThePlug$Water" "dried") ∈ lw_all := lw_g (lw_at lw_m1 72 rfl) rfl
theorem q169 : (Jvm.Cond.superclass "PullThePlug$Water" "java/lang/Object") ∈ lw_all := lw_g (lw_at lw_m1 73 rfl) rfl
theorem q668 : (Jvm.Cond.instanceMethod ({ cls := "PullThePlug$Water", name := "becomes", desc := "(LPullThePlug$Water;)V" } : Jvm.MethodName)) ∈ lw_all := lw_g (lw_at lw_m3 92 rfl) rfl
theorem q669 : (Jvm.Cond.selects "PullThePlug$Water" ({ cls := "PullThePlug$Water", name := "becomes", desc := "(LPullThePlug$Water;)V" } : Jvm.MethodName) ({ cls := "PullThePlug$Water", name := "becomes", desc := "(LPullThePlug$Water;)V" } : Jvm.MethodName)) ∈ lw_all := lw_g (lw_at lw_m3 93 rfl) rfl
theorem q670 : (Jvm.Cond.code ({ cls := "PullThePlug$Water", name := "becomes", desc := "(LPullThePlug$Water;)V" } : Jvm.MethodName) prog_7_method_2_code (2 : Nat) (Option.none : Option Jvm.ClassFile.FieldType)) ∈ lw_all := lw_g (lw_at lw_m3 94 rfl) rfl
theorem q671 : (Jvm.Cond.methodLink "PullThePlug$Water" (24 : Nat) ({ cls := "java/lang/System", name := "arraycopy", desc := "(Ljava/lang/Object;ILjava/lang/Object;II)V" } : Jvm.MethodName)) ∈ lw_all := lw_g (lw_at lw_m3 95 rfl) rfl
theorem q1652 : (Jvm.Cond.castable "PullThePlug$Water" "java/lang/Object") ∈ lw_tbl := lw_at lw_m7 116 rfl
theorem in_X2 : ∀ w ∈ wsX20, w ∈ lw_all := lw_in wsX20 [153, 155, 157, 159, 161, 163, 165, 167] (by decide +kernel) (by decide +kernel)
/-! PullThePlug$Node -/
set_option maxRecDepth 100000
def RX4 : String := "PullThePlug$Node"
abbrev cX4_init : ByteArray := prog_4_method_1_code
def yX4_init : MethodName := ⟨RX4, "<init>", "(LPullThePlug;)V"⟩
def dkwX4_init_0 : List UInt8 := [42, 43, 181, 0, 1, 42, 183, 0, 7, 177]
abbrev dktX4_init_0 : List UInt8 := dkwX4_init_0 ++ []
theorem dksX4_init_0 : cX4_init.data.toList.drop 0 = dktX4_init_0 := by decide +kernel
theorem dX4_init_0 : decode cX4_init 0 = .ok (.aload_n 0, 1) := dk_42 (dk_at dksX4_init_0 0 rfl rfl)
theorem dX4_init_1 : decode cX4_init 1 = .ok (.aload_n 1, 1) := dk_43 (dk_at dksX4_init_0 1 rfl rfl)
theorem dX4_init_2 : decode cX4_init 2 = .ok (.putfield 1, 3) := dk_181 0 1 (dk_at dksX4_init_0 2 rfl rfl)
theorem dX4_init_5 : decode cX4_init 5 = .ok (.aload_n 0, 1) := dk_42 (dk_at dksX4_init_0 5 rfl rfl)
theorem dX4_init_6 : decode cX4_init 6 = .ok (.invokespecial 7, 3) := dk_183 0 7 (dk_at dksX4_init_0 6 rfl rfl)
theorem dX4_init_9 : decode cX4_init 9 = .ok (.return_, 1) := dk_177 (dk_at dksX4_init_0 9 rfl rfl)
theorem q108 : (Jvm.Cond.initialized "PullThePlug$Node") ∈ lw_all := lw_g (lw_at lw_m1 12 rfl) rfl
theorem q574 : (Jvm.Cond.instanceMethod ({ cls := "PullThePlug$Node", name := "<init>", desc := "(LPullThePlug;)V" } : Jvm.MethodName)) ∈ lw_all := lw_g (lw_at lw_m2 238 rfl) rfl
theorem q575 : (Jvm.Cond.code ({ cls := "PullThePlug$Node", name := "<init>", desc := "(LPullThePlug;)V" } : Jvm.MethodName) prog_4_method_1_code (2 : Nat) (Option.none : Option Jvm.ClassFile.FieldType)) ∈ lw_all := lw_g (lw_at lw_m2 239 rfl) rfl
theorem q576 : (Jvm.Cond.methodLink "PullThePlug$Node" (7 : Nat) ({ cls := "java/lang/Object", name := "<init>", desc := "()V" } : Jvm.MethodName)) ∈ lw_all := lw_g (lw_at lw_m3 0 rfl) rfl
theorem q579 : (Jvm.Cond.fieldLink "PullThePlug$Node" (1 : Nat) "PullThePlug$Node" "this$0" "LPullThePlug;") ∈ lw_all := lw_g (lw_at lw_m3 3 rfl) rfl
theorem q585 : (Jvm.Cond.soleField "PullThePlug$Node" "this$0") ∈ lw_all := lw_g (lw_at lw_m3 9 rfl) rfl
theorem q698 : (Jvm.Cond.declares ({ cls := "PullThePlug$Node", name := "value", desc := "()I" } : Jvm.MethodName)) ∈ lw_tbl := lw_at lw_m3 122 rfl
theorem q699 : (Jvm.Cond.sameMethod "PullThePlug$Node" "PullThePlug$Node" "value" "()I") ∈ lw_all := lw_g (lw_at lw_m3 123 rfl) rfl
/-! PullThePlug$Less -/
set_option maxRecDepth 100000
def RX5 : String := "PullThePlug$Less"
def TX5 : u_T := fun k => match k with
  | 0 => ("PullThePlug$Node", "this$0", "LPullThePlug;", true)
  | 1 => ("PullThePlug$Less", "its", "LPullThePlug$Node;", true)
  | _ => ("PullThePlug$Less", "this$0", "LPullThePlug;", true)
def tyX5 : Nat → FieldType := fun k => match k with
  | 0 => .object "PullThePlug"
  | 1 => .object "PullThePlug$Node"
  | _ => .object "PullThePlug"
abbrev wsX50 : List Cond := u_ws RX5 TX5 3
-- two fields of one name: no nmX5
theorem tyX5_ok : ∀ k, k < 3 → parseFieldDescriptor (TX5 k).2.2.1 = some (tyX5 k) := by decide +kernel
abbrev cX5_init : ByteArray := prog_3_method_1_code
def yX5_init : MethodName := ⟨RX5, "<init>", "(LPullThePlug;LPullThePlug$Node;)V"⟩
def dkwX5_init_0 : List UInt8 := [42, 43, 181, 0, 1, 42, 43, 183, 0, 7, 42, 44, 181, 0, 13, 177]
abbrev dktX5_init_0 : List UInt8 := dkwX5_init_0 ++ []
theorem dksX5_init_0 : cX5_init.data.toList.drop 0 = dktX5_init_0 := by decide +kernel
theorem dX5_init_0 : decode cX5_init 0 = .ok (.aload_n 0, 1) := dk_42 (dk_at dksX5_init_0 0 rfl rfl)
theorem dX5_init_1 : decode cX5_init 1 = .ok (.aload_n 1, 1) := dk_43 (dk_at dksX5_init_0 1 rfl rfl)
theorem dX5_init_2 : decode cX5_init 2 = .ok (.putfield 1, 3) := dk_181 0 1 (dk_at dksX5_init_0 2 rfl rfl)
theorem dX5_init_5 : decode cX5_init 5 = .ok (.aload_n 0, 1) := dk_42 (dk_at dksX5_init_0 5 rfl rfl)
theorem dX5_init_6 : decode cX5_init 6 = .ok (.aload_n 1, 1) := dk_43 (dk_at dksX5_init_0 6 rfl rfl)
theorem dX5_init_7 : decode cX5_init 7 = .ok (.invokespecial 7, 3) := dk_183 0 7 (dk_at dksX5_init_0 7 rfl rfl)
theorem dX5_init_10 : decode cX5_init 10 = .ok (.aload_n 0, 1) := dk_42 (dk_at dksX5_init_0 10 rfl rfl)
theorem dX5_init_11 : decode cX5_init 11 = .ok (.aload_n 2, 1) := dk_44 (dk_at dksX5_init_0 11 rfl rfl)
theorem dX5_init_12 : decode cX5_init 12 = .ok (.putfield 13, 3) := dk_181 0 13 (dk_at dksX5_init_0 12 rfl rfl)
theorem dX5_init_15 : decode cX5_init 15 = .ok (.return_, 1) := dk_177 (dk_at dksX5_init_0 15 rfl rfl)
abbrev cX5_value : ByteArray := prog_3_method_2_code
def yX5_value : MethodName := ⟨RX5, "value", "()I"⟩
def dkwX5_value_0 : List UInt8 := [42, 180, 0, 13, 182, 0, 17, 116, 172]
abbrev dktX5_value_0 : List UInt8 := dkwX5_value_0 ++ []
theorem dksX5_value_0 : cX5_value.data.toList.drop 0 = dktX5_value_0 := by decide +kernel
theorem dX5_value_0 : decode cX5_value 0 = .ok (.aload_n 0, 1) := dk_42 (dk_at dksX5_value_0 0 rfl rfl)
theorem dX5_value_1 : decode cX5_value 1 = .ok (.getfield 13, 3) := dk_180 0 13 (dk_at dksX5_value_0 1 rfl rfl)
theorem dX5_value_4 : decode cX5_value 4 = .ok (.invokevirtual 17, 3) := dk_182 0 17 (dk_at dksX5_value_0 4 rfl rfl)
theorem dX5_value_7 : decode cX5_value 7 = .ok (.ineg, 1) := dk_116 (dk_at dksX5_value_0 7 rfl rfl)
theorem dX5_value_8 : decode cX5_value 8 = .ok (.ireturn, 1) := dk_172 (dk_at dksX5_value_0 8 rfl rfl)
theorem q109 : (Jvm.Cond.initialized "PullThePlug$Less") ∈ lw_all := lw_g (lw_at lw_m1 13 rfl) rfl
theorem q569 : (Jvm.Cond.instantiable "PullThePlug$Less" (3 : Nat)) ∈ lw_all := lw_g (lw_at lw_m2 233 rfl) rfl
theorem q571 : (Jvm.Cond.instanceMethod ({ cls := "PullThePlug$Less", name := "<init>", desc := "(LPullThePlug;LPullThePlug$Node;)V" } : Jvm.MethodName)) ∈ lw_all := lw_g (lw_at lw_m2 235 rfl) rfl
theorem q572 : (Jvm.Cond.code ({ cls := "PullThePlug$Less", name := "<init>", desc := "(LPullThePlug;LPullThePlug$Node;)V" } : Jvm.MethodName) prog_3_method_1_code (3 : Nat) (Option.none : Option Jvm.ClassFile.FieldType)) ∈ lw_all := lw_g (lw_at lw_m2 236 rfl) rfl
theorem q573 : (Jvm.Cond.methodLinkNest "PullThePlug$Less" (7 : Nat) ({ cls := "PullThePlug$Node", name := "<init>", desc := "(LPullThePlug;)V" } : Jvm.MethodName) "PullThePlug") ∈ lw_tbl := lw_at lw_m2 237 rfl
theorem q577 : (Jvm.Cond.fieldLink "PullThePlug$Less" (13 : Nat) "PullThePlug$Less" "its" "LPullThePlug$Node;") ∈ lw_all := lw_g (lw_at lw_m3 1 rfl) rfl
theorem q578 : (Jvm.Cond.fieldLink "PullThePlug$Less" (1 : Nat) "PullThePlug$Less" "this$0" "LPullThePlug;") ∈ lw_all := lw_g (lw_at lw_m3 2 rfl) rfl
theorem q580 : (Jvm.Cond.laysFinal "PullThePlug$Less" "PullThePlug$Less" "its" "LPullThePlug$Node;") ∈ lw_all := lw_g (lw_at lw_m3 4 rfl) rfl
theorem q581 : (Jvm.Cond.soleField "PullThePlug$Less" "its") ∈ lw_all := lw_g (lw_at lw_m3 5 rfl) rfl
theorem q582 : (Jvm.Cond.laysFinal "PullThePlug$Less" "PullThePlug$Less" "this$0" "LPullThePlug;") ∈ lw_all := lw_g (lw_at lw_m3 6 rfl) rfl
theorem q583 : (Jvm.Cond.soleField "PullThePlug$Less" "this$0") ∈ lw_all := lw_g (lw_at lw_m3 7 rfl) rfl
theorem q584 : (Jvm.Cond.laysFinal "PullThePlug$Less" "PullThePlug$Node" "this$0" "LPullThePlug;") ∈ lw_all := lw_g (lw_at lw_m3 8 rfl) rfl
theorem q586 : (Jvm.Cond.superclass "PullThePlug$Less" "PullThePlug$Node") ∈ lw_all := lw_g (lw_at lw_m3 10 rfl) rfl
theorem q704 : (Jvm.Cond.instanceMethod ({ cls := "PullThePlug$Less", name := "value", desc := "()I" } : Jvm.MethodName)) ∈ lw_all := lw_g (lw_at lw_m3 128 rfl) rfl
theorem q705 : (Jvm.Cond.code ({ cls := "PullThePlug$Less", name := "value", desc := "()I" } : Jvm.MethodName) prog_3_method_2_code (1 : Nat) (Option.some Jvm.ClassFile.FieldType.int)) ∈ lw_all := lw_g (lw_at lw_m3 129 rfl) rfl
theorem q706 : (Jvm.Cond.methodLink "PullThePlug$Less" (17 : Nat) ({ cls := "PullThePlug$Node", name := "value", desc := "()I" } : Jvm.MethodName)) ∈ lw_all := lw_g (lw_at lw_m3 130 rfl) rfl
theorem q717 : (Jvm.Cond.selects "PullThePlug$Less" ({ cls := "PullThePlug$Node", name := "value", desc := "()I" } : Jvm.MethodName) ({ cls := "PullThePlug$Less", name := "value", desc := "()I" } : Jvm.MethodName)) ∈ lw_all := lw_g (lw_at lw_m3 141 rfl) rfl
theorem q1655 : (Jvm.Cond.castable "PullThePlug$Less" "java/lang/Object") ∈ lw_tbl := lw_at lw_m7 119 rfl
theorem in_X5 : ∀ w ∈ wsX50, w ∈ lw_all := lw_in wsX50 [584, 580, 582] (by decide +kernel) (by decide +kernel)
/-! PullThePlug$Number -/
set_option maxRecDepth 100000
def RX6 : String := "PullThePlug$Number"
def TX6 : u_T := fun k => match k with
  | 0 => ("PullThePlug$Node", "this$0", "LPullThePlug;", true)
  | 1 => ("PullThePlug$Number", "v", "I", true)
  | _ => ("PullThePlug$Number", "this$0", "LPullThePlug;", true)
def tyX6 : Nat → FieldType := fun k => match k with
  | 0 => .object "PullThePlug"
  | 1 => .int
  | _ => .object "PullThePlug"
abbrev wsX60 : List Cond := u_ws RX6 TX6 3
-- two fields of one name: no nmX6
theorem tyX6_ok : ∀ k, k < 3 → parseFieldDescriptor (TX6 k).2.2.1 = some (tyX6 k) := by decide +kernel
abbrev cX6_init : ByteArray := prog_5_method_1_code
def yX6_init : MethodName := ⟨RX6, "<init>", "(LPullThePlug;I)V"⟩
def dkwX6_init_0 : List UInt8 := [42, 43, 181, 0, 1, 42, 43, 183, 0, 7, 42, 28, 181, 0, 13, 177]
abbrev dktX6_init_0 : List UInt8 := dkwX6_init_0 ++ []
theorem dksX6_init_0 : cX6_init.data.toList.drop 0 = dktX6_init_0 := by decide +kernel
theorem dX6_init_0 : decode cX6_init 0 = .ok (.aload_n 0, 1) := dk_42 (dk_at dksX6_init_0 0 rfl rfl)
theorem dX6_init_1 : decode cX6_init 1 = .ok (.aload_n 1, 1) := dk_43 (dk_at dksX6_init_0 1 rfl rfl)
theorem dX6_init_2 : decode cX6_init 2 = .ok (.putfield 1, 3) := dk_181 0 1 (dk_at dksX6_init_0 2 rfl rfl)
theorem dX6_init_5 : decode cX6_init 5 = .ok (.aload_n 0, 1) := dk_42 (dk_at dksX6_init_0 5 rfl rfl)
theorem dX6_init_6 : decode cX6_init 6 = .ok (.aload_n 1, 1) := dk_43 (dk_at dksX6_init_0 6 rfl rfl)
theorem dX6_init_7 : decode cX6_init 7 = .ok (.invokespecial 7, 3) := dk_183 0 7 (dk_at dksX6_init_0 7 rfl rfl)
theorem dX6_init_10 : decode cX6_init 10 = .ok (.aload_n 0, 1) := dk_42 (dk_at dksX6_init_0 10 rfl rfl)
theorem dX6_init_11 : decode cX6_init 11 = .ok (.iload_n 2, 1) := dk_28 (dk_at dksX6_init_0 11 rfl rfl)
theorem dX6_init_12 : decode cX6_init 12 = .ok (.putfield 13, 3) := dk_181 0 13 (dk_at dksX6_init_0 12 rfl rfl)
theorem dX6_init_15 : decode cX6_init 15 = .ok (.return_, 1) := dk_177 (dk_at dksX6_init_0 15 rfl rfl)
abbrev cX6_value : ByteArray := prog_5_method_2_code
def yX6_value : MethodName := ⟨RX6, "value", "()I"⟩
theorem dX6_value_0 : decode cX6_value 0 = .ok (.aload_n 0, 1) := by decide +kernel
theorem dX6_value_1 : decode cX6_value 1 = .ok (.getfield 13, 3) := by decide +kernel
theorem dX6_value_4 : decode cX6_value 4 = .ok (.ireturn, 1) := by decide +kernel
theorem q110 : (Jvm.Cond.initialized "PullThePlug$Number") ∈ lw_all := lw_g (lw_at lw_m1 14 rfl) rfl
theorem q588 : (Jvm.Cond.instantiable "PullThePlug$Number" (3 : Nat)) ∈ lw_all := lw_g (lw_at lw_m3 12 rfl) rfl
theorem q590 : (Jvm.Cond.instanceMethod ({ cls := "PullThePlug$Number", name := "<init>", desc := "(LPullThePlug;I)V" } : Jvm.MethodName)) ∈ lw_all := lw_g (lw_at lw_m3 14 rfl) rfl
theorem q591 : (Jvm.Cond.code ({ cls := "PullThePlug$Number", name := "<init>", desc := "(LPullThePlug;I)V" } : Jvm.MethodName) prog_5_method_1_code (3 : Nat) (Option.none : Option Jvm.ClassFile.FieldType)) ∈ lw_all := lw_g (lw_at lw_m3 15 rfl) rfl
theorem q592 : (Jvm.Cond.methodLinkNest "PullThePlug$Number" (7 : Nat) ({ cls := "PullThePlug$Node", name := "<init>", desc := "(LPullThePlug;)V" } : Jvm.MethodName) "PullThePlug") ∈ lw_tbl := lw_at lw_m3 16 rfl
theorem q593 : (Jvm.Cond.fieldLink "PullThePlug$Number" (13 : Nat) "PullThePlug$Number" "v" "I") ∈ lw_all := lw_g (lw_at lw_m3 17 rfl) rfl
theorem q594 : (Jvm.Cond.fieldLink "PullThePlug$Number" (1 : Nat) "PullThePlug$Number" "this$0" "LPullThePlug;") ∈ lw_all := lw_g (lw_at lw_m3 18 rfl) rfl
theorem q595 : (Jvm.Cond.laysFinal "PullThePlug$Number" "PullThePlug$Number" "v" "I") ∈ lw_all := lw_g (lw_at lw_m3 19 rfl) rfl
theorem q596 : (Jvm.Cond.soleField "PullThePlug$Number" "v") ∈ lw_all := lw_g (lw_at lw_m3 20 rfl) rfl
theorem q597 : (Jvm.Cond.laysFinal "PullThePlug$Number" "PullThePlug$Number" "this$0" "LPullThePlug;") ∈ lw_all := lw_g (lw_at lw_m3 21 rfl) rfl
theorem q598 : (Jvm.Cond.soleField "PullThePlug$Number" "this$0") ∈ lw_all := lw_g (lw_at lw_m3 22 rfl) rfl
theorem q599 : (Jvm.Cond.laysFinal "PullThePlug$Number" "PullThePlug$Node" "this$0" "LPullThePlug;") ∈ lw_all := lw_g (lw_at lw_m3 23 rfl) rfl
theorem q600 : (Jvm.Cond.superclass "PullThePlug$Number" "PullThePlug$Node") ∈ lw_all := lw_g (lw_at lw_m3 24 rfl) rfl
theorem q707 : (Jvm.Cond.instanceMethod ({ cls := "PullThePlug$Number", name := "value", desc := "()I" } : Jvm.MethodName)) ∈ lw_all := lw_g (lw_at lw_m3 131 rfl) rfl
theorem q708 : (Jvm.Cond.code ({ cls := "PullThePlug$Number", name := "value", desc := "()I" } : Jvm.MethodName) prog_5_method_2_code (1 : Nat) (Option.some Jvm.ClassFile.FieldType.int)) ∈ lw_all := lw_g (lw_at lw_m3 132 rfl) rfl
theorem q718 : (Jvm.Cond.selects "PullThePlug$Number" ({ cls := "PullThePlug$Node", name := "value", desc := "()I" } : Jvm.MethodName) ({ cls := "PullThePlug$Number", name := "value", desc := "()I" } : Jvm.MethodName)) ∈ lw_all := lw_g (lw_at lw_m3 142 rfl) rfl
theorem q1656 : (Jvm.Cond.castable "PullThePlug$Number" "java/lang/Object") ∈ lw_tbl := lw_at lw_m7 120 rfl
theorem in_X6 : ∀ w ∈ wsX60, w ∈ lw_all := lw_in wsX60 [599, 595, 597] (by decide +kernel) (by decide +kernel)
/-! PullThePlug$Sign -/
set_option maxRecDepth 100000
def RX7 : String := "PullThePlug$Sign"
def TX7 : u_T := fun k => match k with
  | 0 => ("PullThePlug$Node", "this$0", "LPullThePlug;", true)
  | 1 => ("PullThePlug$Sign", "sign", "I", true)
  | _ => ("PullThePlug$Sign", "this$0", "LPullThePlug;", true)
def tyX7 : Nat → FieldType := fun k => match k with
  | 0 => .object "PullThePlug"
  | 1 => .int
  | _ => .object "PullThePlug"
abbrev wsX70 : List Cond := u_ws RX7 TX7 3
-- two fields of one name: no nmX7
theorem tyX7_ok : ∀ k, k < 3 → parseFieldDescriptor (TX7 k).2.2.1 = some (tyX7 k) := by decide +kernel
abbrev cX7_init : ByteArray := prog_6_method_1_code
def yX7_init : MethodName := ⟨RX7, "<init>", "(LPullThePlug;I)V"⟩
def dkwX7_init_0 : List UInt8 := [42, 43, 181, 0, 1, 42, 43, 183, 0, 7, 42, 28, 181, 0, 13, 177]
abbrev dktX7_init_0 : List UInt8 := dkwX7_init_0 ++ []
theorem dksX7_init_0 : cX7_init.data.toList.drop 0 = dktX7_init_0 := by decide +kernel
theorem dX7_init_0 : decode cX7_init 0 = .ok (.aload_n 0, 1) := dk_42 (dk_at dksX7_init_0 0 rfl rfl)
theorem dX7_init_1 : decode cX7_init 1 = .ok (.aload_n 1, 1) := dk_43 (dk_at dksX7_init_0 1 rfl rfl)
theorem dX7_init_2 : decode cX7_init 2 = .ok (.putfield 1, 3) := dk_181 0 1 (dk_at dksX7_init_0 2 rfl rfl)
theorem dX7_init_5 : decode cX7_init 5 = .ok (.aload_n 0, 1) := dk_42 (dk_at dksX7_init_0 5 rfl rfl)
theorem dX7_init_6 : decode cX7_init 6 = .ok (.aload_n 1, 1) := dk_43 (dk_at dksX7_init_0 6 rfl rfl)
theorem dX7_init_7 : decode cX7_init 7 = .ok (.invokespecial 7, 3) := dk_183 0 7 (dk_at dksX7_init_0 7 rfl rfl)
theorem dX7_init_10 : decode cX7_init 10 = .ok (.aload_n 0, 1) := dk_42 (dk_at dksX7_init_0 10 rfl rfl)
theorem dX7_init_11 : decode cX7_init 11 = .ok (.iload_n 2, 1) := dk_28 (dk_at dksX7_init_0 11 rfl rfl)
theorem dX7_init_12 : decode cX7_init 12 = .ok (.putfield 13, 3) := dk_181 0 13 (dk_at dksX7_init_0 12 rfl rfl)
theorem dX7_init_15 : decode cX7_init 15 = .ok (.return_, 1) := dk_177 (dk_at dksX7_init_0 15 rfl rfl)
abbrev cX7_value : ByteArray := prog_6_method_2_code
def yX7_value : MethodName := ⟨RX7, "value", "()I"⟩
def dkwX7_value_6 : List UInt8 := [180, 0, 17, 180, 0, 50, 16, 7, 112, 172]
abbrev dktX7_value_6 : List UInt8 := dkwX7_value_6 ++ []
def dkwX7_value_5 : List UInt8 := [180, 0, 29, 46, 172, 42, 180, 0, 1, 180, 0, 17, 180, 0, 41, 184, 0, 44, 172, 42, 180, 0, 1]
abbrev dktX7_value_5 : List UInt8 := dkwX7_value_5 ++ dktX7_value_6
def dkwX7_value_4 : List UInt8 := [180, 0, 1, 180, 0, 29, 46, 172, 42, 180, 0, 1, 180, 0, 17, 180, 0, 38, 42, 180, 0, 1]
abbrev dktX7_value_4 : List UInt8 := dkwX7_value_4 ++ dktX7_value_5
def dkwX7_value_3 : List UInt8 := [180, 0, 32, 42, 180, 0, 1, 180, 0, 29, 46, 172, 42, 180, 0, 1, 180, 0, 17, 180, 0, 35, 42]
abbrev dktX7_value_3 : List UInt8 := dkwX7_value_3 ++ dktX7_value_4
def dkwX7_value_2 : List UInt8 := [42, 180, 0, 1, 180, 0, 17, 180, 0, 23, 42, 180, 0, 1, 180, 0, 29, 46, 172, 42, 180, 0, 1]
abbrev dktX7_value_2 : List UInt8 := dkwX7_value_2 ++ dktX7_value_3
def dkwX7_value_1 : List UInt8 := [171, 0, 0, 0, 0, 0, 0, 139, 0, 0, 0, 5, 0, 0, 0, 98, 0, 0, 0, 71, 0, 0, 0, 104, 0, 0, 0, 87, 0, 0, 0, 107, 0, 0, 0, 125, 0, 0, 0, 108, 0, 0, 0, 52, 0, 0, 0, 116, 0, 0, 0, 106]
abbrev dktX7_value_1 : List UInt8 := dkwX7_value_1 ++ dktX7_value_2
def dkwX7_value_0 : List UInt8 := [42, 180, 0, 13]
abbrev dktX7_value_0 : List UInt8 := dkwX7_value_0 ++ dktX7_value_1
theorem dksX7_value_0 : cX7_value.data.toList.drop 0 = dktX7_value_0 := by decide +kernel
theorem dksX7_value_1 : cX7_value.data.toList.drop 4 = dktX7_value_1 := dk_seg dksX7_value_0 4 rfl rfl
theorem dksX7_value_2 : cX7_value.data.toList.drop 56 = dktX7_value_2 := dk_seg dksX7_value_1 52 rfl rfl
theorem dksX7_value_3 : cX7_value.data.toList.drop 79 = dktX7_value_3 := dk_seg dksX7_value_2 23 rfl rfl
theorem dksX7_value_4 : cX7_value.data.toList.drop 102 = dktX7_value_4 := dk_seg dksX7_value_3 23 rfl rfl
theorem dksX7_value_5 : cX7_value.data.toList.drop 124 = dktX7_value_5 := dk_seg dksX7_value_4 22 rfl rfl
theorem dksX7_value_6 : cX7_value.data.toList.drop 147 = dktX7_value_6 := dk_seg dksX7_value_5 23 rfl rfl
theorem dX7_value_0 : decode cX7_value 0 = .ok (.aload_n 0, 1) := dk_42 (dk_at dksX7_value_0 0 rfl rfl)
theorem dX7_value_1 : decode cX7_value 1 = .ok (.getfield 13, 3) := dk_180 0 13 (dk_at dksX7_value_0 1 rfl rfl)
theorem dX7_value_4 : decode cX7_value 4 = .ok (.lookupswitch 139 #[(98, 71), (104, 87), (107, 125), (108, 52), (116, 106)], 52) := by decide +kernel
theorem dX7_value_56 : decode cX7_value 56 = .ok (.aload_n 0, 1) := dk_42 (dk_at dksX7_value_2 0 rfl rfl)
theorem dX7_value_57 : decode cX7_value 57 = .ok (.getfield 1, 3) := dk_180 0 1 (dk_at dksX7_value_2 1 rfl rfl)
theorem dX7_value_60 : decode cX7_value 60 = .ok (.getfield 17, 3) := dk_180 0 17 (dk_at dksX7_value_2 4 rfl rfl)
theorem dX7_value_63 : decode cX7_value 63 = .ok (.getfield 23, 3) := dk_180 0 23 (dk_at dksX7_value_2 7 rfl rfl)
theorem dX7_value_66 : decode cX7_value 66 = .ok (.aload_n 0, 1) := dk_42 (dk_at dksX7_value_2 10 rfl rfl)
theorem dX7_value_67 : decode cX7_value 67 = .ok (.getfield 1, 3) := dk_180 0 1 (dk_at dksX7_value_2 11 rfl rfl)
theorem dX7_value_70 : decode cX7_value 70 = .ok (.getfield 29, 3) := dk_180 0 29 (dk_at dksX7_value_2 14 rfl rfl)
theorem dX7_value_73 : decode cX7_value 73 = .ok (.iaload, 1) := dk_46 (dk_at dksX7_value_2 17 rfl rfl)
theorem dX7_value_74 : decode cX7_value 74 = .ok (.ireturn, 1) := dk_172 (dk_at dksX7_value_2 18 rfl rfl)
theorem dX7_value_75 : decode cX7_value 75 = .ok (.aload_n 0, 1) := dk_42 (dk_at dksX7_value_2 19 rfl rfl)
theorem dX7_value_76 : decode cX7_value 76 = .ok (.getfield 1, 3) := dk_180 0 1 (dk_at dksX7_value_2 20 rfl rfl)
theorem dX7_value_79 : decode cX7_value 79 = .ok (.getfield 32, 3) := dk_180 0 32 (dk_at dksX7_value_3 0 rfl rfl)
theorem dX7_value_82 : decode cX7_value 82 = .ok (.aload_n 0, 1) := dk_42 (dk_at dksX7_value_3 3 rfl rfl)
theorem dX7_value_83 : decode cX7_value 83 = .ok (.getfield 1, 3) := dk_180 0 1 (dk_at dksX7_value_3 4 rfl rfl)
theorem dX7_value_86 : decode cX7_value 86 = .ok (.getfield 29, 3) := dk_180 0 29 (dk_at dksX7_value_3 7 rfl rfl)
theorem dX7_value_89 : decode cX7_value 89 = .ok (.iaload, 1) := dk_46 (dk_at dksX7_value_3 10 rfl rfl)
theorem dX7_value_90 : decode cX7_value 90 = .ok (.ireturn, 1) := dk_172 (dk_at dksX7_value_3 11 rfl rfl)
theorem dX7_value_91 : decode cX7_value 91 = .ok (.aload_n 0, 1) := dk_42 (dk_at dksX7_value_3 12 rfl rfl)
theorem dX7_value_92 : decode cX7_value 92 = .ok (.getfield 1, 3) := dk_180 0 1 (dk_at dksX7_value_3 13 rfl rfl)
theorem dX7_value_95 : decode cX7_value 95 = .ok (.getfield 17, 3) := dk_180 0 17 (dk_at dksX7_value_3 16 rfl rfl)
theorem dX7_value_98 : decode cX7_value 98 = .ok (.getfield 35, 3) := dk_180 0 35 (dk_at dksX7_value_3 19 rfl rfl)
theorem dX7_value_101 : decode cX7_value 101 = .ok (.aload_n 0, 1) := dk_42 (dk_at dksX7_value_3 22 rfl rfl)
theorem dX7_value_102 : decode cX7_value 102 = .ok (.getfield 1, 3) := dk_180 0 1 (dk_at dksX7_value_4 0 rfl rfl)
theorem dX7_value_105 : decode cX7_value 105 = .ok (.getfield 29, 3) := dk_180 0 29 (dk_at dksX7_value_4 3 rfl rfl)
theorem dX7_value_108 : decode cX7_value 108 = .ok (.iaload, 1) := dk_46 (dk_at dksX7_value_4 6 rfl rfl)
theorem dX7_value_109 : decode cX7_value 109 = .ok (.ireturn, 1) := dk_172 (dk_at dksX7_value_4 7 rfl rfl)
theorem dX7_value_110 : decode cX7_value 110 = .ok (.aload_n 0, 1) := dk_42 (dk_at dksX7_value_4 8 rfl rfl)
theorem dX7_value_111 : decode cX7_value 111 = .ok (.getfield 1, 3) := dk_180 0 1 (dk_at dksX7_value_4 9 rfl rfl)
theorem dX7_value_114 : decode cX7_value 114 = .ok (.getfield 17, 3) := dk_180 0 17 (dk_at dksX7_value_4 12 rfl rfl)
theorem dX7_value_117 : decode cX7_value 117 = .ok (.getfield 38, 3) := dk_180 0 38 (dk_at dksX7_value_4 15 rfl rfl)
theorem dX7_value_120 : decode cX7_value 120 = .ok (.aload_n 0, 1) := dk_42 (dk_at dksX7_value_4 18 rfl rfl)
theorem dX7_value_121 : decode cX7_value 121 = .ok (.getfield 1, 3) := dk_180 0 1 (dk_at dksX7_value_4 19 rfl rfl)
theorem dX7_value_124 : decode cX7_value 124 = .ok (.getfield 29, 3) := dk_180 0 29 (dk_at dksX7_value_5 0 rfl rfl)
theorem dX7_value_127 : decode cX7_value 127 = .ok (.iaload, 1) := dk_46 (dk_at dksX7_value_5 3 rfl rfl)
theorem dX7_value_128 : decode cX7_value 128 = .ok (.ireturn, 1) := dk_172 (dk_at dksX7_value_5 4 rfl rfl)
theorem dX7_value_129 : decode cX7_value 129 = .ok (.aload_n 0, 1) := dk_42 (dk_at dksX7_value_5 5 rfl rfl)
theorem dX7_value_130 : decode cX7_value 130 = .ok (.getfield 1, 3) := dk_180 0 1 (dk_at dksX7_value_5 6 rfl rfl)
theorem dX7_value_133 : decode cX7_value 133 = .ok (.getfield 17, 3) := dk_180 0 17 (dk_at dksX7_value_5 9 rfl rfl)
theorem dX7_value_136 : decode cX7_value 136 = .ok (.getfield 41, 3) := dk_180 0 41 (dk_at dksX7_value_5 12 rfl rfl)
theorem dX7_value_139 : decode cX7_value 139 = .ok (.invokestatic 44, 3) := dk_184 0 44 (dk_at dksX7_value_5 15 rfl rfl)
theorem dX7_value_142 : decode cX7_value 142 = .ok (.ireturn, 1) := dk_172 (dk_at dksX7_value_5 18 rfl rfl)
theorem dX7_value_143 : decode cX7_value 143 = .ok (.aload_n 0, 1) := dk_42 (dk_at dksX7_value_5 19 rfl rfl)
theorem dX7_value_144 : decode cX7_value 144 = .ok (.getfield 1, 3) := dk_180 0 1 (dk_at dksX7_value_5 20 rfl rfl)
theorem dX7_value_147 : decode cX7_value 147 = .ok (.getfield 17, 3) := dk_180 0 17 (dk_at dksX7_value_6 0 rfl rfl)
theorem dX7_value_150 : decode cX7_value 150 = .ok (.getfield 50, 3) := dk_180 0 50 (dk_at dksX7_value_6 3 rfl rfl)
theorem dX7_value_153 : decode cX7_value 153 = .ok (.bipush 7, 2) := dk_16 7 (dk_at dksX7_value_6 6 rfl rfl)
theorem dX7_value_155 : decode cX7_value 155 = .ok (.irem, 1) := dk_112 (dk_at dksX7_value_6 8 rfl rfl)
theorem dX7_value_156 : decode cX7_value 156 = .ok (.ireturn, 1) := dk_172 (dk_at dksX7_value_6 9 rfl rfl)
theorem q111 : (Jvm.Cond.initialized "PullThePlug$Sign") ∈ lw_all := lw_g (lw_at lw_m1 15 rfl) rfl
theorem q133 : (Jvm.Cond.fieldLinkNest "PullThePlug$Sign" (23 : Nat) "PullThePlug$Water" "level" "[I" "PullThePlug") ∈ lw_tbl := lw_at lw_m1 37 rfl
theorem q136 : (Jvm.Cond.fieldLinkNest "PullThePlug$Sign" (35 : Nat) "PullThePlug$Water" "hair" "[I" "PullThePlug") ∈ lw_tbl := lw_at lw_m1 40 rfl
theorem q139 : (Jvm.Cond.fieldLinkNest "PullThePlug$Sign" (38 : Nat) "PullThePlug$Water" "tap" "[I" "PullThePlug") ∈ lw_tbl := lw_at lw_m1 43 rfl
theorem q144 : (Jvm.Cond.fieldLinkNest "PullThePlug$Sign" (41 : Nat) "PullThePlug$Water" "out" "I" "PullThePlug") ∈ lw_tbl := lw_at lw_m1 48 rfl
theorem q147 : (Jvm.Cond.fieldLinkNest "PullThePlug$Sign" (50 : Nat) "PullThePlug$Water" "day" "I" "PullThePlug") ∈ lw_tbl := lw_at lw_m1 51 rfl
theorem q175 : (Jvm.Cond.fieldLinkNest "PullThePlug$Sign" (32 : Nat) "PullThePlug" "brim" "[I" "PullThePlug") ∈ lw_tbl := lw_at lw_m1 79 rfl
theorem q191 : (Jvm.Cond.fieldLinkNest "PullThePlug$Sign" (17 : Nat) "PullThePlug" "askedWater" "LPullThePlug$Water;" "PullThePlug") ∈ lw_tbl := lw_at lw_m1 95 rfl
theorem q193 : (Jvm.Cond.fieldLinkNest "PullThePlug$Sign" (29 : Nat) "PullThePlug" "askedLake" "I" "PullThePlug") ∈ lw_tbl := lw_at lw_m1 97 rfl
theorem q603 : (Jvm.Cond.instantiable "PullThePlug$Sign" (3 : Nat)) ∈ lw_all := lw_g (lw_at lw_m3 27 rfl) rfl
theorem q605 : (Jvm.Cond.instanceMethod ({ cls := "PullThePlug$Sign", name := "<init>", desc := "(LPullThePlug;I)V" } : Jvm.MethodName)) ∈ lw_all := lw_g (lw_at lw_m3 29 rfl) rfl
theorem q606 : (Jvm.Cond.code ({ cls := "PullThePlug$Sign", name := "<init>", desc := "(LPullThePlug;I)V" } : Jvm.MethodName) prog_6_method_1_code (3 : Nat) (Option.none : Option Jvm.ClassFile.FieldType)) ∈ lw_all := lw_g (lw_at lw_m3 30 rfl) rfl
theorem q607 : (Jvm.Cond.methodLinkNest "PullThePlug$Sign" (7 : Nat) ({ cls := "PullThePlug$Node", name := "<init>", desc := "(LPullThePlug;)V" } : Jvm.MethodName) "PullThePlug") ∈ lw_tbl := lw_at lw_m3 31 rfl
theorem q608 : (Jvm.Cond.fieldLink "PullThePlug$Sign" (13 : Nat) "PullThePlug$Sign" "sign" "I") ∈ lw_all := lw_g (lw_at lw_m3 32 rfl) rfl
theorem q609 : (Jvm.Cond.fieldLink "PullThePlug$Sign" (1 : Nat) "PullThePlug$Sign" "this$0" "LPullThePlug;") ∈ lw_all := lw_g (lw_at lw_m3 33 rfl) rfl
theorem q610 : (Jvm.Cond.laysFinal "PullThePlug$Sign" "PullThePlug$Sign" "sign" "I") ∈ lw_all := lw_g (lw_at lw_m3 34 rfl) rfl
theorem q611 : (Jvm.Cond.soleField "PullThePlug$Sign" "sign") ∈ lw_all := lw_g (lw_at lw_m3 35 rfl) rfl
theorem q612 : (Jvm.Cond.laysFinal "PullThePlug$Sign" "PullThePlug$Sign" "this$0" "LPullThePlug;") ∈ lw_all := lw_g (lw_at lw_m3 36 rfl) rfl
theorem q613 : (Jvm.Cond.soleField "PullThePlug$Sign" "this$0") ∈ lw_all := lw_g (lw_at lw_m3 37 rfl) rfl
theorem q614 : (Jvm.Cond.laysFinal "PullThePlug$Sign" "PullThePlug$Node" "this$0" "LPullThePlug;") ∈ lw_all := lw_g (lw_at lw_m3 38 rfl) rfl
theorem q615 : (Jvm.Cond.superclass "PullThePlug$Sign" "PullThePlug$Node") ∈ lw_all := lw_g (lw_at lw_m3 39 rfl) rfl
theorem q709 : (Jvm.Cond.instanceMethod ({ cls := "PullThePlug$Sign", name := "value", desc := "()I" } : Jvm.MethodName)) ∈ lw_all := lw_g (lw_at lw_m3 133 rfl) rfl
theorem q710 : (Jvm.Cond.code ({ cls := "PullThePlug$Sign", name := "value", desc := "()I" } : Jvm.MethodName) prog_6_method_2_code (1 : Nat) (Option.some Jvm.ClassFile.FieldType.int)) ∈ lw_all := lw_g (lw_at lw_m3 134 rfl) rfl
theorem q711 : (Jvm.Cond.methodLink "PullThePlug$Sign" (44 : Nat) ({ cls := "java/lang/Integer", name := "bitCount", desc := "(I)I" } : Jvm.MethodName)) ∈ lw_all := lw_g (lw_at lw_m3 135 rfl) rfl
theorem q719 : (Jvm.Cond.selects "PullThePlug$Sign" ({ cls := "PullThePlug$Node", name := "value", desc := "()I" } : Jvm.MethodName) ({ cls := "PullThePlug$Sign", name := "value", desc := "()I" } : Jvm.MethodName)) ∈ lw_all := lw_g (lw_at lw_m3 143 rfl) rfl
theorem q1657 : (Jvm.Cond.castable "PullThePlug$Sign" "java/lang/Object") ∈ lw_tbl := lw_at lw_m7 121 rfl
theorem in_X7 : ∀ w ∈ wsX70, w ∈ lw_all := lw_in wsX70 [614, 610, 612] (by decide +kernel) (by decide +kernel)
/-! PullThePlug$Act -/
set_option maxRecDepth 100000
def RX8 : String := "PullThePlug$Act"
def TX8 : u_T := fun k => match k with
  | 0 => ("PullThePlug$Node", "this$0", "LPullThePlug;", true)
  | 1 => ("PullThePlug$Act", "sign", "C", true)
  | 2 => ("PullThePlug$Act", "left", "LPullThePlug$Node;", true)
  | 3 => ("PullThePlug$Act", "right", "LPullThePlug$Node;", true)
  | _ => ("PullThePlug$Act", "this$0", "LPullThePlug;", true)
def tyX8 : Nat → FieldType := fun k => match k with
  | 0 => .object "PullThePlug"
  | 1 => .char
  | 2 => .object "PullThePlug$Node"
  | 3 => .object "PullThePlug$Node"
  | _ => .object "PullThePlug"
abbrev wsX80 : List Cond := u_ws RX8 TX8 5
-- two fields of one name: no nmX8
theorem tyX8_ok : ∀ k, k < 5 → parseFieldDescriptor (TX8 k).2.2.1 = some (tyX8 k) := by decide +kernel
abbrev cX8_init : ByteArray := prog_2_method_1_code
def yX8_init : MethodName := ⟨RX8, "<init>", "(LPullThePlug;CLPullThePlug$Node;LPullThePlug$Node;)V"⟩
def dkwX8_init_1 : List UInt8 := [181, 0, 21, 177]
abbrev dktX8_init_1 : List UInt8 := dkwX8_init_1 ++ []
def dkwX8_init_0 : List UInt8 := [42, 43, 181, 0, 1, 42, 43, 183, 0, 7, 42, 28, 181, 0, 13, 42, 45, 181, 0, 17, 42, 25, 4]
abbrev dktX8_init_0 : List UInt8 := dkwX8_init_0 ++ dktX8_init_1
theorem dksX8_init_0 : cX8_init.data.toList.drop 0 = dktX8_init_0 := by decide +kernel
theorem dksX8_init_1 : cX8_init.data.toList.drop 23 = dktX8_init_1 := dk_seg dksX8_init_0 23 rfl rfl
theorem dX8_init_0 : decode cX8_init 0 = .ok (.aload_n 0, 1) := dk_42 (dk_at dksX8_init_0 0 rfl rfl)
theorem dX8_init_1 : decode cX8_init 1 = .ok (.aload_n 1, 1) := dk_43 (dk_at dksX8_init_0 1 rfl rfl)
theorem dX8_init_2 : decode cX8_init 2 = .ok (.putfield 1, 3) := dk_181 0 1 (dk_at dksX8_init_0 2 rfl rfl)
theorem dX8_init_5 : decode cX8_init 5 = .ok (.aload_n 0, 1) := dk_42 (dk_at dksX8_init_0 5 rfl rfl)
theorem dX8_init_6 : decode cX8_init 6 = .ok (.aload_n 1, 1) := dk_43 (dk_at dksX8_init_0 6 rfl rfl)
theorem dX8_init_7 : decode cX8_init 7 = .ok (.invokespecial 7, 3) := dk_183 0 7 (dk_at dksX8_init_0 7 rfl rfl)
theorem dX8_init_10 : decode cX8_init 10 = .ok (.aload_n 0, 1) := dk_42 (dk_at dksX8_init_0 10 rfl rfl)
theorem dX8_init_11 : decode cX8_init 11 = .ok (.iload_n 2, 1) := dk_28 (dk_at dksX8_init_0 11 rfl rfl)
theorem dX8_init_12 : decode cX8_init 12 = .ok (.putfield 13, 3) := dk_181 0 13 (dk_at dksX8_init_0 12 rfl rfl)
theorem dX8_init_15 : decode cX8_init 15 = .ok (.aload_n 0, 1) := dk_42 (dk_at dksX8_init_0 15 rfl rfl)
theorem dX8_init_16 : decode cX8_init 16 = .ok (.aload_n 3, 1) := dk_45 (dk_at dksX8_init_0 16 rfl rfl)
theorem dX8_init_17 : decode cX8_init 17 = .ok (.putfield 17, 3) := dk_181 0 17 (dk_at dksX8_init_0 17 rfl rfl)
theorem dX8_init_20 : decode cX8_init 20 = .ok (.aload_n 0, 1) := dk_42 (dk_at dksX8_init_0 20 rfl rfl)
theorem dX8_init_21 : decode cX8_init 21 = .ok (.aload 4, 2) := dk_25 4 (dk_at dksX8_init_0 21 rfl rfl)
theorem dX8_init_23 : decode cX8_init 23 = .ok (.putfield 21, 3) := dk_181 0 21 (dk_at dksX8_init_1 0 rfl rfl)
theorem dX8_init_26 : decode cX8_init 26 = .ok (.return_, 1) := dk_177 (dk_at dksX8_init_1 3 rfl rfl)
abbrev cX8_value : ByteArray := prog_2_method_2_code
def yX8_value : MethodName := ⟨RX8, "value", "()I"⟩
def dkwX8_value_4 : List UInt8 := [160, 0, 7, 4, 167, 0, 4, 3, 172]
abbrev dktX8_value_4 : List UInt8 := dkwX8_value_4 ++ []
def dkwX8_value_3 : List UInt8 := [27, 28, 162, 0, 7, 4, 167, 0, 4, 3, 172, 27, 28, 164, 0, 7, 4, 167, 0, 4, 3, 172, 27, 28]
abbrev dktX8_value_3 : List UInt8 := dkwX8_value_3 ++ dktX8_value_4
def dkwX8_value_2 : List UInt8 := [27, 28, 96, 172, 27, 28, 100, 172, 27, 28, 104, 172, 28, 154, 0, 7, 3, 167, 0, 6, 27, 28, 108, 172]
abbrev dktX8_value_2 : List UInt8 := dkwX8_value_2 ++ dktX8_value_3
def dkwX8_value_1 : List UInt8 := [171, 0, 0, 0, 0, 0, 0, 106, 0, 0, 0, 6, 0, 0, 0, 42, 0, 0, 0, 68, 0, 0, 0, 43, 0, 0, 0, 60, 0, 0, 0, 45, 0, 0, 0, 64, 0, 0, 0, 47, 0, 0, 0, 72, 0, 0, 0, 60, 0, 0, 0, 84, 0, 0, 0, 62, 0, 0, 0, 95]
abbrev dktX8_value_1 : List UInt8 := dkwX8_value_1 ++ dktX8_value_2
def dkwX8_value_0 : List UInt8 := [42, 180, 0, 17, 182, 0, 24, 60, 42, 180, 0, 21, 182, 0, 24, 61, 42, 180, 0, 13]
abbrev dktX8_value_0 : List UInt8 := dkwX8_value_0 ++ dktX8_value_1
theorem dksX8_value_0 : cX8_value.data.toList.drop 0 = dktX8_value_0 := by decide +kernel
theorem dksX8_value_1 : cX8_value.data.toList.drop 20 = dktX8_value_1 := dk_seg dksX8_value_0 20 rfl rfl
theorem dksX8_value_2 : cX8_value.data.toList.drop 80 = dktX8_value_2 := dk_seg dksX8_value_1 60 rfl rfl
theorem dksX8_value_3 : cX8_value.data.toList.drop 104 = dktX8_value_3 := dk_seg dksX8_value_2 24 rfl rfl
theorem dksX8_value_4 : cX8_value.data.toList.drop 128 = dktX8_value_4 := dk_seg dksX8_value_3 24 rfl rfl
theorem dX8_value_0 : decode cX8_value 0 = .ok (.aload_n 0, 1) := dk_42 (dk_at dksX8_value_0 0 rfl rfl)
theorem dX8_value_1 : decode cX8_value 1 = .ok (.getfield 17, 3) := dk_180 0 17 (dk_at dksX8_value_0 1 rfl rfl)
theorem dX8_value_4 : decode cX8_value 4 = .ok (.invokevirtual 24, 3) := dk_182 0 24 (dk_at dksX8_value_0 4 rfl rfl)
theorem dX8_value_7 : decode cX8_value 7 = .ok (.istore_n 1, 1) := dk_60 (dk_at dksX8_value_0 7 rfl rfl)
theorem dX8_value_8 : decode cX8_value 8 = .ok (.aload_n 0, 1) := dk_42 (dk_at dksX8_value_0 8 rfl rfl)
theorem dX8_value_9 : decode cX8_value 9 = .ok (.getfield 21, 3) := dk_180 0 21 (dk_at dksX8_value_0 9 rfl rfl)
theorem dX8_value_12 : decode cX8_value 12 = .ok (.invokevirtual 24, 3) := dk_182 0 24 (dk_at dksX8_value_0 12 rfl rfl)
theorem dX8_value_15 : decode cX8_value 15 = .ok (.istore_n 2, 1) := dk_61 (dk_at dksX8_value_0 15 rfl rfl)
theorem dX8_value_16 : decode cX8_value 16 = .ok (.aload_n 0, 1) := dk_42 (dk_at dksX8_value_0 16 rfl rfl)
theorem dX8_value_17 : decode cX8_value 17 = .ok (.getfield 13, 3) := dk_180 0 13 (dk_at dksX8_value_0 17 rfl rfl)
theorem dX8_value_20 : decode cX8_value 20 = .ok (.lookupswitch 106 #[(42, 68), (43, 60), (45, 64), (47, 72), (60, 84), (62, 95)], 60) := by decide +kernel
theorem dX8_value_80 : decode cX8_value 80 = .ok (.iload_n 1, 1) := dk_27 (dk_at dksX8_value_2 0 rfl rfl)
theorem dX8_value_81 : decode cX8_value 81 = .ok (.iload_n 2, 1) := dk_28 (dk_at dksX8_value_2 1 rfl rfl)
theorem dX8_value_82 : decode cX8_value 82 = .ok (.iadd, 1) := dk_96 (dk_at dksX8_value_2 2 rfl rfl)
theorem dX8_value_83 : decode cX8_value 83 = .ok (.ireturn, 1) := dk_172 (dk_at dksX8_value_2 3 rfl rfl)
theorem dX8_value_84 : decode cX8_value 84 = .ok (.iload_n 1, 1) := dk_27 (dk_at dksX8_value_2 4 rfl rfl)
theorem dX8_value_85 : decode cX8_value 85 = .ok (.iload_n 2, 1) := dk_28 (dk_at dksX8_value_2 5 rfl rfl)
theorem dX8_value_86 : decode cX8_value 86 = .ok (.isub, 1) := dk_100 (dk_at dksX8_value_2 6 rfl rfl)
theorem dX8_value_87 : decode cX8_value 87 = .ok (.ireturn, 1) := dk_172 (dk_at dksX8_value_2 7 rfl rfl)
theorem dX8_value_88 : decode cX8_value 88 = .ok (.iload_n 1, 1) := dk_27 (dk_at dksX8_value_2 8 rfl rfl)
theorem dX8_value_89 : decode cX8_value 89 = .ok (.iload_n 2, 1) := dk_28 (dk_at dksX8_value_2 9 rfl rfl)
theorem dX8_value_90 : decode cX8_value 90 = .ok (.imul, 1) := dk_104 (dk_at dksX8_value_2 10 rfl rfl)
theorem dX8_value_91 : decode cX8_value 91 = .ok (.ireturn, 1) := dk_172 (dk_at dksX8_value_2 11 rfl rfl)
theorem dX8_value_92 : decode cX8_value 92 = .ok (.iload_n 2, 1) := dk_28 (dk_at dksX8_value_2 12 rfl rfl)
theorem dX8_value_93 : decode cX8_value 93 = .ok (.ifCond .ne 7, 3) := dk_154 0 7 (dk_at dksX8_value_2 13 rfl rfl)
theorem dX8_value_96 : decode cX8_value 96 = .ok (.iconst 0, 1) := dk_3 (dk_at dksX8_value_2 16 rfl rfl)
theorem dX8_value_97 : decode cX8_value 97 = .ok (.goto 6, 3) := dk_167 0 6 (dk_at dksX8_value_2 17 rfl rfl)
theorem dX8_value_100 : decode cX8_value 100 = .ok (.iload_n 1, 1) := dk_27 (dk_at dksX8_value_2 20 rfl rfl)
theorem dX8_value_101 : decode cX8_value 101 = .ok (.iload_n 2, 1) := dk_28 (dk_at dksX8_value_2 21 rfl rfl)
theorem dX8_value_102 : decode cX8_value 102 = .ok (.idiv, 1) := dk_108 (dk_at dksX8_value_2 22 rfl rfl)
theorem dX8_value_103 : decode cX8_value 103 = .ok (.ireturn, 1) := dk_172 (dk_at dksX8_value_2 23 rfl rfl)
theorem dX8_value_104 : decode cX8_value 104 = .ok (.iload_n 1, 1) := dk_27 (dk_at dksX8_value_3 0 rfl rfl)
theorem dX8_value_105 : decode cX8_value 105 = .ok (.iload_n 2, 1) := dk_28 (dk_at dksX8_value_3 1 rfl rfl)
theorem dX8_value_106 : decode cX8_value 106 = .ok (.if_icmp .ge 7, 3) := dk_162 0 7 (dk_at dksX8_value_3 2 rfl rfl)
theorem dX8_value_109 : decode cX8_value 109 = .ok (.iconst 1, 1) := dk_4 (dk_at dksX8_value_3 5 rfl rfl)
theorem dX8_value_110 : decode cX8_value 110 = .ok (.goto 4, 3) := dk_167 0 4 (dk_at dksX8_value_3 6 rfl rfl)
theorem dX8_value_113 : decode cX8_value 113 = .ok (.iconst 0, 1) := dk_3 (dk_at dksX8_value_3 9 rfl rfl)
theorem dX8_value_114 : decode cX8_value 114 = .ok (.ireturn, 1) := dk_172 (dk_at dksX8_value_3 10 rfl rfl)
theorem dX8_value_115 : decode cX8_value 115 = .ok (.iload_n 1, 1) := dk_27 (dk_at dksX8_value_3 11 rfl rfl)
theorem dX8_value_116 : decode cX8_value 116 = .ok (.iload_n 2, 1) := dk_28 (dk_at dksX8_value_3 12 rfl rfl)
theorem dX8_value_117 : decode cX8_value 117 = .ok (.if_icmp .le 7, 3) := dk_164 0 7 (dk_at dksX8_value_3 13 rfl rfl)
theorem dX8_value_120 : decode cX8_value 120 = .ok (.iconst 1, 1) := dk_4 (dk_at dksX8_value_3 16 rfl rfl)
theorem dX8_value_121 : decode cX8_value 121 = .ok (.goto 4, 3) := dk_167 0 4 (dk_at dksX8_value_3 17 rfl rfl)
theorem dX8_value_124 : decode cX8_value 124 = .ok (.iconst 0, 1) := dk_3 (dk_at dksX8_value_3 20 rfl rfl)
theorem dX8_value_125 : decode cX8_value 125 = .ok (.ireturn, 1) := dk_172 (dk_at dksX8_value_3 21 rfl rfl)
theorem dX8_value_126 : decode cX8_value 126 = .ok (.iload_n 1, 1) := dk_27 (dk_at dksX8_value_3 22 rfl rfl)
theorem dX8_value_127 : decode cX8_value 127 = .ok (.iload_n 2, 1) := dk_28 (dk_at dksX8_value_3 23 rfl rfl)
theorem dX8_value_128 : decode cX8_value 128 = .ok (.if_icmp .ne 7, 3) := dk_160 0 7 (dk_at dksX8_value_4 0 rfl rfl)
theorem dX8_value_131 : decode cX8_value 131 = .ok (.iconst 1, 1) := dk_4 (dk_at dksX8_value_4 3 rfl rfl)
theorem dX8_value_132 : decode cX8_value 132 = .ok (.goto 4, 3) := dk_167 0 4 (dk_at dksX8_value_4 4 rfl rfl)
theorem dX8_value_135 : decode cX8_value 135 = .ok (.iconst 0, 1) := dk_3 (dk_at dksX8_value_4 7 rfl rfl)
theorem dX8_value_136 : decode cX8_value 136 = .ok (.ireturn, 1) := dk_172 (dk_at dksX8_value_4 8 rfl rfl)
theorem q112 : (Jvm.Cond.initialized "PullThePlug$Act") ∈ lw_all := lw_g (lw_at lw_m1 16 rfl) rfl
theorem q623 : (Jvm.Cond.instantiable "PullThePlug$Act" (5 : Nat)) ∈ lw_all := lw_g (lw_at lw_m3 47 rfl) rfl
theorem q625 : (Jvm.Cond.instanceMethod ({ cls := "PullThePlug$Act", name := "<init>", desc := "(LPullThePlug;CLPullThePlug$Node;LPullThePlug$Node;)V" } : Jvm.MethodName)) ∈ lw_all := lw_g (lw_at lw_m3 49 rfl) rfl
theorem q626 : (Jvm.Cond.code ({ cls := "PullThePlug$Act", name := "<init>", desc := "(LPullThePlug;CLPullThePlug$Node;LPullThePlug$Node;)V" } : Jvm.MethodName) prog_2_method_1_code (5 : Nat) (Option.none : Option Jvm.ClassFile.FieldType)) ∈ lw_all := lw_g (lw_at lw_m3 50 rfl) rfl
theorem q627 : (Jvm.Cond.methodLinkNest "PullThePlug$Act" (7 : Nat) ({ cls := "PullThePlug$Node", name := "<init>", desc := "(LPullThePlug;)V" } : Jvm.MethodName) "PullThePlug") ∈ lw_tbl := lw_at lw_m3 51 rfl
theorem q628 : (Jvm.Cond.fieldLink "PullThePlug$Act" (13 : Nat) "PullThePlug$Act" "sign" "C") ∈ lw_all := lw_g (lw_at lw_m3 52 rfl) rfl
theorem q629 : (Jvm.Cond.fieldLink "PullThePlug$Act" (17 : Nat) "PullThePlug$Act" "left" "LPullThePlug$Node;") ∈ lw_all := lw_g (lw_at lw_m3 53 rfl) rfl
theorem q630 : (Jvm.Cond.fieldLink "PullThePlug$Act" (21 : Nat) "PullThePlug$Act" "right" "LPullThePlug$Node;") ∈ lw_all := lw_g (lw_at lw_m3 54 rfl) rfl
theorem q631 : (Jvm.Cond.fieldLink "PullThePlug$Act" (1 : Nat) "PullThePlug$Act" "this$0" "LPullThePlug;") ∈ lw_all := lw_g (lw_at lw_m3 55 rfl) rfl
theorem q632 : (Jvm.Cond.laysFinal "PullThePlug$Act" "PullThePlug$Act" "sign" "C") ∈ lw_all := lw_g (lw_at lw_m3 56 rfl) rfl
theorem q633 : (Jvm.Cond.soleField "PullThePlug$Act" "sign") ∈ lw_all := lw_g (lw_at lw_m3 57 rfl) rfl
theorem q634 : (Jvm.Cond.laysFinal "PullThePlug$Act" "PullThePlug$Act" "left" "LPullThePlug$Node;") ∈ lw_all := lw_g (lw_at lw_m3 58 rfl) rfl
theorem q635 : (Jvm.Cond.soleField "PullThePlug$Act" "left") ∈ lw_all := lw_g (lw_at lw_m3 59 rfl) rfl
theorem q636 : (Jvm.Cond.laysFinal "PullThePlug$Act" "PullThePlug$Act" "right" "LPullThePlug$Node;") ∈ lw_all := lw_g (lw_at lw_m3 60 rfl) rfl
theorem q637 : (Jvm.Cond.soleField "PullThePlug$Act" "right") ∈ lw_all := lw_g (lw_at lw_m3 61 rfl) rfl
theorem q638 : (Jvm.Cond.laysFinal "PullThePlug$Act" "PullThePlug$Act" "this$0" "LPullThePlug;") ∈ lw_all := lw_g (lw_at lw_m3 62 rfl) rfl
theorem q639 : (Jvm.Cond.soleField "PullThePlug$Act" "this$0") ∈ lw_all := lw_g (lw_at lw_m3 63 rfl) rfl
theorem q640 : (Jvm.Cond.laysFinal "PullThePlug$Act" "PullThePlug$Node" "this$0" "LPullThePlug;") ∈ lw_all := lw_g (lw_at lw_m3 64 rfl) rfl
theorem q641 : (Jvm.Cond.superclass "PullThePlug$Act" "PullThePlug$Node") ∈ lw_all := lw_g (lw_at lw_m3 65 rfl) rfl
theorem q700 : (Jvm.Cond.selects "PullThePlug$Act" ({ cls := "PullThePlug$Node", name := "value", desc := "()I" } : Jvm.MethodName) ({ cls := "PullThePlug$Act", name := "value", desc := "()I" } : Jvm.MethodName)) ∈ lw_all := lw_g (lw_at lw_m3 124 rfl) rfl
theorem q701 : (Jvm.Cond.instanceMethod ({ cls := "PullThePlug$Act", name := "value", desc := "()I" } : Jvm.MethodName)) ∈ lw_all := lw_g (lw_at lw_m3 125 rfl) rfl
theorem q702 : (Jvm.Cond.code ({ cls := "PullThePlug$Act", name := "value", desc := "()I" } : Jvm.MethodName) prog_2_method_2_code (3 : Nat) (Option.some Jvm.ClassFile.FieldType.int)) ∈ lw_all := lw_g (lw_at lw_m3 126 rfl) rfl
theorem q703 : (Jvm.Cond.methodLink "PullThePlug$Act" (24 : Nat) ({ cls := "PullThePlug$Node", name := "value", desc := "()I" } : Jvm.MethodName)) ∈ lw_all := lw_g (lw_at lw_m3 127 rfl) rfl
theorem q1658 : (Jvm.Cond.castable "PullThePlug$Act" "java/lang/Object") ∈ lw_tbl := lw_at lw_m7 122 rfl
theorem in_X8 : ∀ w ∈ wsX80, w ∈ lw_all := lw_in wsX80 [640, 632, 634, 636, 638] (by decide +kernel) (by decide +kernel)
/-! the law's own entry -/
set_option maxRecDepth 100000
abbrev cL_law : ByteArray := code
def dkwL_law_64 : List UInt8 := [172]
abbrev dktL_law_64 : List UInt8 := dkwL_law_64 ++ []
def dkwL_law_63 : List UInt8 := [154, 0, 14, 45, 3, 47, 22, 6, 148, 153, 0, 5, 3, 172, 167, 0, 3, 132, 4, 5, 167, 249, 134, 4]
abbrev dktL_law_63 : List UInt8 := dkwL_law_63 ++ dktL_law_64
def dkwL_law_62 : List UInt8 := [21, 4, 4, 96, 46, 182, 0, 228, 55, 6, 44, 182, 0, 48, 21, 5, 159, 0, 5, 3, 172, 21, 5]
abbrev dktL_law_62 : List UInt8 := dkwL_law_62 ++ dktL_law_63
def dkwL_law_61 : List UInt8 := [182, 0, 224, 159, 0, 60, 3, 172, 43, 42, 21, 4, 4, 96, 46, 45, 184, 0, 225, 54, 5, 44, 42]
abbrev dktL_law_61 : List UInt8 := dkwL_law_61 ++ dktL_law_62
def dkwL_law_60 : List UInt8 := [159, 0, 85, 3, 172, 43, 42, 21, 4, 4, 96, 46, 182, 0, 221, 44, 42, 21, 4, 4, 96, 46]
abbrev dktL_law_60 : List UInt8 := dkwL_law_60 ++ dktL_law_61
def dkwL_law_59 : List UInt8 := [3, 172, 43, 42, 21, 4, 4, 96, 46, 182, 0, 217, 44, 42, 21, 4, 4, 96, 46, 182, 0, 220]
abbrev dktL_law_59 : List UInt8 := dkwL_law_59 ++ dktL_law_60
def dkwL_law_58 : List UInt8 := [172, 43, 42, 21, 4, 4, 96, 46, 182, 0, 213, 44, 42, 21, 4, 4, 96, 46, 182, 0, 216, 159, 0, 110]
abbrev dktL_law_58 : List UInt8 := dkwL_law_58 ++ dktL_law_59
def dkwL_law_57 : List UInt8 := [46, 182, 0, 209, 44, 42, 21, 4, 4, 96, 46, 42, 21, 4, 5, 96, 46, 182, 0, 212, 159, 0, 135, 3]
abbrev dktL_law_57 : List UInt8 := dkwL_law_57 ++ dktL_law_58
def dkwL_law_56 : List UInt8 := [182, 0, 205, 44, 182, 0, 208, 159, 0, 172, 3, 172, 43, 42, 21, 4, 4, 96, 46, 42, 21, 4, 5, 96]
abbrev dktL_law_56 : List UInt8 := dkwL_law_56 ++ dktL_law_57
def dkwL_law_55 : List UInt8 := [4, 96, 46, 182, 0, 201, 44, 42, 21, 4, 4, 96, 46, 182, 0, 204, 159, 0, 185, 3, 172, 43]
abbrev dktL_law_55 : List UInt8 := dkwL_law_55 ++ dktL_law_56
def dkwL_law_54 : List UInt8 := [42, 21, 4, 5, 96, 46, 42, 21, 4, 6, 96, 46, 182, 0, 200, 159, 0, 210, 3, 172, 43, 42, 21, 4]
abbrev dktL_law_54 : List UInt8 := dkwL_law_54 ++ dktL_law_55
def dkwL_law_53 : List UInt8 := [96, 46, 42, 21, 4, 5, 96, 46, 42, 21, 4, 6, 96, 46, 182, 0, 197, 44, 42, 21, 4, 4, 96, 46]
abbrev dktL_law_53 : List UInt8 := dkwL_law_53 ++ dktL_law_54
def dkwL_law_52 : List UInt8 := [21, 4, 5, 96, 46, 42, 21, 4, 6, 96, 46, 182, 0, 196, 159, 1, 3, 3, 172, 43, 42, 21, 4, 4]
abbrev dktL_law_52 : List UInt8 := dkwL_law_52 ++ dktL_law_53
def dkwL_law_51 : List UInt8 := [46, 42, 21, 4, 5, 96, 46, 42, 21, 4, 6, 96, 46, 182, 0, 193, 44, 42, 21, 4, 4, 96, 46, 42]
abbrev dktL_law_51 : List UInt8 := dkwL_law_51 ++ dktL_law_52
def dkwL_law_50 : List UInt8 := [159, 1, 65, 3, 172, 43, 182, 0, 189, 44, 182, 0, 192, 159, 1, 52, 3, 172, 43, 42, 21, 4, 4, 96]
abbrev dktL_law_50 : List UInt8 := dkwL_law_50 ++ dktL_law_51
def dkwL_law_49 : List UInt8 := [172, 43, 182, 0, 181, 44, 182, 0, 184, 159, 1, 78, 3, 172, 43, 182, 0, 185, 44, 182, 0, 188]
abbrev dktL_law_49 : List UInt8 := dkwL_law_49 ++ dktL_law_50
def dkwL_law_48 : List UInt8 := [43, 42, 21, 4, 4, 96, 46, 182, 0, 177, 44, 42, 21, 4, 4, 96, 46, 182, 0, 180, 159, 1, 91, 3]
abbrev dktL_law_48 : List UInt8 := dkwL_law_48 ++ dktL_law_49
def dkwL_law_47 : List UInt8 := [42, 21, 4, 4, 96, 46, 182, 0, 173, 44, 42, 21, 4, 4, 96, 46, 182, 0, 176, 159, 1, 116, 3, 172]
abbrev dktL_law_47 : List UInt8 := dkwL_law_47 ++ dktL_law_48
def dkwL_law_46 : List UInt8 := [21, 4, 4, 96, 46, 182, 0, 169, 44, 42, 21, 4, 4, 96, 46, 182, 0, 172, 159, 1, 141, 3, 172, 43]
abbrev dktL_law_46 : List UInt8 := dkwL_law_46 ++ dktL_law_47
def dkwL_law_45 : List UInt8 := [182, 0, 164, 159, 1, 179, 3, 172, 43, 182, 0, 165, 44, 182, 0, 168, 159, 1, 166, 3, 172, 43, 42]
abbrev dktL_law_45 : List UInt8 := dkwL_law_45 ++ dktL_law_46
def dkwL_law_44 : List UInt8 := [159, 1, 205, 3, 172, 43, 182, 0, 157, 44, 182, 0, 160, 159, 1, 192, 3, 172, 43, 182, 0, 161, 44]
abbrev dktL_law_44 : List UInt8 := dkwL_law_44 ++ dktL_law_45
def dkwL_law_43 : List UInt8 := [44, 42, 21, 4, 4, 96, 46, 42, 21, 4, 5, 96, 46, 42, 21, 4, 6, 96, 46, 182, 0, 156]
abbrev dktL_law_43 : List UInt8 := dkwL_law_43 ++ dktL_law_44
def dkwL_law_42 : List UInt8 := [3, 172, 43, 42, 21, 4, 4, 96, 46, 42, 21, 4, 5, 96, 46, 42, 21, 4, 6, 96, 46, 182, 0, 153]
abbrev dktL_law_42 : List UInt8 := dkwL_law_42 ++ dktL_law_43
def dkwL_law_41 : List UInt8 := [172, 43, 42, 21, 4, 4, 96, 46, 182, 0, 149, 44, 42, 21, 4, 4, 96, 46, 182, 0, 152, 159, 1, 254]
abbrev dktL_law_41 : List UInt8 := dkwL_law_41 ++ dktL_law_42
def dkwL_law_40 : List UInt8 := [21, 4, 4, 96, 46, 42, 21, 4, 5, 96, 46, 42, 21, 4, 6, 96, 46, 182, 0, 148, 159, 2, 23, 3]
abbrev dktL_law_40 : List UInt8 := dkwL_law_40 ++ dktL_law_41
def dkwL_law_39 : List UInt8 := [43, 42, 21, 4, 4, 96, 46, 42, 21, 4, 5, 96, 46, 42, 21, 4, 6, 96, 46, 182, 0, 145, 44, 42]
abbrev dktL_law_39 : List UInt8 := dkwL_law_39 ++ dktL_law_40
def dkwL_law_38 : List UInt8 := [182, 0, 141, 44, 42, 21, 4, 4, 96, 46, 42, 21, 4, 5, 96, 46, 182, 0, 144, 159, 2, 72, 3, 172]
abbrev dktL_law_38 : List UInt8 := dkwL_law_38 ++ dktL_law_39
def dkwL_law_37 : List UInt8 := [5, 96, 46, 182, 0, 140, 159, 2, 109, 3, 172, 43, 42, 21, 4, 4, 96, 46, 42, 21, 4, 5, 96, 46]
abbrev dktL_law_37 : List UInt8 := dkwL_law_37 ++ dktL_law_38
def dkwL_law_36 : List UInt8 := [21, 4, 4, 96, 46, 42, 21, 4, 5, 96, 46, 182, 0, 137, 44, 42, 21, 4, 4, 96, 46, 42, 21, 4]
abbrev dktL_law_36 : List UInt8 := dkwL_law_36 ++ dktL_law_37
def dkwL_law_35 : List UInt8 := [44, 42, 21, 4, 4, 96, 46, 42, 21, 4, 5, 96, 46, 182, 0, 136, 159, 2, 146, 3, 172, 43, 42]
abbrev dktL_law_35 : List UInt8 := dkwL_law_35 ++ dktL_law_36
def dkwL_law_34 : List UInt8 := [182, 0, 132, 159, 2, 183, 3, 172, 43, 42, 21, 4, 4, 96, 46, 42, 21, 4, 5, 96, 46, 182, 0, 133]
abbrev dktL_law_34 : List UInt8 := dkwL_law_34 ++ dktL_law_35
def dkwL_law_33 : List UInt8 := [182, 0, 128, 44, 42, 21, 4, 4, 96, 46, 42, 21, 4, 5, 96, 46, 42, 21, 4, 6, 96, 46]
abbrev dktL_law_33 : List UInt8 := dkwL_law_33 ++ dktL_law_34
def dkwL_law_32 : List UInt8 := [159, 2, 232, 3, 172, 43, 42, 21, 4, 4, 96, 46, 42, 21, 4, 5, 96, 46, 42, 21, 4, 6, 96, 46]
abbrev dktL_law_32 : List UInt8 := dkwL_law_32 ++ dktL_law_33
def dkwL_law_31 : List UInt8 := [3, 172, 43, 42, 21, 4, 4, 96, 46, 182, 0, 124, 44, 42, 21, 4, 4, 96, 46, 182, 0, 127]
abbrev dktL_law_31 : List UInt8 := dkwL_law_31 ++ dktL_law_32
def dkwL_law_30 : List UInt8 := [96, 46, 182, 0, 120, 44, 42, 21, 4, 4, 96, 46, 42, 21, 4, 5, 96, 46, 182, 0, 123, 159, 3, 1]
abbrev dktL_law_30 : List UInt8 := dkwL_law_30 ++ dktL_law_31
def dkwL_law_29 : List UInt8 := [21, 4, 4, 96, 46, 182, 0, 119, 159, 3, 38, 3, 172, 43, 42, 21, 4, 4, 96, 46, 42, 21, 4, 5]
abbrev dktL_law_29 : List UInt8 := dkwL_law_29 ++ dktL_law_30
def dkwL_law_28 : List UInt8 := [4, 96, 46, 182, 0, 115, 159, 3, 63, 3, 172, 43, 42, 21, 4, 4, 96, 46, 182, 0, 116, 44, 42]
abbrev dktL_law_28 : List UInt8 := dkwL_law_28 ++ dktL_law_29
def dkwL_law_27 : List UInt8 := [96, 46, 182, 0, 111, 159, 3, 88, 3, 172, 43, 42, 21, 4, 4, 96, 46, 182, 0, 112, 44, 42, 21, 4]
abbrev dktL_law_27 : List UInt8 := dkwL_law_27 ++ dktL_law_28
def dkwL_law_26 : List UInt8 := [46, 182, 0, 107, 159, 3, 113, 3, 172, 43, 42, 21, 4, 4, 96, 46, 182, 0, 108, 44, 42, 21, 4, 4]
abbrev dktL_law_26 : List UInt8 := dkwL_law_26 ++ dktL_law_27
def dkwL_law_25 : List UInt8 := [182, 0, 103, 159, 3, 138, 3, 172, 43, 42, 21, 4, 4, 96, 46, 182, 0, 104, 44, 42, 21, 4, 4, 96]
abbrev dktL_law_25 : List UInt8 := dkwL_law_25 ++ dktL_law_26
def dkwL_law_24 : List UInt8 := [96, 46, 42, 21, 4, 5, 96, 46, 182, 0, 100, 44, 42, 21, 4, 4, 96, 46, 42, 21, 4, 5, 96, 46]
abbrev dktL_law_24 : List UInt8 := dkwL_law_24 ++ dktL_law_25
def dkwL_law_23 : List UInt8 := [46, 182, 0, 96, 44, 42, 21, 4, 4, 96, 46, 182, 0, 99, 159, 3, 175, 3, 172, 43, 42, 21, 4, 4]
abbrev dktL_law_23 : List UInt8 := dkwL_law_23 ++ dktL_law_24
def dkwL_law_22 : List UInt8 := [182, 0, 92, 44, 42, 21, 4, 4, 96, 46, 182, 0, 95, 159, 3, 200, 3, 172, 43, 42, 21, 4, 4, 96]
abbrev dktL_law_22 : List UInt8 := dkwL_law_22 ++ dktL_law_23
def dkwL_law_21 : List UInt8 := [46, 42, 21, 4, 5, 96, 46, 182, 0, 91, 159, 3, 225, 3, 172, 43, 42, 21, 4, 4, 96, 46]
abbrev dktL_law_21 : List UInt8 := dkwL_law_21 ++ dktL_law_22
def dkwL_law_20 : List UInt8 := [3, 172, 43, 42, 21, 4, 4, 96, 46, 42, 21, 4, 5, 96, 46, 182, 0, 88, 44, 42, 21, 4, 4, 96]
abbrev dktL_law_20 : List UInt8 := dkwL_law_20 ++ dktL_law_21
def dkwL_law_19 : List UInt8 := [43, 182, 0, 80, 44, 182, 0, 83, 159, 4, 19, 3, 172, 43, 182, 0, 84, 44, 182, 0, 87, 159, 4, 6]
abbrev dktL_law_19 : List UInt8 := dkwL_law_19 ++ dktL_law_20
def dkwL_law_18 : List UInt8 := [182, 0, 76, 44, 42, 21, 4, 4, 96, 46, 42, 21, 4, 5, 96, 46, 182, 0, 79, 159, 4, 32, 3, 172]
abbrev dktL_law_18 : List UInt8 := dkwL_law_18 ++ dktL_law_19
def dkwL_law_17 : List UInt8 := [5, 96, 46, 182, 0, 75, 159, 4, 69, 3, 172, 43, 42, 21, 4, 4, 96, 46, 42, 21, 4, 5, 96, 46]
abbrev dktL_law_17 : List UInt8 := dkwL_law_17 ++ dktL_law_18
def dkwL_law_16 : List UInt8 := [21, 4, 4, 96, 46, 42, 21, 4, 5, 96, 46, 182, 0, 72, 44, 42, 21, 4, 4, 96, 46, 42, 21, 4]
abbrev dktL_law_16 : List UInt8 := dkwL_law_16 ++ dktL_law_17
def dkwL_law_15 : List UInt8 := [4, 96, 46, 182, 0, 68, 44, 42, 21, 4, 4, 96, 46, 182, 0, 71, 159, 4, 106, 3, 172, 43, 42]
abbrev dktL_law_15 : List UInt8 := dkwL_law_15 ++ dktL_law_16
def dkwL_law_14 : List UInt8 := [96, 46, 182, 0, 64, 44, 42, 21, 4, 4, 96, 46, 182, 0, 67, 159, 4, 131, 3, 172, 43, 42, 21, 4]
abbrev dktL_law_14 : List UInt8 := dkwL_law_14 ++ dktL_law_15
def dkwL_law_13 : List UInt8 := [46, 182, 0, 60, 44, 42, 21, 4, 4, 96, 46, 182, 0, 63, 159, 4, 156, 3, 172, 43, 42, 21, 4, 4]
abbrev dktL_law_13 : List UInt8 := dkwL_law_13 ++ dktL_law_14
def dkwL_law_12 : List UInt8 := [182, 0, 56, 44, 42, 21, 4, 4, 96, 46, 182, 0, 59, 159, 4, 181, 3, 172, 43, 42, 21, 4, 4, 96]
abbrev dktL_law_12 : List UInt8 := dkwL_law_12 ++ dktL_law_13
def dkwL_law_11 : List UInt8 := [6, 96, 46, 42, 21, 4, 7, 96, 46, 182, 0, 55, 159, 4, 206, 3, 172, 43, 42, 21, 4, 4, 96, 46]
abbrev dktL_law_11 : List UInt8 := dkwL_law_11 ++ dktL_law_12
def dkwL_law_10 : List UInt8 := [21, 4, 7, 96, 46, 182, 0, 51, 44, 42, 21, 4, 4, 96, 46, 42, 21, 4, 5, 96, 46, 42, 21, 4]
abbrev dktL_law_10 : List UInt8 := dkwL_law_10 ++ dktL_law_11
def dkwL_law_9 : List UInt8 := [167, 5, 9, 43, 42, 21, 4, 4, 96, 46, 42, 21, 4, 5, 96, 46, 42, 21, 4, 6, 96, 46, 42]
abbrev dktL_law_9 : List UInt8 := dkwL_law_9 ++ dktL_law_10
def dkwL_law_8 : List UInt8 := [159, 0, 5, 3, 172, 21, 5, 154, 0, 15, 45, 3, 47, 21, 6, 133, 148, 153, 0, 5, 3, 172]
abbrev dktL_law_8 : List UInt8 := dkwL_law_8 ++ dktL_law_9
def dkwL_law_7 : List UInt8 := [44, 42, 21, 4, 4, 96, 46, 42, 21, 4, 5, 96, 46, 182, 0, 47, 54, 6, 44, 182, 0, 48, 21, 5]
abbrev dktL_law_7 : List UInt8 := dkwL_law_7 ++ dktL_law_8
def dkwL_law_6 : List UInt8 := [159, 5, 79, 3, 172, 43, 42, 21, 4, 4, 96, 46, 42, 21, 4, 5, 96, 46, 45, 184, 0, 42, 54, 5]
abbrev dktL_law_6 : List UInt8 := dkwL_law_6 ++ dktL_law_7
def dkwL_law_5 : List UInt8 := [3, 172, 43, 182, 0, 33, 44, 182, 0, 37, 159, 5, 92, 3, 172, 43, 182, 0, 38, 44, 182, 0, 41]
abbrev dktL_law_5 : List UInt8 := dkwL_law_5 ++ dktL_law_6
def dkwL_law_4 : List UInt8 := [172, 43, 42, 21, 4, 4, 96, 46, 182, 0, 28, 44, 42, 21, 4, 4, 96, 46, 182, 0, 32, 159, 5, 105]
abbrev dktL_law_4 : List UInt8 := dkwL_law_4 ++ dktL_law_5
def dkwL_law_3 : List UInt8 := [43, 42, 21, 4, 4, 96, 46, 182, 0, 23, 44, 42, 21, 4, 4, 96, 46, 182, 0, 27, 159, 5, 130, 3]
abbrev dktL_law_3 : List UInt8 := dkwL_law_3 ++ dktL_law_4
def dkwL_law_2 : List UInt8 := [170, 0, 0, 6, 103, 0, 0, 0, 0, 0, 0, 0, 48, 0, 0, 0, 209, 0, 0, 0, 234, 0, 0, 1, 3, 0, 0, 1, 16, 0, 0, 1, 29, 0, 0, 1, 97, 0, 0, 1, 158, 0, 0, 1, 183, 0, 0, 1, 208, 0, 0, 1, 233, 0, 0, 2, 2, 0, 0, 2, 39, 0, 0, 2, 76, 0, 0, 2, 89, 0, 0, 2, 102, 0, 0, 2, 139, 0, 0, 2, 164, 0, 0, 2, 189, 0, 0, 2, 226, 0, 0, 2, 251, 0, 0, 3, 20, 0, 0, 3, 45, 0, 0, 3, 70, 0, 0, 3, 107, 0, 0, 3, 132, 0, 0, 3, 181, 0, 0, 3, 218, 0, 0, 3, 255, 0, 0, 4, 36, 0, 0, 4, 85, 0, 0, 4, 110, 0, 0, 4, 159, 0, 0, 4, 172, 0, 0, 4, 185, 0, 0, 4, 198, 0, 0, 4, 223, 0, 0, 4, 248, 0, 0, 5, 17, 0, 0, 5, 30, 0, 0, 5, 43, 0, 0, 5, 56, 0, 0, 5, 105, 0, 0, 5, 154, 0, 0, 5, 179, 0, 0, 5, 192, 0, 0, 5, 229, 0, 0, 5, 254, 0, 0, 6, 23, 0, 0, 6, 48]
abbrev dktL_law_2 : List UInt8 := dkwL_law_2 ++ dktL_law_3
def dkwL_law_1 : List UInt8 := [21, 4, 42, 190, 8, 100, 163, 6, 119, 42, 21, 4, 46, 16, 63, 126]
abbrev dktL_law_1 : List UInt8 := dkwL_law_1 ++ dktL_law_2
def dkwL_law_0 : List UInt8 := [187, 0, 8, 89, 183, 0, 19, 76, 187, 0, 20, 89, 183, 0, 22, 77, 4, 188, 11, 78, 3, 54, 4]
abbrev dktL_law_0 : List UInt8 := dkwL_law_0 ++ dktL_law_1
theorem dksL_law_0 : cL_law.data.toList.drop 0 = dktL_law_0 := by decide +kernel
theorem dksL_law_1 : cL_law.data.toList.drop 23 = dktL_law_1 := dk_seg dksL_law_0 23 rfl rfl
theorem dksL_law_2 : cL_law.data.toList.drop 39 = dktL_law_2 := dk_seg dksL_law_1 16 rfl rfl
theorem dksL_law_3 : cL_law.data.toList.drop 248 = dktL_law_3 := dk_seg dksL_law_2 209 rfl rfl
theorem dksL_law_4 : cL_law.data.toList.drop 272 = dktL_law_4 := dk_seg dksL_law_3 24 rfl rfl
theorem dksL_law_5 : cL_law.data.toList.drop 296 = dktL_law_5 := dk_seg dksL_law_4 24 rfl rfl
theorem dksL_law_6 : cL_law.data.toList.drop 319 = dktL_law_6 := dk_seg dksL_law_5 23 rfl rfl
theorem dksL_law_7 : cL_law.data.toList.drop 343 = dktL_law_7 := dk_seg dksL_law_6 24 rfl rfl
theorem dksL_law_8 : cL_law.data.toList.drop 367 = dktL_law_8 := dk_seg dksL_law_7 24 rfl rfl
theorem dksL_law_9 : cL_law.data.toList.drop 389 = dktL_law_9 := dk_seg dksL_law_8 22 rfl rfl
theorem dksL_law_10 : cL_law.data.toList.drop 412 = dktL_law_10 := dk_seg dksL_law_9 23 rfl rfl
theorem dksL_law_11 : cL_law.data.toList.drop 436 = dktL_law_11 := dk_seg dksL_law_10 24 rfl rfl
theorem dksL_law_12 : cL_law.data.toList.drop 460 = dktL_law_12 := dk_seg dksL_law_11 24 rfl rfl
theorem dksL_law_13 : cL_law.data.toList.drop 484 = dktL_law_13 := dk_seg dksL_law_12 24 rfl rfl
theorem dksL_law_14 : cL_law.data.toList.drop 508 = dktL_law_14 := dk_seg dksL_law_13 24 rfl rfl
theorem dksL_law_15 : cL_law.data.toList.drop 532 = dktL_law_15 := dk_seg dksL_law_14 24 rfl rfl
theorem dksL_law_16 : cL_law.data.toList.drop 555 = dktL_law_16 := dk_seg dksL_law_15 23 rfl rfl
theorem dksL_law_17 : cL_law.data.toList.drop 579 = dktL_law_17 := dk_seg dksL_law_16 24 rfl rfl
theorem dksL_law_18 : cL_law.data.toList.drop 603 = dktL_law_18 := dk_seg dksL_law_17 24 rfl rfl
theorem dksL_law_19 : cL_law.data.toList.drop 627 = dktL_law_19 := dk_seg dksL_law_18 24 rfl rfl
theorem dksL_law_20 : cL_law.data.toList.drop 651 = dktL_law_20 := dk_seg dksL_law_19 24 rfl rfl
theorem dksL_law_21 : cL_law.data.toList.drop 675 = dktL_law_21 := dk_seg dksL_law_20 24 rfl rfl
theorem dksL_law_22 : cL_law.data.toList.drop 697 = dktL_law_22 := dk_seg dksL_law_21 22 rfl rfl
theorem dksL_law_23 : cL_law.data.toList.drop 721 = dktL_law_23 := dk_seg dksL_law_22 24 rfl rfl
theorem dksL_law_24 : cL_law.data.toList.drop 745 = dktL_law_24 := dk_seg dksL_law_23 24 rfl rfl
theorem dksL_law_25 : cL_law.data.toList.drop 769 = dktL_law_25 := dk_seg dksL_law_24 24 rfl rfl
theorem dksL_law_26 : cL_law.data.toList.drop 793 = dktL_law_26 := dk_seg dksL_law_25 24 rfl rfl
theorem dksL_law_27 : cL_law.data.toList.drop 817 = dktL_law_27 := dk_seg dksL_law_26 24 rfl rfl
theorem dksL_law_28 : cL_law.data.toList.drop 841 = dktL_law_28 := dk_seg dksL_law_27 24 rfl rfl
theorem dksL_law_29 : cL_law.data.toList.drop 864 = dktL_law_29 := dk_seg dksL_law_28 23 rfl rfl
theorem dksL_law_30 : cL_law.data.toList.drop 888 = dktL_law_30 := dk_seg dksL_law_29 24 rfl rfl
theorem dksL_law_31 : cL_law.data.toList.drop 912 = dktL_law_31 := dk_seg dksL_law_30 24 rfl rfl
theorem dksL_law_32 : cL_law.data.toList.drop 934 = dktL_law_32 := dk_seg dksL_law_31 22 rfl rfl
theorem dksL_law_33 : cL_law.data.toList.drop 958 = dktL_law_33 := dk_seg dksL_law_32 24 rfl rfl
theorem dksL_law_34 : cL_law.data.toList.drop 980 = dktL_law_34 := dk_seg dksL_law_33 22 rfl rfl
theorem dksL_law_35 : cL_law.data.toList.drop 1004 = dktL_law_35 := dk_seg dksL_law_34 24 rfl rfl
theorem dksL_law_36 : cL_law.data.toList.drop 1027 = dktL_law_36 := dk_seg dksL_law_35 23 rfl rfl
theorem dksL_law_37 : cL_law.data.toList.drop 1051 = dktL_law_37 := dk_seg dksL_law_36 24 rfl rfl
theorem dksL_law_38 : cL_law.data.toList.drop 1075 = dktL_law_38 := dk_seg dksL_law_37 24 rfl rfl
theorem dksL_law_39 : cL_law.data.toList.drop 1099 = dktL_law_39 := dk_seg dksL_law_38 24 rfl rfl
theorem dksL_law_40 : cL_law.data.toList.drop 1123 = dktL_law_40 := dk_seg dksL_law_39 24 rfl rfl
theorem dksL_law_41 : cL_law.data.toList.drop 1147 = dktL_law_41 := dk_seg dksL_law_40 24 rfl rfl
theorem dksL_law_42 : cL_law.data.toList.drop 1171 = dktL_law_42 := dk_seg dksL_law_41 24 rfl rfl
theorem dksL_law_43 : cL_law.data.toList.drop 1195 = dktL_law_43 := dk_seg dksL_law_42 24 rfl rfl
theorem dksL_law_44 : cL_law.data.toList.drop 1217 = dktL_law_44 := dk_seg dksL_law_43 22 rfl rfl
theorem dksL_law_45 : cL_law.data.toList.drop 1240 = dktL_law_45 := dk_seg dksL_law_44 23 rfl rfl
theorem dksL_law_46 : cL_law.data.toList.drop 1263 = dktL_law_46 := dk_seg dksL_law_45 23 rfl rfl
theorem dksL_law_47 : cL_law.data.toList.drop 1287 = dktL_law_47 := dk_seg dksL_law_46 24 rfl rfl
theorem dksL_law_48 : cL_law.data.toList.drop 1311 = dktL_law_48 := dk_seg dksL_law_47 24 rfl rfl
theorem dksL_law_49 : cL_law.data.toList.drop 1335 = dktL_law_49 := dk_seg dksL_law_48 24 rfl rfl
theorem dksL_law_50 : cL_law.data.toList.drop 1357 = dktL_law_50 := dk_seg dksL_law_49 22 rfl rfl
theorem dksL_law_51 : cL_law.data.toList.drop 1381 = dktL_law_51 := dk_seg dksL_law_50 24 rfl rfl
theorem dksL_law_52 : cL_law.data.toList.drop 1405 = dktL_law_52 := dk_seg dksL_law_51 24 rfl rfl
theorem dksL_law_53 : cL_law.data.toList.drop 1429 = dktL_law_53 := dk_seg dksL_law_52 24 rfl rfl
theorem dksL_law_54 : cL_law.data.toList.drop 1453 = dktL_law_54 := dk_seg dksL_law_53 24 rfl rfl
theorem dksL_law_55 : cL_law.data.toList.drop 1477 = dktL_law_55 := dk_seg dksL_law_54 24 rfl rfl
theorem dksL_law_56 : cL_law.data.toList.drop 1499 = dktL_law_56 := dk_seg dksL_law_55 22 rfl rfl
theorem dksL_law_57 : cL_law.data.toList.drop 1523 = dktL_law_57 := dk_seg dksL_law_56 24 rfl rfl
theorem dksL_law_58 : cL_law.data.toList.drop 1547 = dktL_law_58 := dk_seg dksL_law_57 24 rfl rfl
theorem dksL_law_59 : cL_law.data.toList.drop 1571 = dktL_law_59 := dk_seg dksL_law_58 24 rfl rfl
theorem dksL_law_60 : cL_law.data.toList.drop 1593 = dktL_law_60 := dk_seg dksL_law_59 22 rfl rfl
theorem dksL_law_61 : cL_law.data.toList.drop 1615 = dktL_law_61 := dk_seg dksL_law_60 22 rfl rfl
theorem dksL_law_62 : cL_law.data.toList.drop 1638 = dktL_law_62 := dk_seg dksL_law_61 23 rfl rfl
theorem dksL_law_63 : cL_law.data.toList.drop 1661 = dktL_law_63 := dk_seg dksL_law_62 23 rfl rfl
theorem dksL_law_64 : cL_law.data.toList.drop 1685 = dktL_law_64 := dk_seg dksL_law_63 24 rfl rfl
theorem dL_law_0 : decode cL_law 0 = .ok (.new 8, 3) := dk_187 0 8 (dk_at dksL_law_0 0 rfl rfl)
theorem dL_law_3 : decode cL_law 3 = .ok (.dup, 1) := dk_89 (dk_at dksL_law_0 3 rfl rfl)
theorem dL_law_4 : decode cL_law 4 = .ok (.invokespecial 19, 3) := dk_183 0 19 (dk_at dksL_law_0 4 rfl rfl)
theorem dL_law_7 : decode cL_law 7 = .ok (.astore_n 1, 1) := dk_76 (dk_at dksL_law_0 7 rfl rfl)
theorem dL_law_8 : decode cL_law 8 = .ok (.new 20, 3) := dk_187 0 20 (dk_at dksL_law_0 8 rfl rfl)
theorem dL_law_11 : decode cL_law 11 = .ok (.dup, 1) := dk_89 (dk_at dksL_law_0 11 rfl rfl)
theorem dL_law_12 : decode cL_law 12 = .ok (.invokespecial 22, 3) := dk_183 0 22 (dk_at dksL_law_0 12 rfl rfl)
theorem dL_law_15 : decode cL_law 15 = .ok (.astore_n 2, 1) := dk_77 (dk_at dksL_law_0 15 rfl rfl)
theorem dL_law_16 : decode cL_law 16 = .ok (.iconst 1, 1) := dk_4 (dk_at dksL_law_0 16 rfl rfl)
theorem dL_law_17 : decode cL_law 17 = .ok (.newarray .long, 2) := dk_188_11 (dk_at dksL_law_0 17 rfl rfl)
theorem dL_law_19 : decode cL_law 19 = .ok (.astore_n 3, 1) := dk_78 (dk_at dksL_law_0 19 rfl rfl)
theorem dL_law_20 : decode cL_law 20 = .ok (.iconst 0, 1) := dk_3 (dk_at dksL_law_0 20 rfl rfl)
theorem dL_law_21 : decode cL_law 21 = .ok (.istore 4, 2) := dk_54 4 (dk_at dksL_law_0 21 rfl rfl)
theorem dL_law_23 : decode cL_law 23 = .ok (.iload 4, 2) := dk_21 4 (dk_at dksL_law_1 0 rfl rfl)
theorem dL_law_25 : decode cL_law 25 = .ok (.aload_n 0, 1) := dk_42 (dk_at dksL_law_1 2 rfl rfl)
theorem dL_law_26 : decode cL_law 26 = .ok (.arraylength, 1) := dk_190 (dk_at dksL_law_1 3 rfl rfl)
theorem dL_law_27 : decode cL_law 27 = .ok (.iconst 5, 1) := dk_8 (dk_at dksL_law_1 4 rfl rfl)
theorem dL_law_28 : decode cL_law 28 = .ok (.isub, 1) := dk_100 (dk_at dksL_law_1 5 rfl rfl)
theorem dL_law_29 : decode cL_law 29 = .ok (.if_icmp .gt 1655, 3) := dk_163 6 119 (dk_at dksL_law_1 6 rfl rfl)
theorem dL_law_32 : decode cL_law 32 = .ok (.aload_n 0, 1) := dk_42 (dk_at dksL_law_1 9 rfl rfl)
theorem dL_law_33 : decode cL_law 33 = .ok (.iload 4, 2) := dk_21 4 (dk_at dksL_law_1 10 rfl rfl)
theorem dL_law_35 : decode cL_law 35 = .ok (.iaload, 1) := dk_46 (dk_at dksL_law_1 12 rfl rfl)
theorem dL_law_36 : decode cL_law 36 = .ok (.bipush 63, 2) := dk_16 63 (dk_at dksL_law_1 13 rfl rfl)
theorem dL_law_38 : decode cL_law 38 = .ok (.iand, 1) := dk_126 (dk_at dksL_law_1 15 rfl rfl)
theorem dL_law_39 : decode cL_law 39 = .ok (.tableswitch 1639 0 48 #[209, 234, 259, 272, 285, 353, 414, 439, 464, 489, 514, 551, 588, 601, 614, 651, 676, 701, 738, 763, 788, 813, 838, 875, 900, 949, 986, 1023, 1060, 1109, 1134, 1183, 1196, 1209, 1222, 1247, 1272, 1297, 1310, 1323, 1336, 1385, 1434, 1459, 1472, 1509, 1534, 1559, 1584], 209) := by decide +kernel
theorem dL_law_248 : decode cL_law 248 = .ok (.aload_n 1, 1) := dk_43 (dk_at dksL_law_3 0 rfl rfl)
theorem dL_law_249 : decode cL_law 249 = .ok (.aload_n 0, 1) := dk_42 (dk_at dksL_law_3 1 rfl rfl)
theorem dL_law_250 : decode cL_law 250 = .ok (.iload 4, 2) := dk_21 4 (dk_at dksL_law_3 2 rfl rfl)
theorem dL_law_252 : decode cL_law 252 = .ok (.iconst 1, 1) := dk_4 (dk_at dksL_law_3 4 rfl rfl)
theorem dL_law_253 : decode cL_law 253 = .ok (.iadd, 1) := dk_96 (dk_at dksL_law_3 5 rfl rfl)
theorem dL_law_254 : decode cL_law 254 = .ok (.iaload, 1) := dk_46 (dk_at dksL_law_3 6 rfl rfl)
theorem dL_law_255 : decode cL_law 255 = .ok (.invokevirtual 23, 3) := dk_182 0 23 (dk_at dksL_law_3 7 rfl rfl)
theorem dL_law_258 : decode cL_law 258 = .ok (.aload_n 2, 1) := dk_44 (dk_at dksL_law_3 10 rfl rfl)
theorem dL_law_259 : decode cL_law 259 = .ok (.aload_n 0, 1) := dk_42 (dk_at dksL_law_3 11 rfl rfl)
theorem dL_law_260 : decode cL_law 260 = .ok (.iload 4, 2) := dk_21 4 (dk_at dksL_law_3 12 rfl rfl)
theorem dL_law_262 : decode cL_law 262 = .ok (.iconst 1, 1) := dk_4 (dk_at dksL_law_3 14 rfl rfl)
theorem dL_law_263 : decode cL_law 263 = .ok (.iadd, 1) := dk_96 (dk_at dksL_law_3 15 rfl rfl)
theorem dL_law_264 : decode cL_law 264 = .ok (.iaload, 1) := dk_46 (dk_at dksL_law_3 16 rfl rfl)
theorem dL_law_265 : decode cL_law 265 = .ok (.invokevirtual 27, 3) := dk_182 0 27 (dk_at dksL_law_3 17 rfl rfl)
theorem dL_law_268 : decode cL_law 268 = .ok (.if_icmp .eq 1410, 3) := dk_159 5 130 (dk_at dksL_law_3 20 rfl rfl)
theorem dL_law_271 : decode cL_law 271 = .ok (.iconst 0, 1) := dk_3 (dk_at dksL_law_3 23 rfl rfl)
theorem dL_law_272 : decode cL_law 272 = .ok (.ireturn, 1) := dk_172 (dk_at dksL_law_4 0 rfl rfl)
theorem dL_law_273 : decode cL_law 273 = .ok (.aload_n 1, 1) := dk_43 (dk_at dksL_law_4 1 rfl rfl)
theorem dL_law_274 : decode cL_law 274 = .ok (.aload_n 0, 1) := dk_42 (dk_at dksL_law_4 2 rfl rfl)
theorem dL_law_275 : decode cL_law 275 = .ok (.iload 4, 2) := dk_21 4 (dk_at dksL_law_4 3 rfl rfl)
theorem dL_law_277 : decode cL_law 277 = .ok (.iconst 1, 1) := dk_4 (dk_at dksL_law_4 5 rfl rfl)
theorem dL_law_278 : decode cL_law 278 = .ok (.iadd, 1) := dk_96 (dk_at dksL_law_4 6 rfl rfl)
theorem dL_law_279 : decode cL_law 279 = .ok (.iaload, 1) := dk_46 (dk_at dksL_law_4 7 rfl rfl)
theorem dL_law_280 : decode cL_law 280 = .ok (.invokevirtual 28, 3) := dk_182 0 28 (dk_at dksL_law_4 8 rfl rfl)
theorem dL_law_283 : decode cL_law 283 = .ok (.aload_n 2, 1) := dk_44 (dk_at dksL_law_4 11 rfl rfl)
theorem dL_law_284 : decode cL_law 284 = .ok (.aload_n 0, 1) := dk_42 (dk_at dksL_law_4 12 rfl rfl)
theorem dL_law_285 : decode cL_law 285 = .ok (.iload 4, 2) := dk_21 4 (dk_at dksL_law_4 13 rfl rfl)
theorem dL_law_287 : decode cL_law 287 = .ok (.iconst 1, 1) := dk_4 (dk_at dksL_law_4 15 rfl rfl)
theorem dL_law_288 : decode cL_law 288 = .ok (.iadd, 1) := dk_96 (dk_at dksL_law_4 16 rfl rfl)
theorem dL_law_289 : decode cL_law 289 = .ok (.iaload, 1) := dk_46 (dk_at dksL_law_4 17 rfl rfl)
theorem dL_law_290 : decode cL_law 290 = .ok (.invokevirtual 32, 3) := dk_182 0 32 (dk_at dksL_law_4 18 rfl rfl)
theorem dL_law_293 : decode cL_law 293 = .ok (.if_icmp .eq 1385, 3) := dk_159 5 105 (dk_at dksL_law_4 21 rfl rfl)
theorem dL_law_296 : decode cL_law 296 = .ok (.iconst 0, 1) := dk_3 (dk_at dksL_law_5 0 rfl rfl)
theorem dL_law_297 : decode cL_law 297 = .ok (.ireturn, 1) := dk_172 (dk_at dksL_law_5 1 rfl rfl)
theorem dL_law_298 : decode cL_law 298 = .ok (.aload_n 1, 1) := dk_43 (dk_at dksL_law_5 2 rfl rfl)
theorem dL_law_299 : decode cL_law 299 = .ok (.invokevirtual 33, 3) := dk_182 0 33 (dk_at dksL_law_5 3 rfl rfl)
theorem dL_law_302 : decode cL_law 302 = .ok (.aload_n 2, 1) := dk_44 (dk_at dksL_law_5 6 rfl rfl)
theorem dL_law_303 : decode cL_law 303 = .ok (.invokevirtual 37, 3) := dk_182 0 37 (dk_at dksL_law_5 7 rfl rfl)
theorem dL_law_306 : decode cL_law 306 = .ok (.if_icmp .eq 1372, 3) := dk_159 5 92 (dk_at dksL_law_5 10 rfl rfl)
theorem dL_law_309 : decode cL_law 309 = .ok (.iconst 0, 1) := dk_3 (dk_at dksL_law_5 13 rfl rfl)
theorem dL_law_310 : decode cL_law 310 = .ok (.ireturn, 1) := dk_172 (dk_at dksL_law_5 14 rfl rfl)
theorem dL_law_311 : decode cL_law 311 = .ok (.aload_n 1, 1) := dk_43 (dk_at dksL_law_5 15 rfl rfl)
theorem dL_law_312 : decode cL_law 312 = .ok (.invokevirtual 38, 3) := dk_182 0 38 (dk_at dksL_law_5 16 rfl rfl)
theorem dL_law_315 : decode cL_law 315 = .ok (.aload_n 2, 1) := dk_44 (dk_at dksL_law_5 19 rfl rfl)
theorem dL_law_316 : decode cL_law 316 = .ok (.invokevirtual 41, 3) := dk_182 0 41 (dk_at dksL_law_5 20 rfl rfl)
theorem dL_law_319 : decode cL_law 319 = .ok (.if_icmp .eq 1359, 3) := dk_159 5 79 (dk_at dksL_law_6 0 rfl rfl)
theorem dL_law_322 : decode cL_law 322 = .ok (.iconst 0, 1) := dk_3 (dk_at dksL_law_6 3 rfl rfl)
theorem dL_law_323 : decode cL_law 323 = .ok (.ireturn, 1) := dk_172 (dk_at dksL_law_6 4 rfl rfl)
theorem dL_law_324 : decode cL_law 324 = .ok (.aload_n 1, 1) := dk_43 (dk_at dksL_law_6 5 rfl rfl)
theorem dL_law_325 : decode cL_law 325 = .ok (.aload_n 0, 1) := dk_42 (dk_at dksL_law_6 6 rfl rfl)
theorem dL_law_326 : decode cL_law 326 = .ok (.iload 4, 2) := dk_21 4 (dk_at dksL_law_6 7 rfl rfl)
theorem dL_law_328 : decode cL_law 328 = .ok (.iconst 1, 1) := dk_4 (dk_at dksL_law_6 9 rfl rfl)
theorem dL_law_329 : decode cL_law 329 = .ok (.iadd, 1) := dk_96 (dk_at dksL_law_6 10 rfl rfl)
theorem dL_law_330 : decode cL_law 330 = .ok (.iaload, 1) := dk_46 (dk_at dksL_law_6 11 rfl rfl)
theorem dL_law_331 : decode cL_law 331 = .ok (.aload_n 0, 1) := dk_42 (dk_at dksL_law_6 12 rfl rfl)
theorem dL_law_332 : decode cL_law 332 = .ok (.iload 4, 2) := dk_21 4 (dk_at dksL_law_6 13 rfl rfl)
theorem dL_law_334 : decode cL_law 334 = .ok (.iconst 2, 1) := dk_5 (dk_at dksL_law_6 15 rfl rfl)
theorem dL_law_335 : decode cL_law 335 = .ok (.iadd, 1) := dk_96 (dk_at dksL_law_6 16 rfl rfl)
theorem dL_law_336 : decode cL_law 336 = .ok (.iaload, 1) := dk_46 (dk_at dksL_law_6 17 rfl rfl)
theorem dL_law_337 : decode cL_law 337 = .ok (.aload_n 3, 1) := dk_45 (dk_at dksL_law_6 18 rfl rfl)
theorem dL_law_338 : decode cL_law 338 = .ok (.invokestatic 42, 3) := dk_184 0 42 (dk_at dksL_law_6 19 rfl rfl)
theorem dL_law_341 : decode cL_law 341 = .ok (.istore 5, 2) := dk_54 5 (dk_at dksL_law_6 22 rfl rfl)
theorem dL_law_343 : decode cL_law 343 = .ok (.aload_n 2, 1) := dk_44 (dk_at dksL_law_7 0 rfl rfl)
theorem dL_law_344 : decode cL_law 344 = .ok (.aload_n 0, 1) := dk_42 (dk_at dksL_law_7 1 rfl rfl)
theorem dL_law_345 : decode cL_law 345 = .ok (.iload 4, 2) := dk_21 4 (dk_at dksL_law_7 2 rfl rfl)
theorem dL_law_347 : decode cL_law 347 = .ok (.iconst 1, 1) := dk_4 (dk_at dksL_law_7 4 rfl rfl)
theorem dL_law_348 : decode cL_law 348 = .ok (.iadd, 1) := dk_96 (dk_at dksL_law_7 5 rfl rfl)
theorem dL_law_349 : decode cL_law 349 = .ok (.iaload, 1) := dk_46 (dk_at dksL_law_7 6 rfl rfl)
theorem dL_law_350 : decode cL_law 350 = .ok (.aload_n 0, 1) := dk_42 (dk_at dksL_law_7 7 rfl rfl)
theorem dL_law_351 : decode cL_law 351 = .ok (.iload 4, 2) := dk_21 4 (dk_at dksL_law_7 8 rfl rfl)
theorem dL_law_353 : decode cL_law 353 = .ok (.iconst 2, 1) := dk_5 (dk_at dksL_law_7 10 rfl rfl)
theorem dL_law_354 : decode cL_law 354 = .ok (.iadd, 1) := dk_96 (dk_at dksL_law_7 11 rfl rfl)
theorem dL_law_355 : decode cL_law 355 = .ok (.iaload, 1) := dk_46 (dk_at dksL_law_7 12 rfl rfl)
theorem dL_law_356 : decode cL_law 356 = .ok (.invokevirtual 47, 3) := dk_182 0 47 (dk_at dksL_law_7 13 rfl rfl)
theorem dL_law_359 : decode cL_law 359 = .ok (.istore 6, 2) := dk_54 6 (dk_at dksL_law_7 16 rfl rfl)
theorem dL_law_361 : decode cL_law 361 = .ok (.aload_n 2, 1) := dk_44 (dk_at dksL_law_7 18 rfl rfl)
theorem dL_law_362 : decode cL_law 362 = .ok (.invokevirtual 48, 3) := dk_182 0 48 (dk_at dksL_law_7 19 rfl rfl)
theorem dL_law_365 : decode cL_law 365 = .ok (.iload 5, 2) := dk_21 5 (dk_at dksL_law_7 22 rfl rfl)
theorem dL_law_367 : decode cL_law 367 = .ok (.if_icmp .eq 5, 3) := dk_159 0 5 (dk_at dksL_law_8 0 rfl rfl)
theorem dL_law_370 : decode cL_law 370 = .ok (.iconst 0, 1) := dk_3 (dk_at dksL_law_8 3 rfl rfl)
theorem dL_law_371 : decode cL_law 371 = .ok (.ireturn, 1) := dk_172 (dk_at dksL_law_8 4 rfl rfl)
theorem dL_law_372 : decode cL_law 372 = .ok (.iload 5, 2) := dk_21 5 (dk_at dksL_law_8 5 rfl rfl)
theorem dL_law_374 : decode cL_law 374 = .ok (.ifCond .ne 15, 3) := dk_154 0 15 (dk_at dksL_law_8 7 rfl rfl)
theorem dL_law_377 : decode cL_law 377 = .ok (.aload_n 3, 1) := dk_45 (dk_at dksL_law_8 10 rfl rfl)
theorem dL_law_378 : decode cL_law 378 = .ok (.iconst 0, 1) := dk_3 (dk_at dksL_law_8 11 rfl rfl)
theorem dL_law_379 : decode cL_law 379 = .ok (.laload, 1) := dk_47 (dk_at dksL_law_8 12 rfl rfl)
theorem dL_law_380 : decode cL_law 380 = .ok (.iload 6, 2) := dk_21 6 (dk_at dksL_law_8 13 rfl rfl)
theorem dL_law_382 : decode cL_law 382 = .ok (.i2l, 1) := dk_133 (dk_at dksL_law_8 15 rfl rfl)
theorem dL_law_383 : decode cL_law 383 = .ok (.lcmp, 1) := dk_148 (dk_at dksL_law_8 16 rfl rfl)
theorem dL_law_384 : decode cL_law 384 = .ok (.ifCond .eq 5, 3) := dk_153 0 5 (dk_at dksL_law_8 17 rfl rfl)
theorem dL_law_387 : decode cL_law 387 = .ok (.iconst 0, 1) := dk_3 (dk_at dksL_law_8 20 rfl rfl)
theorem dL_law_388 : decode cL_law 388 = .ok (.ireturn, 1) := dk_172 (dk_at dksL_law_8 21 rfl rfl)
theorem dL_law_389 : decode cL_law 389 = .ok (.goto 1289, 3) := dk_167 5 9 (dk_at dksL_law_9 0 rfl rfl)
theorem dL_law_392 : decode cL_law 392 = .ok (.aload_n 1, 1) := dk_43 (dk_at dksL_law_9 3 rfl rfl)
theorem dL_law_393 : decode cL_law 393 = .ok (.aload_n 0, 1) := dk_42 (dk_at dksL_law_9 4 rfl rfl)
theorem dL_law_394 : decode cL_law 394 = .ok (.iload 4, 2) := dk_21 4 (dk_at dksL_law_9 5 rfl rfl)
theorem dL_law_396 : decode cL_law 396 = .ok (.iconst 1, 1) := dk_4 (dk_at dksL_law_9 7 rfl rfl)
theorem dL_law_397 : decode cL_law 397 = .ok (.iadd, 1) := dk_96 (dk_at dksL_law_9 8 rfl rfl)
theorem dL_law_398 : decode cL_law 398 = .ok (.iaload, 1) := dk_46 (dk_at dksL_law_9 9 rfl rfl)
theorem dL_law_399 : decode cL_law 399 = .ok (.aload_n 0, 1) := dk_42 (dk_at dksL_law_9 10 rfl rfl)
theorem dL_law_400 : decode cL_law 400 = .ok (.iload 4, 2) := dk_21 4 (dk_at dksL_law_9 11 rfl rfl)
theorem dL_law_402 : decode cL_law 402 = .ok (.iconst 2, 1) := dk_5 (dk_at dksL_law_9 13 rfl rfl)
theorem dL_law_403 : decode cL_law 403 = .ok (.iadd, 1) := dk_96 (dk_at dksL_law_9 14 rfl rfl)
theorem dL_law_404 : decode cL_law 404 = .ok (.iaload, 1) := dk_46 (dk_at dksL_law_9 15 rfl rfl)
theorem dL_law_405 : decode cL_law 405 = .ok (.aload_n 0, 1) := dk_42 (dk_at dksL_law_9 16 rfl rfl)
theorem dL_law_406 : decode cL_law 406 = .ok (.iload 4, 2) := dk_21 4 (dk_at dksL_law_9 17 rfl rfl)
theorem dL_law_408 : decode cL_law 408 = .ok (.iconst 3, 1) := dk_6 (dk_at dksL_law_9 19 rfl rfl)
theorem dL_law_409 : decode cL_law 409 = .ok (.iadd, 1) := dk_96 (dk_at dksL_law_9 20 rfl rfl)
theorem dL_law_410 : decode cL_law 410 = .ok (.iaload, 1) := dk_46 (dk_at dksL_law_9 21 rfl rfl)
theorem dL_law_411 : decode cL_law 411 = .ok (.aload_n 0, 1) := dk_42 (dk_at dksL_law_9 22 rfl rfl)
theorem dL_law_412 : decode cL_law 412 = .ok (.iload 4, 2) := dk_21 4 (dk_at dksL_law_10 0 rfl rfl)
theorem dL_law_414 : decode cL_law 414 = .ok (.iconst 4, 1) := dk_7 (dk_at dksL_law_10 2 rfl rfl)
theorem dL_law_415 : decode cL_law 415 = .ok (.iadd, 1) := dk_96 (dk_at dksL_law_10 3 rfl rfl)
theorem dL_law_416 : decode cL_law 416 = .ok (.iaload, 1) := dk_46 (dk_at dksL_law_10 4 rfl rfl)
theorem dL_law_417 : decode cL_law 417 = .ok (.invokevirtual 51, 3) := dk_182 0 51 (dk_at dksL_law_10 5 rfl rfl)
theorem dL_law_420 : decode cL_law 420 = .ok (.aload_n 2, 1) := dk_44 (dk_at dksL_law_10 8 rfl rfl)
theorem dL_law_421 : decode cL_law 421 = .ok (.aload_n 0, 1) := dk_42 (dk_at dksL_law_10 9 rfl rfl)
theorem dL_law_422 : decode cL_law 422 = .ok (.iload 4, 2) := dk_21 4 (dk_at dksL_law_10 10 rfl rfl)
theorem dL_law_424 : decode cL_law 424 = .ok (.iconst 1, 1) := dk_4 (dk_at dksL_law_10 12 rfl rfl)
theorem dL_law_425 : decode cL_law 425 = .ok (.iadd, 1) := dk_96 (dk_at dksL_law_10 13 rfl rfl)
theorem dL_law_426 : decode cL_law 426 = .ok (.iaload, 1) := dk_46 (dk_at dksL_law_10 14 rfl rfl)
theorem dL_law_427 : decode cL_law 427 = .ok (.aload_n 0, 1) := dk_42 (dk_at dksL_law_10 15 rfl rfl)
theorem dL_law_428 : decode cL_law 428 = .ok (.iload 4, 2) := dk_21 4 (dk_at dksL_law_10 16 rfl rfl)
theorem dL_law_430 : decode cL_law 430 = .ok (.iconst 2, 1) := dk_5 (dk_at dksL_law_10 18 rfl rfl)
theorem dL_law_431 : decode cL_law 431 = .ok (.iadd, 1) := dk_96 (dk_at dksL_law_10 19 rfl rfl)
theorem dL_law_432 : decode cL_law 432 = .ok (.iaload, 1) := dk_46 (dk_at dksL_law_10 20 rfl rfl)
theorem dL_law_433 : decode cL_law 433 = .ok (.aload_n 0, 1) := dk_42 (dk_at dksL_law_10 21 rfl rfl)
theorem dL_law_434 : decode cL_law 434 = .ok (.iload 4, 2) := dk_21 4 (dk_at dksL_law_10 22 rfl rfl)
theorem dL_law_436 : decode cL_law 436 = .ok (.iconst 3, 1) := dk_6 (dk_at dksL_law_11 0 rfl rfl)
theorem dL_law_437 : decode cL_law 437 = .ok (.iadd, 1) := dk_96 (dk_at dksL_law_11 1 rfl rfl)
theorem dL_law_438 : decode cL_law 438 = .ok (.iaload, 1) := dk_46 (dk_at dksL_law_11 2 rfl rfl)
theorem dL_law_439 : decode cL_law 439 = .ok (.aload_n 0, 1) := dk_42 (dk_at dksL_law_11 3 rfl rfl)
theorem dL_law_440 : decode cL_law 440 = .ok (.iload 4, 2) := dk_21 4 (dk_at dksL_law_11 4 rfl rfl)
theorem dL_law_442 : decode cL_law 442 = .ok (.iconst 4, 1) := dk_7 (dk_at dksL_law_11 6 rfl rfl)
theorem dL_law_443 : decode cL_law 443 = .ok (.iadd, 1) := dk_96 (dk_at dksL_law_11 7 rfl rfl)
theorem dL_law_444 : decode cL_law 444 = .ok (.iaload, 1) := dk_46 (dk_at dksL_law_11 8 rfl rfl)
theorem dL_law_445 : decode cL_law 445 = .ok (.invokevirtual 55, 3) := dk_182 0 55 (dk_at dksL_law_11 9 rfl rfl)
theorem dL_law_448 : decode cL_law 448 = .ok (.if_icmp .eq 1230, 3) := dk_159 4 206 (dk_at dksL_law_11 12 rfl rfl)
theorem dL_law_451 : decode cL_law 451 = .ok (.iconst 0, 1) := dk_3 (dk_at dksL_law_11 15 rfl rfl)
theorem dL_law_452 : decode cL_law 452 = .ok (.ireturn, 1) := dk_172 (dk_at dksL_law_11 16 rfl rfl)
theorem dL_law_453 : decode cL_law 453 = .ok (.aload_n 1, 1) := dk_43 (dk_at dksL_law_11 17 rfl rfl)
theorem dL_law_454 : decode cL_law 454 = .ok (.aload_n 0, 1) := dk_42 (dk_at dksL_law_11 18 rfl rfl)
theorem dL_law_455 : decode cL_law 455 = .ok (.iload 4, 2) := dk_21 4 (dk_at dksL_law_11 19 rfl rfl)
theorem dL_law_457 : decode cL_law 457 = .ok (.iconst 1, 1) := dk_4 (dk_at dksL_law_11 21 rfl rfl)
theorem dL_law_458 : decode cL_law 458 = .ok (.iadd, 1) := dk_96 (dk_at dksL_law_11 22 rfl rfl)
theorem dL_law_459 : decode cL_law 459 = .ok (.iaload, 1) := dk_46 (dk_at dksL_law_11 23 rfl rfl)
theorem dL_law_460 : decode cL_law 460 = .ok (.invokevirtual 56, 3) := dk_182 0 56 (dk_at dksL_law_12 0 rfl rfl)
theorem dL_law_463 : decode cL_law 463 = .ok (.aload_n 2, 1) := dk_44 (dk_at dksL_law_12 3 rfl rfl)
theorem dL_law_464 : decode cL_law 464 = .ok (.aload_n 0, 1) := dk_42 (dk_at dksL_law_12 4 rfl rfl)
theorem dL_law_465 : decode cL_law 465 = .ok (.iload 4, 2) := dk_21 4 (dk_at dksL_law_12 5 rfl rfl)
theorem dL_law_467 : decode cL_law 467 = .ok (.iconst 1, 1) := dk_4 (dk_at dksL_law_12 7 rfl rfl)
theorem dL_law_468 : decode cL_law 468 = .ok (.iadd, 1) := dk_96 (dk_at dksL_law_12 8 rfl rfl)
theorem dL_law_469 : decode cL_law 469 = .ok (.iaload, 1) := dk_46 (dk_at dksL_law_12 9 rfl rfl)
theorem dL_law_470 : decode cL_law 470 = .ok (.invokevirtual 59, 3) := dk_182 0 59 (dk_at dksL_law_12 10 rfl rfl)
theorem dL_law_473 : decode cL_law 473 = .ok (.if_icmp .eq 1205, 3) := dk_159 4 181 (dk_at dksL_law_12 13 rfl rfl)
theorem dL_law_476 : decode cL_law 476 = .ok (.iconst 0, 1) := dk_3 (dk_at dksL_law_12 16 rfl rfl)
theorem dL_law_477 : decode cL_law 477 = .ok (.ireturn, 1) := dk_172 (dk_at dksL_law_12 17 rfl rfl)
theorem dL_law_478 : decode cL_law 478 = .ok (.aload_n 1, 1) := dk_43 (dk_at dksL_law_12 18 rfl rfl)
theorem dL_law_479 : decode cL_law 479 = .ok (.aload_n 0, 1) := dk_42 (dk_at dksL_law_12 19 rfl rfl)
theorem dL_law_480 : decode cL_law 480 = .ok (.iload 4, 2) := dk_21 4 (dk_at dksL_law_12 20 rfl rfl)
theorem dL_law_482 : decode cL_law 482 = .ok (.iconst 1, 1) := dk_4 (dk_at dksL_law_12 22 rfl rfl)
theorem dL_law_483 : decode cL_law 483 = .ok (.iadd, 1) := dk_96 (dk_at dksL_law_12 23 rfl rfl)
theorem dL_law_484 : decode cL_law 484 = .ok (.iaload, 1) := dk_46 (dk_at dksL_law_13 0 rfl rfl)
theorem dL_law_485 : decode cL_law 485 = .ok (.invokevirtual 60, 3) := dk_182 0 60 (dk_at dksL_law_13 1 rfl rfl)
theorem dL_law_488 : decode cL_law 488 = .ok (.aload_n 2, 1) := dk_44 (dk_at dksL_law_13 4 rfl rfl)
theorem dL_law_489 : decode cL_law 489 = .ok (.aload_n 0, 1) := dk_42 (dk_at dksL_law_13 5 rfl rfl)
theorem dL_law_490 : decode cL_law 490 = .ok (.iload 4, 2) := dk_21 4 (dk_at dksL_law_13 6 rfl rfl)
theorem dL_law_492 : decode cL_law 492 = .ok (.iconst 1, 1) := dk_4 (dk_at dksL_law_13 8 rfl rfl)
theorem dL_law_493 : decode cL_law 493 = .ok (.iadd, 1) := dk_96 (dk_at dksL_law_13 9 rfl rfl)
theorem dL_law_494 : decode cL_law 494 = .ok (.iaload, 1) := dk_46 (dk_at dksL_law_13 10 rfl rfl)
theorem dL_law_495 : decode cL_law 495 = .ok (.invokevirtual 63, 3) := dk_182 0 63 (dk_at dksL_law_13 11 rfl rfl)
theorem dL_law_498 : decode cL_law 498 = .ok (.if_icmp .eq 1180, 3) := dk_159 4 156 (dk_at dksL_law_13 14 rfl rfl)
theorem dL_law_501 : decode cL_law 501 = .ok (.iconst 0, 1) := dk_3 (dk_at dksL_law_13 17 rfl rfl)
theorem dL_law_502 : decode cL_law 502 = .ok (.ireturn, 1) := dk_172 (dk_at dksL_law_13 18 rfl rfl)
theorem dL_law_503 : decode cL_law 503 = .ok (.aload_n 1, 1) := dk_43 (dk_at dksL_law_13 19 rfl rfl)
theorem dL_law_504 : decode cL_law 504 = .ok (.aload_n 0, 1) := dk_42 (dk_at dksL_law_13 20 rfl rfl)
theorem dL_law_505 : decode cL_law 505 = .ok (.iload 4, 2) := dk_21 4 (dk_at dksL_law_13 21 rfl rfl)
theorem dL_law_507 : decode cL_law 507 = .ok (.iconst 1, 1) := dk_4 (dk_at dksL_law_13 23 rfl rfl)
theorem dL_law_508 : decode cL_law 508 = .ok (.iadd, 1) := dk_96 (dk_at dksL_law_14 0 rfl rfl)
theorem dL_law_509 : decode cL_law 509 = .ok (.iaload, 1) := dk_46 (dk_at dksL_law_14 1 rfl rfl)
theorem dL_law_510 : decode cL_law 510 = .ok (.invokevirtual 64, 3) := dk_182 0 64 (dk_at dksL_law_14 2 rfl rfl)
theorem dL_law_513 : decode cL_law 513 = .ok (.aload_n 2, 1) := dk_44 (dk_at dksL_law_14 5 rfl rfl)
theorem dL_law_514 : decode cL_law 514 = .ok (.aload_n 0, 1) := dk_42 (dk_at dksL_law_14 6 rfl rfl)
theorem dL_law_515 : decode cL_law 515 = .ok (.iload 4, 2) := dk_21 4 (dk_at dksL_law_14 7 rfl rfl)
theorem dL_law_517 : decode cL_law 517 = .ok (.iconst 1, 1) := dk_4 (dk_at dksL_law_14 9 rfl rfl)
theorem dL_law_518 : decode cL_law 518 = .ok (.iadd, 1) := dk_96 (dk_at dksL_law_14 10 rfl rfl)
theorem dL_law_519 : decode cL_law 519 = .ok (.iaload, 1) := dk_46 (dk_at dksL_law_14 11 rfl rfl)
theorem dL_law_520 : decode cL_law 520 = .ok (.invokevirtual 67, 3) := dk_182 0 67 (dk_at dksL_law_14 12 rfl rfl)
theorem dL_law_523 : decode cL_law 523 = .ok (.if_icmp .eq 1155, 3) := dk_159 4 131 (dk_at dksL_law_14 15 rfl rfl)
theorem dL_law_526 : decode cL_law 526 = .ok (.iconst 0, 1) := dk_3 (dk_at dksL_law_14 18 rfl rfl)
theorem dL_law_527 : decode cL_law 527 = .ok (.ireturn, 1) := dk_172 (dk_at dksL_law_14 19 rfl rfl)
theorem dL_law_528 : decode cL_law 528 = .ok (.aload_n 1, 1) := dk_43 (dk_at dksL_law_14 20 rfl rfl)
theorem dL_law_529 : decode cL_law 529 = .ok (.aload_n 0, 1) := dk_42 (dk_at dksL_law_14 21 rfl rfl)
theorem dL_law_530 : decode cL_law 530 = .ok (.iload 4, 2) := dk_21 4 (dk_at dksL_law_14 22 rfl rfl)
theorem dL_law_532 : decode cL_law 532 = .ok (.iconst 1, 1) := dk_4 (dk_at dksL_law_15 0 rfl rfl)
theorem dL_law_533 : decode cL_law 533 = .ok (.iadd, 1) := dk_96 (dk_at dksL_law_15 1 rfl rfl)
theorem dL_law_534 : decode cL_law 534 = .ok (.iaload, 1) := dk_46 (dk_at dksL_law_15 2 rfl rfl)
theorem dL_law_535 : decode cL_law 535 = .ok (.invokevirtual 68, 3) := dk_182 0 68 (dk_at dksL_law_15 3 rfl rfl)
theorem dL_law_538 : decode cL_law 538 = .ok (.aload_n 2, 1) := dk_44 (dk_at dksL_law_15 6 rfl rfl)
theorem dL_law_539 : decode cL_law 539 = .ok (.aload_n 0, 1) := dk_42 (dk_at dksL_law_15 7 rfl rfl)
theorem dL_law_540 : decode cL_law 540 = .ok (.iload 4, 2) := dk_21 4 (dk_at dksL_law_15 8 rfl rfl)
theorem dL_law_542 : decode cL_law 542 = .ok (.iconst 1, 1) := dk_4 (dk_at dksL_law_15 10 rfl rfl)
theorem dL_law_543 : decode cL_law 543 = .ok (.iadd, 1) := dk_96 (dk_at dksL_law_15 11 rfl rfl)
theorem dL_law_544 : decode cL_law 544 = .ok (.iaload, 1) := dk_46 (dk_at dksL_law_15 12 rfl rfl)
theorem dL_law_545 : decode cL_law 545 = .ok (.invokevirtual 71, 3) := dk_182 0 71 (dk_at dksL_law_15 13 rfl rfl)
theorem dL_law_548 : decode cL_law 548 = .ok (.if_icmp .eq 1130, 3) := dk_159 4 106 (dk_at dksL_law_15 16 rfl rfl)
theorem dL_law_551 : decode cL_law 551 = .ok (.iconst 0, 1) := dk_3 (dk_at dksL_law_15 19 rfl rfl)
theorem dL_law_552 : decode cL_law 552 = .ok (.ireturn, 1) := dk_172 (dk_at dksL_law_15 20 rfl rfl)
theorem dL_law_553 : decode cL_law 553 = .ok (.aload_n 1, 1) := dk_43 (dk_at dksL_law_15 21 rfl rfl)
theorem dL_law_554 : decode cL_law 554 = .ok (.aload_n 0, 1) := dk_42 (dk_at dksL_law_15 22 rfl rfl)
theorem dL_law_555 : decode cL_law 555 = .ok (.iload 4, 2) := dk_21 4 (dk_at dksL_law_16 0 rfl rfl)
theorem dL_law_557 : decode cL_law 557 = .ok (.iconst 1, 1) := dk_4 (dk_at dksL_law_16 2 rfl rfl)
theorem dL_law_558 : decode cL_law 558 = .ok (.iadd, 1) := dk_96 (dk_at dksL_law_16 3 rfl rfl)
theorem dL_law_559 : decode cL_law 559 = .ok (.iaload, 1) := dk_46 (dk_at dksL_law_16 4 rfl rfl)
theorem dL_law_560 : decode cL_law 560 = .ok (.aload_n 0, 1) := dk_42 (dk_at dksL_law_16 5 rfl rfl)
theorem dL_law_561 : decode cL_law 561 = .ok (.iload 4, 2) := dk_21 4 (dk_at dksL_law_16 6 rfl rfl)
theorem dL_law_563 : decode cL_law 563 = .ok (.iconst 2, 1) := dk_5 (dk_at dksL_law_16 8 rfl rfl)
theorem dL_law_564 : decode cL_law 564 = .ok (.iadd, 1) := dk_96 (dk_at dksL_law_16 9 rfl rfl)
theorem dL_law_565 : decode cL_law 565 = .ok (.iaload, 1) := dk_46 (dk_at dksL_law_16 10 rfl rfl)
theorem dL_law_566 : decode cL_law 566 = .ok (.invokevirtual 72, 3) := dk_182 0 72 (dk_at dksL_law_16 11 rfl rfl)
theorem dL_law_569 : decode cL_law 569 = .ok (.aload_n 2, 1) := dk_44 (dk_at dksL_law_16 14 rfl rfl)
theorem dL_law_570 : decode cL_law 570 = .ok (.aload_n 0, 1) := dk_42 (dk_at dksL_law_16 15 rfl rfl)
theorem dL_law_571 : decode cL_law 571 = .ok (.iload 4, 2) := dk_21 4 (dk_at dksL_law_16 16 rfl rfl)
theorem dL_law_573 : decode cL_law 573 = .ok (.iconst 1, 1) := dk_4 (dk_at dksL_law_16 18 rfl rfl)
theorem dL_law_574 : decode cL_law 574 = .ok (.iadd, 1) := dk_96 (dk_at dksL_law_16 19 rfl rfl)
theorem dL_law_575 : decode cL_law 575 = .ok (.iaload, 1) := dk_46 (dk_at dksL_law_16 20 rfl rfl)
theorem dL_law_576 : decode cL_law 576 = .ok (.aload_n 0, 1) := dk_42 (dk_at dksL_law_16 21 rfl rfl)
theorem dL_law_577 : decode cL_law 577 = .ok (.iload 4, 2) := dk_21 4 (dk_at dksL_law_16 22 rfl rfl)
theorem dL_law_579 : decode cL_law 579 = .ok (.iconst 2, 1) := dk_5 (dk_at dksL_law_17 0 rfl rfl)
theorem dL_law_580 : decode cL_law 580 = .ok (.iadd, 1) := dk_96 (dk_at dksL_law_17 1 rfl rfl)
theorem dL_law_581 : decode cL_law 581 = .ok (.iaload, 1) := dk_46 (dk_at dksL_law_17 2 rfl rfl)
theorem dL_law_582 : decode cL_law 582 = .ok (.invokevirtual 75, 3) := dk_182 0 75 (dk_at dksL_law_17 3 rfl rfl)
theorem dL_law_585 : decode cL_law 585 = .ok (.if_icmp .eq 1093, 3) := dk_159 4 69 (dk_at dksL_law_17 6 rfl rfl)
theorem dL_law_588 : decode cL_law 588 = .ok (.iconst 0, 1) := dk_3 (dk_at dksL_law_17 9 rfl rfl)
theorem dL_law_589 : decode cL_law 589 = .ok (.ireturn, 1) := dk_172 (dk_at dksL_law_17 10 rfl rfl)
theorem dL_law_590 : decode cL_law 590 = .ok (.aload_n 1, 1) := dk_43 (dk_at dksL_law_17 11 rfl rfl)
theorem dL_law_591 : decode cL_law 591 = .ok (.aload_n 0, 1) := dk_42 (dk_at dksL_law_17 12 rfl rfl)
theorem dL_law_592 : decode cL_law 592 = .ok (.iload 4, 2) := dk_21 4 (dk_at dksL_law_17 13 rfl rfl)
theorem dL_law_594 : decode cL_law 594 = .ok (.iconst 1, 1) := dk_4 (dk_at dksL_law_17 15 rfl rfl)
theorem dL_law_595 : decode cL_law 595 = .ok (.iadd, 1) := dk_96 (dk_at dksL_law_17 16 rfl rfl)
theorem dL_law_596 : decode cL_law 596 = .ok (.iaload, 1) := dk_46 (dk_at dksL_law_17 17 rfl rfl)
theorem dL_law_597 : decode cL_law 597 = .ok (.aload_n 0, 1) := dk_42 (dk_at dksL_law_17 18 rfl rfl)
theorem dL_law_598 : decode cL_law 598 = .ok (.iload 4, 2) := dk_21 4 (dk_at dksL_law_17 19 rfl rfl)
theorem dL_law_600 : decode cL_law 600 = .ok (.iconst 2, 1) := dk_5 (dk_at dksL_law_17 21 rfl rfl)
theorem dL_law_601 : decode cL_law 601 = .ok (.iadd, 1) := dk_96 (dk_at dksL_law_17 22 rfl rfl)
theorem dL_law_602 : decode cL_law 602 = .ok (.iaload, 1) := dk_46 (dk_at dksL_law_17 23 rfl rfl)
theorem dL_law_603 : decode cL_law 603 = .ok (.invokevirtual 76, 3) := dk_182 0 76 (dk_at dksL_law_18 0 rfl rfl)
theorem dL_law_606 : decode cL_law 606 = .ok (.aload_n 2, 1) := dk_44 (dk_at dksL_law_18 3 rfl rfl)
theorem dL_law_607 : decode cL_law 607 = .ok (.aload_n 0, 1) := dk_42 (dk_at dksL_law_18 4 rfl rfl)
theorem dL_law_608 : decode cL_law 608 = .ok (.iload 4, 2) := dk_21 4 (dk_at dksL_law_18 5 rfl rfl)
theorem dL_law_610 : decode cL_law 610 = .ok (.iconst 1, 1) := dk_4 (dk_at dksL_law_18 7 rfl rfl)
theorem dL_law_611 : decode cL_law 611 = .ok (.iadd, 1) := dk_96 (dk_at dksL_law_18 8 rfl rfl)
theorem dL_law_612 : decode cL_law 612 = .ok (.iaload, 1) := dk_46 (dk_at dksL_law_18 9 rfl rfl)
theorem dL_law_613 : decode cL_law 613 = .ok (.aload_n 0, 1) := dk_42 (dk_at dksL_law_18 10 rfl rfl)
theorem dL_law_614 : decode cL_law 614 = .ok (.iload 4, 2) := dk_21 4 (dk_at dksL_law_18 11 rfl rfl)
theorem dL_law_616 : decode cL_law 616 = .ok (.iconst 2, 1) := dk_5 (dk_at dksL_law_18 13 rfl rfl)
theorem dL_law_617 : decode cL_law 617 = .ok (.iadd, 1) := dk_96 (dk_at dksL_law_18 14 rfl rfl)
theorem dL_law_618 : decode cL_law 618 = .ok (.iaload, 1) := dk_46 (dk_at dksL_law_18 15 rfl rfl)
theorem dL_law_619 : decode cL_law 619 = .ok (.invokevirtual 79, 3) := dk_182 0 79 (dk_at dksL_law_18 16 rfl rfl)
theorem dL_law_622 : decode cL_law 622 = .ok (.if_icmp .eq 1056, 3) := dk_159 4 32 (dk_at dksL_law_18 19 rfl rfl)
theorem dL_law_625 : decode cL_law 625 = .ok (.iconst 0, 1) := dk_3 (dk_at dksL_law_18 22 rfl rfl)
theorem dL_law_626 : decode cL_law 626 = .ok (.ireturn, 1) := dk_172 (dk_at dksL_law_18 23 rfl rfl)
theorem dL_law_627 : decode cL_law 627 = .ok (.aload_n 1, 1) := dk_43 (dk_at dksL_law_19 0 rfl rfl)
theorem dL_law_628 : decode cL_law 628 = .ok (.invokevirtual 80, 3) := dk_182 0 80 (dk_at dksL_law_19 1 rfl rfl)
theorem dL_law_631 : decode cL_law 631 = .ok (.aload_n 2, 1) := dk_44 (dk_at dksL_law_19 4 rfl rfl)
theorem dL_law_632 : decode cL_law 632 = .ok (.invokevirtual 83, 3) := dk_182 0 83 (dk_at dksL_law_19 5 rfl rfl)
theorem dL_law_635 : decode cL_law 635 = .ok (.if_icmp .eq 1043, 3) := dk_159 4 19 (dk_at dksL_law_19 8 rfl rfl)
theorem dL_law_638 : decode cL_law 638 = .ok (.iconst 0, 1) := dk_3 (dk_at dksL_law_19 11 rfl rfl)
theorem dL_law_639 : decode cL_law 639 = .ok (.ireturn, 1) := dk_172 (dk_at dksL_law_19 12 rfl rfl)
theorem dL_law_640 : decode cL_law 640 = .ok (.aload_n 1, 1) := dk_43 (dk_at dksL_law_19 13 rfl rfl)
theorem dL_law_641 : decode cL_law 641 = .ok (.invokevirtual 84, 3) := dk_182 0 84 (dk_at dksL_law_19 14 rfl rfl)
theorem dL_law_644 : decode cL_law 644 = .ok (.aload_n 2, 1) := dk_44 (dk_at dksL_law_19 17 rfl rfl)
theorem dL_law_645 : decode cL_law 645 = .ok (.invokevirtual 87, 3) := dk_182 0 87 (dk_at dksL_law_19 18 rfl rfl)
theorem dL_law_648 : decode cL_law 648 = .ok (.if_icmp .eq 1030, 3) := dk_159 4 6 (dk_at dksL_law_19 21 rfl rfl)
theorem dL_law_651 : decode cL_law 651 = .ok (.iconst 0, 1) := dk_3 (dk_at dksL_law_20 0 rfl rfl)
theorem dL_law_652 : decode cL_law 652 = .ok (.ireturn, 1) := dk_172 (dk_at dksL_law_20 1 rfl rfl)
theorem dL_law_653 : decode cL_law 653 = .ok (.aload_n 1, 1) := dk_43 (dk_at dksL_law_20 2 rfl rfl)
theorem dL_law_654 : decode cL_law 654 = .ok (.aload_n 0, 1) := dk_42 (dk_at dksL_law_20 3 rfl rfl)
theorem dL_law_655 : decode cL_law 655 = .ok (.iload 4, 2) := dk_21 4 (dk_at dksL_law_20 4 rfl rfl)
theorem dL_law_657 : decode cL_law 657 = .ok (.iconst 1, 1) := dk_4 (dk_at dksL_law_20 6 rfl rfl)
theorem dL_law_658 : decode cL_law 658 = .ok (.iadd, 1) := dk_96 (dk_at dksL_law_20 7 rfl rfl)
theorem dL_law_659 : decode cL_law 659 = .ok (.iaload, 1) := dk_46 (dk_at dksL_law_20 8 rfl rfl)
theorem dL_law_660 : decode cL_law 660 = .ok (.aload_n 0, 1) := dk_42 (dk_at dksL_law_20 9 rfl rfl)
theorem dL_law_661 : decode cL_law 661 = .ok (.iload 4, 2) := dk_21 4 (dk_at dksL_law_20 10 rfl rfl)
theorem dL_law_663 : decode cL_law 663 = .ok (.iconst 2, 1) := dk_5 (dk_at dksL_law_20 12 rfl rfl)
theorem dL_law_664 : decode cL_law 664 = .ok (.iadd, 1) := dk_96 (dk_at dksL_law_20 13 rfl rfl)
theorem dL_law_665 : decode cL_law 665 = .ok (.iaload, 1) := dk_46 (dk_at dksL_law_20 14 rfl rfl)
theorem dL_law_666 : decode cL_law 666 = .ok (.invokevirtual 88, 3) := dk_182 0 88 (dk_at dksL_law_20 15 rfl rfl)
theorem dL_law_669 : decode cL_law 669 = .ok (.aload_n 2, 1) := dk_44 (dk_at dksL_law_20 18 rfl rfl)
theorem dL_law_670 : decode cL_law 670 = .ok (.aload_n 0, 1) := dk_42 (dk_at dksL_law_20 19 rfl rfl)
theorem dL_law_671 : decode cL_law 671 = .ok (.iload 4, 2) := dk_21 4 (dk_at dksL_law_20 20 rfl rfl)
theorem dL_law_673 : decode cL_law 673 = .ok (.iconst 1, 1) := dk_4 (dk_at dksL_law_20 22 rfl rfl)
theorem dL_law_674 : decode cL_law 674 = .ok (.iadd, 1) := dk_96 (dk_at dksL_law_20 23 rfl rfl)
theorem dL_law_675 : decode cL_law 675 = .ok (.iaload, 1) := dk_46 (dk_at dksL_law_21 0 rfl rfl)
theorem dL_law_676 : decode cL_law 676 = .ok (.aload_n 0, 1) := dk_42 (dk_at dksL_law_21 1 rfl rfl)
theorem dL_law_677 : decode cL_law 677 = .ok (.iload 4, 2) := dk_21 4 (dk_at dksL_law_21 2 rfl rfl)
theorem dL_law_679 : decode cL_law 679 = .ok (.iconst 2, 1) := dk_5 (dk_at dksL_law_21 4 rfl rfl)
theorem dL_law_680 : decode cL_law 680 = .ok (.iadd, 1) := dk_96 (dk_at dksL_law_21 5 rfl rfl)
theorem dL_law_681 : decode cL_law 681 = .ok (.iaload, 1) := dk_46 (dk_at dksL_law_21 6 rfl rfl)
theorem dL_law_682 : decode cL_law 682 = .ok (.invokevirtual 91, 3) := dk_182 0 91 (dk_at dksL_law_21 7 rfl rfl)
theorem dL_law_685 : decode cL_law 685 = .ok (.if_icmp .eq 993, 3) := dk_159 3 225 (dk_at dksL_law_21 10 rfl rfl)
theorem dL_law_688 : decode cL_law 688 = .ok (.iconst 0, 1) := dk_3 (dk_at dksL_law_21 13 rfl rfl)
theorem dL_law_689 : decode cL_law 689 = .ok (.ireturn, 1) := dk_172 (dk_at dksL_law_21 14 rfl rfl)
theorem dL_law_690 : decode cL_law 690 = .ok (.aload_n 1, 1) := dk_43 (dk_at dksL_law_21 15 rfl rfl)
theorem dL_law_691 : decode cL_law 691 = .ok (.aload_n 0, 1) := dk_42 (dk_at dksL_law_21 16 rfl rfl)
theorem dL_law_692 : decode cL_law 692 = .ok (.iload 4, 2) := dk_21 4 (dk_at dksL_law_21 17 rfl rfl)
theorem dL_law_694 : decode cL_law 694 = .ok (.iconst 1, 1) := dk_4 (dk_at dksL_law_21 19 rfl rfl)
theorem dL_law_695 : decode cL_law 695 = .ok (.iadd, 1) := dk_96 (dk_at dksL_law_21 20 rfl rfl)
theorem dL_law_696 : decode cL_law 696 = .ok (.iaload, 1) := dk_46 (dk_at dksL_law_21 21 rfl rfl)
theorem dL_law_697 : decode cL_law 697 = .ok (.invokevirtual 92, 3) := dk_182 0 92 (dk_at dksL_law_22 0 rfl rfl)
theorem dL_law_700 : decode cL_law 700 = .ok (.aload_n 2, 1) := dk_44 (dk_at dksL_law_22 3 rfl rfl)
theorem dL_law_701 : decode cL_law 701 = .ok (.aload_n 0, 1) := dk_42 (dk_at dksL_law_22 4 rfl rfl)
theorem dL_law_702 : decode cL_law 702 = .ok (.iload 4, 2) := dk_21 4 (dk_at dksL_law_22 5 rfl rfl)
theorem dL_law_704 : decode cL_law 704 = .ok (.iconst 1, 1) := dk_4 (dk_at dksL_law_22 7 rfl rfl)
theorem dL_law_705 : decode cL_law 705 = .ok (.iadd, 1) := dk_96 (dk_at dksL_law_22 8 rfl rfl)
theorem dL_law_706 : decode cL_law 706 = .ok (.iaload, 1) := dk_46 (dk_at dksL_law_22 9 rfl rfl)
theorem dL_law_707 : decode cL_law 707 = .ok (.invokevirtual 95, 3) := dk_182 0 95 (dk_at dksL_law_22 10 rfl rfl)
theorem dL_law_710 : decode cL_law 710 = .ok (.if_icmp .eq 968, 3) := dk_159 3 200 (dk_at dksL_law_22 13 rfl rfl)
theorem dL_law_713 : decode cL_law 713 = .ok (.iconst 0, 1) := dk_3 (dk_at dksL_law_22 16 rfl rfl)
theorem dL_law_714 : decode cL_law 714 = .ok (.ireturn, 1) := dk_172 (dk_at dksL_law_22 17 rfl rfl)
theorem dL_law_715 : decode cL_law 715 = .ok (.aload_n 1, 1) := dk_43 (dk_at dksL_law_22 18 rfl rfl)
theorem dL_law_716 : decode cL_law 716 = .ok (.aload_n 0, 1) := dk_42 (dk_at dksL_law_22 19 rfl rfl)
theorem dL_law_717 : decode cL_law 717 = .ok (.iload 4, 2) := dk_21 4 (dk_at dksL_law_22 20 rfl rfl)
theorem dL_law_719 : decode cL_law 719 = .ok (.iconst 1, 1) := dk_4 (dk_at dksL_law_22 22 rfl rfl)
theorem dL_law_720 : decode cL_law 720 = .ok (.iadd, 1) := dk_96 (dk_at dksL_law_22 23 rfl rfl)
theorem dL_law_721 : decode cL_law 721 = .ok (.iaload, 1) := dk_46 (dk_at dksL_law_23 0 rfl rfl)
theorem dL_law_722 : decode cL_law 722 = .ok (.invokevirtual 96, 3) := dk_182 0 96 (dk_at dksL_law_23 1 rfl rfl)
theorem dL_law_725 : decode cL_law 725 = .ok (.aload_n 2, 1) := dk_44 (dk_at dksL_law_23 4 rfl rfl)
theorem dL_law_726 : decode cL_law 726 = .ok (.aload_n 0, 1) := dk_42 (dk_at dksL_law_23 5 rfl rfl)
theorem dL_law_727 : decode cL_law 727 = .ok (.iload 4, 2) := dk_21 4 (dk_at dksL_law_23 6 rfl rfl)
theorem dL_law_729 : decode cL_law 729 = .ok (.iconst 1, 1) := dk_4 (dk_at dksL_law_23 8 rfl rfl)
theorem dL_law_730 : decode cL_law 730 = .ok (.iadd, 1) := dk_96 (dk_at dksL_law_23 9 rfl rfl)
theorem dL_law_731 : decode cL_law 731 = .ok (.iaload, 1) := dk_46 (dk_at dksL_law_23 10 rfl rfl)
theorem dL_law_732 : decode cL_law 732 = .ok (.invokevirtual 99, 3) := dk_182 0 99 (dk_at dksL_law_23 11 rfl rfl)
theorem dL_law_735 : decode cL_law 735 = .ok (.if_icmp .eq 943, 3) := dk_159 3 175 (dk_at dksL_law_23 14 rfl rfl)
theorem dL_law_738 : decode cL_law 738 = .ok (.iconst 0, 1) := dk_3 (dk_at dksL_law_23 17 rfl rfl)
theorem dL_law_739 : decode cL_law 739 = .ok (.ireturn, 1) := dk_172 (dk_at dksL_law_23 18 rfl rfl)
theorem dL_law_740 : decode cL_law 740 = .ok (.aload_n 1, 1) := dk_43 (dk_at dksL_law_23 19 rfl rfl)
theorem dL_law_741 : decode cL_law 741 = .ok (.aload_n 0, 1) := dk_42 (dk_at dksL_law_23 20 rfl rfl)
theorem dL_law_742 : decode cL_law 742 = .ok (.iload 4, 2) := dk_21 4 (dk_at dksL_law_23 21 rfl rfl)
theorem dL_law_744 : decode cL_law 744 = .ok (.iconst 1, 1) := dk_4 (dk_at dksL_law_23 23 rfl rfl)
theorem dL_law_745 : decode cL_law 745 = .ok (.iadd, 1) := dk_96 (dk_at dksL_law_24 0 rfl rfl)
theorem dL_law_746 : decode cL_law 746 = .ok (.iaload, 1) := dk_46 (dk_at dksL_law_24 1 rfl rfl)
theorem dL_law_747 : decode cL_law 747 = .ok (.aload_n 0, 1) := dk_42 (dk_at dksL_law_24 2 rfl rfl)
theorem dL_law_748 : decode cL_law 748 = .ok (.iload 4, 2) := dk_21 4 (dk_at dksL_law_24 3 rfl rfl)
theorem dL_law_750 : decode cL_law 750 = .ok (.iconst 2, 1) := dk_5 (dk_at dksL_law_24 5 rfl rfl)
theorem dL_law_751 : decode cL_law 751 = .ok (.iadd, 1) := dk_96 (dk_at dksL_law_24 6 rfl rfl)
theorem dL_law_752 : decode cL_law 752 = .ok (.iaload, 1) := dk_46 (dk_at dksL_law_24 7 rfl rfl)
theorem dL_law_753 : decode cL_law 753 = .ok (.invokevirtual 100, 3) := dk_182 0 100 (dk_at dksL_law_24 8 rfl rfl)
theorem dL_law_756 : decode cL_law 756 = .ok (.aload_n 2, 1) := dk_44 (dk_at dksL_law_24 11 rfl rfl)
theorem dL_law_757 : decode cL_law 757 = .ok (.aload_n 0, 1) := dk_42 (dk_at dksL_law_24 12 rfl rfl)
theorem dL_law_758 : decode cL_law 758 = .ok (.iload 4, 2) := dk_21 4 (dk_at dksL_law_24 13 rfl rfl)
theorem dL_law_760 : decode cL_law 760 = .ok (.iconst 1, 1) := dk_4 (dk_at dksL_law_24 15 rfl rfl)
theorem dL_law_761 : decode cL_law 761 = .ok (.iadd, 1) := dk_96 (dk_at dksL_law_24 16 rfl rfl)
theorem dL_law_762 : decode cL_law 762 = .ok (.iaload, 1) := dk_46 (dk_at dksL_law_24 17 rfl rfl)
theorem dL_law_763 : decode cL_law 763 = .ok (.aload_n 0, 1) := dk_42 (dk_at dksL_law_24 18 rfl rfl)
theorem dL_law_764 : decode cL_law 764 = .ok (.iload 4, 2) := dk_21 4 (dk_at dksL_law_24 19 rfl rfl)
theorem dL_law_766 : decode cL_law 766 = .ok (.iconst 2, 1) := dk_5 (dk_at dksL_law_24 21 rfl rfl)
theorem dL_law_767 : decode cL_law 767 = .ok (.iadd, 1) := dk_96 (dk_at dksL_law_24 22 rfl rfl)
theorem dL_law_768 : decode cL_law 768 = .ok (.iaload, 1) := dk_46 (dk_at dksL_law_24 23 rfl rfl)
theorem dL_law_769 : decode cL_law 769 = .ok (.invokevirtual 103, 3) := dk_182 0 103 (dk_at dksL_law_25 0 rfl rfl)
theorem dL_law_772 : decode cL_law 772 = .ok (.if_icmp .eq 906, 3) := dk_159 3 138 (dk_at dksL_law_25 3 rfl rfl)
theorem dL_law_775 : decode cL_law 775 = .ok (.iconst 0, 1) := dk_3 (dk_at dksL_law_25 6 rfl rfl)
theorem dL_law_776 : decode cL_law 776 = .ok (.ireturn, 1) := dk_172 (dk_at dksL_law_25 7 rfl rfl)
theorem dL_law_777 : decode cL_law 777 = .ok (.aload_n 1, 1) := dk_43 (dk_at dksL_law_25 8 rfl rfl)
theorem dL_law_778 : decode cL_law 778 = .ok (.aload_n 0, 1) := dk_42 (dk_at dksL_law_25 9 rfl rfl)
theorem dL_law_779 : decode cL_law 779 = .ok (.iload 4, 2) := dk_21 4 (dk_at dksL_law_25 10 rfl rfl)
theorem dL_law_781 : decode cL_law 781 = .ok (.iconst 1, 1) := dk_4 (dk_at dksL_law_25 12 rfl rfl)
theorem dL_law_782 : decode cL_law 782 = .ok (.iadd, 1) := dk_96 (dk_at dksL_law_25 13 rfl rfl)
theorem dL_law_783 : decode cL_law 783 = .ok (.iaload, 1) := dk_46 (dk_at dksL_law_25 14 rfl rfl)
theorem dL_law_784 : decode cL_law 784 = .ok (.invokevirtual 104, 3) := dk_182 0 104 (dk_at dksL_law_25 15 rfl rfl)
theorem dL_law_787 : decode cL_law 787 = .ok (.aload_n 2, 1) := dk_44 (dk_at dksL_law_25 18 rfl rfl)
theorem dL_law_788 : decode cL_law 788 = .ok (.aload_n 0, 1) := dk_42 (dk_at dksL_law_25 19 rfl rfl)
theorem dL_law_789 : decode cL_law 789 = .ok (.iload 4, 2) := dk_21 4 (dk_at dksL_law_25 20 rfl rfl)
theorem dL_law_791 : decode cL_law 791 = .ok (.iconst 1, 1) := dk_4 (dk_at dksL_law_25 22 rfl rfl)
theorem dL_law_792 : decode cL_law 792 = .ok (.iadd, 1) := dk_96 (dk_at dksL_law_25 23 rfl rfl)
theorem dL_law_793 : decode cL_law 793 = .ok (.iaload, 1) := dk_46 (dk_at dksL_law_26 0 rfl rfl)
theorem dL_law_794 : decode cL_law 794 = .ok (.invokevirtual 107, 3) := dk_182 0 107 (dk_at dksL_law_26 1 rfl rfl)
theorem dL_law_797 : decode cL_law 797 = .ok (.if_icmp .eq 881, 3) := dk_159 3 113 (dk_at dksL_law_26 4 rfl rfl)
theorem dL_law_800 : decode cL_law 800 = .ok (.iconst 0, 1) := dk_3 (dk_at dksL_law_26 7 rfl rfl)
theorem dL_law_801 : decode cL_law 801 = .ok (.ireturn, 1) := dk_172 (dk_at dksL_law_26 8 rfl rfl)
theorem dL_law_802 : decode cL_law 802 = .ok (.aload_n 1, 1) := dk_43 (dk_at dksL_law_26 9 rfl rfl)
theorem dL_law_803 : decode cL_law 803 = .ok (.aload_n 0, 1) := dk_42 (dk_at dksL_law_26 10 rfl rfl)
theorem dL_law_804 : decode cL_law 804 = .ok (.iload 4, 2) := dk_21 4 (dk_at dksL_law_26 11 rfl rfl)
theorem dL_law_806 : decode cL_law 806 = .ok (.iconst 1, 1) := dk_4 (dk_at dksL_law_26 13 rfl rfl)
theorem dL_law_807 : decode cL_law 807 = .ok (.iadd, 1) := dk_96 (dk_at dksL_law_26 14 rfl rfl)
theorem dL_law_808 : decode cL_law 808 = .ok (.iaload, 1) := dk_46 (dk_at dksL_law_26 15 rfl rfl)
theorem dL_law_809 : decode cL_law 809 = .ok (.invokevirtual 108, 3) := dk_182 0 108 (dk_at dksL_law_26 16 rfl rfl)
theorem dL_law_812 : decode cL_law 812 = .ok (.aload_n 2, 1) := dk_44 (dk_at dksL_law_26 19 rfl rfl)
theorem dL_law_813 : decode cL_law 813 = .ok (.aload_n 0, 1) := dk_42 (dk_at dksL_law_26 20 rfl rfl)
theorem dL_law_814 : decode cL_law 814 = .ok (.iload 4, 2) := dk_21 4 (dk_at dksL_law_26 21 rfl rfl)
theorem dL_law_816 : decode cL_law 816 = .ok (.iconst 1, 1) := dk_4 (dk_at dksL_law_26 23 rfl rfl)
theorem dL_law_817 : decode cL_law 817 = .ok (.iadd, 1) := dk_96 (dk_at dksL_law_27 0 rfl rfl)
theorem dL_law_818 : decode cL_law 818 = .ok (.iaload, 1) := dk_46 (dk_at dksL_law_27 1 rfl rfl)
theorem dL_law_819 : decode cL_law 819 = .ok (.invokevirtual 111, 3) := dk_182 0 111 (dk_at dksL_law_27 2 rfl rfl)
theorem dL_law_822 : decode cL_law 822 = .ok (.if_icmp .eq 856, 3) := dk_159 3 88 (dk_at dksL_law_27 5 rfl rfl)
theorem dL_law_825 : decode cL_law 825 = .ok (.iconst 0, 1) := dk_3 (dk_at dksL_law_27 8 rfl rfl)
theorem dL_law_826 : decode cL_law 826 = .ok (.ireturn, 1) := dk_172 (dk_at dksL_law_27 9 rfl rfl)
theorem dL_law_827 : decode cL_law 827 = .ok (.aload_n 1, 1) := dk_43 (dk_at dksL_law_27 10 rfl rfl)
theorem dL_law_828 : decode cL_law 828 = .ok (.aload_n 0, 1) := dk_42 (dk_at dksL_law_27 11 rfl rfl)
theorem dL_law_829 : decode cL_law 829 = .ok (.iload 4, 2) := dk_21 4 (dk_at dksL_law_27 12 rfl rfl)
theorem dL_law_831 : decode cL_law 831 = .ok (.iconst 1, 1) := dk_4 (dk_at dksL_law_27 14 rfl rfl)
theorem dL_law_832 : decode cL_law 832 = .ok (.iadd, 1) := dk_96 (dk_at dksL_law_27 15 rfl rfl)
theorem dL_law_833 : decode cL_law 833 = .ok (.iaload, 1) := dk_46 (dk_at dksL_law_27 16 rfl rfl)
theorem dL_law_834 : decode cL_law 834 = .ok (.invokevirtual 112, 3) := dk_182 0 112 (dk_at dksL_law_27 17 rfl rfl)
theorem dL_law_837 : decode cL_law 837 = .ok (.aload_n 2, 1) := dk_44 (dk_at dksL_law_27 20 rfl rfl)
theorem dL_law_838 : decode cL_law 838 = .ok (.aload_n 0, 1) := dk_42 (dk_at dksL_law_27 21 rfl rfl)
theorem dL_law_839 : decode cL_law 839 = .ok (.iload 4, 2) := dk_21 4 (dk_at dksL_law_27 22 rfl rfl)
theorem dL_law_841 : decode cL_law 841 = .ok (.iconst 1, 1) := dk_4 (dk_at dksL_law_28 0 rfl rfl)
theorem dL_law_842 : decode cL_law 842 = .ok (.iadd, 1) := dk_96 (dk_at dksL_law_28 1 rfl rfl)
theorem dL_law_843 : decode cL_law 843 = .ok (.iaload, 1) := dk_46 (dk_at dksL_law_28 2 rfl rfl)
theorem dL_law_844 : decode cL_law 844 = .ok (.invokevirtual 115, 3) := dk_182 0 115 (dk_at dksL_law_28 3 rfl rfl)
theorem dL_law_847 : decode cL_law 847 = .ok (.if_icmp .eq 831, 3) := dk_159 3 63 (dk_at dksL_law_28 6 rfl rfl)
theorem dL_law_850 : decode cL_law 850 = .ok (.iconst 0, 1) := dk_3 (dk_at dksL_law_28 9 rfl rfl)
theorem dL_law_851 : decode cL_law 851 = .ok (.ireturn, 1) := dk_172 (dk_at dksL_law_28 10 rfl rfl)
theorem dL_law_852 : decode cL_law 852 = .ok (.aload_n 1, 1) := dk_43 (dk_at dksL_law_28 11 rfl rfl)
theorem dL_law_853 : decode cL_law 853 = .ok (.aload_n 0, 1) := dk_42 (dk_at dksL_law_28 12 rfl rfl)
theorem dL_law_854 : decode cL_law 854 = .ok (.iload 4, 2) := dk_21 4 (dk_at dksL_law_28 13 rfl rfl)
theorem dL_law_856 : decode cL_law 856 = .ok (.iconst 1, 1) := dk_4 (dk_at dksL_law_28 15 rfl rfl)
theorem dL_law_857 : decode cL_law 857 = .ok (.iadd, 1) := dk_96 (dk_at dksL_law_28 16 rfl rfl)
theorem dL_law_858 : decode cL_law 858 = .ok (.iaload, 1) := dk_46 (dk_at dksL_law_28 17 rfl rfl)
theorem dL_law_859 : decode cL_law 859 = .ok (.invokevirtual 116, 3) := dk_182 0 116 (dk_at dksL_law_28 18 rfl rfl)
theorem dL_law_862 : decode cL_law 862 = .ok (.aload_n 2, 1) := dk_44 (dk_at dksL_law_28 21 rfl rfl)
theorem dL_law_863 : decode cL_law 863 = .ok (.aload_n 0, 1) := dk_42 (dk_at dksL_law_28 22 rfl rfl)
theorem dL_law_864 : decode cL_law 864 = .ok (.iload 4, 2) := dk_21 4 (dk_at dksL_law_29 0 rfl rfl)
theorem dL_law_866 : decode cL_law 866 = .ok (.iconst 1, 1) := dk_4 (dk_at dksL_law_29 2 rfl rfl)
theorem dL_law_867 : decode cL_law 867 = .ok (.iadd, 1) := dk_96 (dk_at dksL_law_29 3 rfl rfl)
theorem dL_law_868 : decode cL_law 868 = .ok (.iaload, 1) := dk_46 (dk_at dksL_law_29 4 rfl rfl)
theorem dL_law_869 : decode cL_law 869 = .ok (.invokevirtual 119, 3) := dk_182 0 119 (dk_at dksL_law_29 5 rfl rfl)
theorem dL_law_872 : decode cL_law 872 = .ok (.if_icmp .eq 806, 3) := dk_159 3 38 (dk_at dksL_law_29 8 rfl rfl)
theorem dL_law_875 : decode cL_law 875 = .ok (.iconst 0, 1) := dk_3 (dk_at dksL_law_29 11 rfl rfl)
theorem dL_law_876 : decode cL_law 876 = .ok (.ireturn, 1) := dk_172 (dk_at dksL_law_29 12 rfl rfl)
theorem dL_law_877 : decode cL_law 877 = .ok (.aload_n 1, 1) := dk_43 (dk_at dksL_law_29 13 rfl rfl)
theorem dL_law_878 : decode cL_law 878 = .ok (.aload_n 0, 1) := dk_42 (dk_at dksL_law_29 14 rfl rfl)
theorem dL_law_879 : decode cL_law 879 = .ok (.iload 4, 2) := dk_21 4 (dk_at dksL_law_29 15 rfl rfl)
theorem dL_law_881 : decode cL_law 881 = .ok (.iconst 1, 1) := dk_4 (dk_at dksL_law_29 17 rfl rfl)
theorem dL_law_882 : decode cL_law 882 = .ok (.iadd, 1) := dk_96 (dk_at dksL_law_29 18 rfl rfl)
theorem dL_law_883 : decode cL_law 883 = .ok (.iaload, 1) := dk_46 (dk_at dksL_law_29 19 rfl rfl)
theorem dL_law_884 : decode cL_law 884 = .ok (.aload_n 0, 1) := dk_42 (dk_at dksL_law_29 20 rfl rfl)
theorem dL_law_885 : decode cL_law 885 = .ok (.iload 4, 2) := dk_21 4 (dk_at dksL_law_29 21 rfl rfl)
theorem dL_law_887 : decode cL_law 887 = .ok (.iconst 2, 1) := dk_5 (dk_at dksL_law_29 23 rfl rfl)
theorem dL_law_888 : decode cL_law 888 = .ok (.iadd, 1) := dk_96 (dk_at dksL_law_30 0 rfl rfl)
theorem dL_law_889 : decode cL_law 889 = .ok (.iaload, 1) := dk_46 (dk_at dksL_law_30 1 rfl rfl)
theorem dL_law_890 : decode cL_law 890 = .ok (.invokevirtual 120, 3) := dk_182 0 120 (dk_at dksL_law_30 2 rfl rfl)
theorem dL_law_893 : decode cL_law 893 = .ok (.aload_n 2, 1) := dk_44 (dk_at dksL_law_30 5 rfl rfl)
theorem dL_law_894 : decode cL_law 894 = .ok (.aload_n 0, 1) := dk_42 (dk_at dksL_law_30 6 rfl rfl)
theorem dL_law_895 : decode cL_law 895 = .ok (.iload 4, 2) := dk_21 4 (dk_at dksL_law_30 7 rfl rfl)
theorem dL_law_897 : decode cL_law 897 = .ok (.iconst 1, 1) := dk_4 (dk_at dksL_law_30 9 rfl rfl)
theorem dL_law_898 : decode cL_law 898 = .ok (.iadd, 1) := dk_96 (dk_at dksL_law_30 10 rfl rfl)
theorem dL_law_899 : decode cL_law 899 = .ok (.iaload, 1) := dk_46 (dk_at dksL_law_30 11 rfl rfl)
theorem dL_law_900 : decode cL_law 900 = .ok (.aload_n 0, 1) := dk_42 (dk_at dksL_law_30 12 rfl rfl)
theorem dL_law_901 : decode cL_law 901 = .ok (.iload 4, 2) := dk_21 4 (dk_at dksL_law_30 13 rfl rfl)
theorem dL_law_903 : decode cL_law 903 = .ok (.iconst 2, 1) := dk_5 (dk_at dksL_law_30 15 rfl rfl)
theorem dL_law_904 : decode cL_law 904 = .ok (.iadd, 1) := dk_96 (dk_at dksL_law_30 16 rfl rfl)
theorem dL_law_905 : decode cL_law 905 = .ok (.iaload, 1) := dk_46 (dk_at dksL_law_30 17 rfl rfl)
theorem dL_law_906 : decode cL_law 906 = .ok (.invokevirtual 123, 3) := dk_182 0 123 (dk_at dksL_law_30 18 rfl rfl)
theorem dL_law_909 : decode cL_law 909 = .ok (.if_icmp .eq 769, 3) := dk_159 3 1 (dk_at dksL_law_30 21 rfl rfl)
theorem dL_law_912 : decode cL_law 912 = .ok (.iconst 0, 1) := dk_3 (dk_at dksL_law_31 0 rfl rfl)
theorem dL_law_913 : decode cL_law 913 = .ok (.ireturn, 1) := dk_172 (dk_at dksL_law_31 1 rfl rfl)
theorem dL_law_914 : decode cL_law 914 = .ok (.aload_n 1, 1) := dk_43 (dk_at dksL_law_31 2 rfl rfl)
theorem dL_law_915 : decode cL_law 915 = .ok (.aload_n 0, 1) := dk_42 (dk_at dksL_law_31 3 rfl rfl)
theorem dL_law_916 : decode cL_law 916 = .ok (.iload 4, 2) := dk_21 4 (dk_at dksL_law_31 4 rfl rfl)
theorem dL_law_918 : decode cL_law 918 = .ok (.iconst 1, 1) := dk_4 (dk_at dksL_law_31 6 rfl rfl)
theorem dL_law_919 : decode cL_law 919 = .ok (.iadd, 1) := dk_96 (dk_at dksL_law_31 7 rfl rfl)
theorem dL_law_920 : decode cL_law 920 = .ok (.iaload, 1) := dk_46 (dk_at dksL_law_31 8 rfl rfl)
theorem dL_law_921 : decode cL_law 921 = .ok (.invokevirtual 124, 3) := dk_182 0 124 (dk_at dksL_law_31 9 rfl rfl)
theorem dL_law_924 : decode cL_law 924 = .ok (.aload_n 2, 1) := dk_44 (dk_at dksL_law_31 12 rfl rfl)
theorem dL_law_925 : decode cL_law 925 = .ok (.aload_n 0, 1) := dk_42 (dk_at dksL_law_31 13 rfl rfl)
theorem dL_law_926 : decode cL_law 926 = .ok (.iload 4, 2) := dk_21 4 (dk_at dksL_law_31 14 rfl rfl)
theorem dL_law_928 : decode cL_law 928 = .ok (.iconst 1, 1) := dk_4 (dk_at dksL_law_31 16 rfl rfl)
theorem dL_law_929 : decode cL_law 929 = .ok (.iadd, 1) := dk_96 (dk_at dksL_law_31 17 rfl rfl)
theorem dL_law_930 : decode cL_law 930 = .ok (.iaload, 1) := dk_46 (dk_at dksL_law_31 18 rfl rfl)
theorem dL_law_931 : decode cL_law 931 = .ok (.invokevirtual 127, 3) := dk_182 0 127 (dk_at dksL_law_31 19 rfl rfl)
theorem dL_law_934 : decode cL_law 934 = .ok (.if_icmp .eq 744, 3) := dk_159 2 232 (dk_at dksL_law_32 0 rfl rfl)
theorem dL_law_937 : decode cL_law 937 = .ok (.iconst 0, 1) := dk_3 (dk_at dksL_law_32 3 rfl rfl)
theorem dL_law_938 : decode cL_law 938 = .ok (.ireturn, 1) := dk_172 (dk_at dksL_law_32 4 rfl rfl)
theorem dL_law_939 : decode cL_law 939 = .ok (.aload_n 1, 1) := dk_43 (dk_at dksL_law_32 5 rfl rfl)
theorem dL_law_940 : decode cL_law 940 = .ok (.aload_n 0, 1) := dk_42 (dk_at dksL_law_32 6 rfl rfl)
theorem dL_law_941 : decode cL_law 941 = .ok (.iload 4, 2) := dk_21 4 (dk_at dksL_law_32 7 rfl rfl)
theorem dL_law_943 : decode cL_law 943 = .ok (.iconst 1, 1) := dk_4 (dk_at dksL_law_32 9 rfl rfl)
theorem dL_law_944 : decode cL_law 944 = .ok (.iadd, 1) := dk_96 (dk_at dksL_law_32 10 rfl rfl)
theorem dL_law_945 : decode cL_law 945 = .ok (.iaload, 1) := dk_46 (dk_at dksL_law_32 11 rfl rfl)
theorem dL_law_946 : decode cL_law 946 = .ok (.aload_n 0, 1) := dk_42 (dk_at dksL_law_32 12 rfl rfl)
theorem dL_law_947 : decode cL_law 947 = .ok (.iload 4, 2) := dk_21 4 (dk_at dksL_law_32 13 rfl rfl)
theorem dL_law_949 : decode cL_law 949 = .ok (.iconst 2, 1) := dk_5 (dk_at dksL_law_32 15 rfl rfl)
theorem dL_law_950 : decode cL_law 950 = .ok (.iadd, 1) := dk_96 (dk_at dksL_law_32 16 rfl rfl)
theorem dL_law_951 : decode cL_law 951 = .ok (.iaload, 1) := dk_46 (dk_at dksL_law_32 17 rfl rfl)
theorem dL_law_952 : decode cL_law 952 = .ok (.aload_n 0, 1) := dk_42 (dk_at dksL_law_32 18 rfl rfl)
theorem dL_law_953 : decode cL_law 953 = .ok (.iload 4, 2) := dk_21 4 (dk_at dksL_law_32 19 rfl rfl)
theorem dL_law_955 : decode cL_law 955 = .ok (.iconst 3, 1) := dk_6 (dk_at dksL_law_32 21 rfl rfl)
theorem dL_law_956 : decode cL_law 956 = .ok (.iadd, 1) := dk_96 (dk_at dksL_law_32 22 rfl rfl)
theorem dL_law_957 : decode cL_law 957 = .ok (.iaload, 1) := dk_46 (dk_at dksL_law_32 23 rfl rfl)
theorem dL_law_958 : decode cL_law 958 = .ok (.invokevirtual 128, 3) := dk_182 0 128 (dk_at dksL_law_33 0 rfl rfl)
theorem dL_law_961 : decode cL_law 961 = .ok (.aload_n 2, 1) := dk_44 (dk_at dksL_law_33 3 rfl rfl)
theorem dL_law_962 : decode cL_law 962 = .ok (.aload_n 0, 1) := dk_42 (dk_at dksL_law_33 4 rfl rfl)
theorem dL_law_963 : decode cL_law 963 = .ok (.iload 4, 2) := dk_21 4 (dk_at dksL_law_33 5 rfl rfl)
theorem dL_law_965 : decode cL_law 965 = .ok (.iconst 1, 1) := dk_4 (dk_at dksL_law_33 7 rfl rfl)
theorem dL_law_966 : decode cL_law 966 = .ok (.iadd, 1) := dk_96 (dk_at dksL_law_33 8 rfl rfl)
theorem dL_law_967 : decode cL_law 967 = .ok (.iaload, 1) := dk_46 (dk_at dksL_law_33 9 rfl rfl)
theorem dL_law_968 : decode cL_law 968 = .ok (.aload_n 0, 1) := dk_42 (dk_at dksL_law_33 10 rfl rfl)
theorem dL_law_969 : decode cL_law 969 = .ok (.iload 4, 2) := dk_21 4 (dk_at dksL_law_33 11 rfl rfl)
theorem dL_law_971 : decode cL_law 971 = .ok (.iconst 2, 1) := dk_5 (dk_at dksL_law_33 13 rfl rfl)
theorem dL_law_972 : decode cL_law 972 = .ok (.iadd, 1) := dk_96 (dk_at dksL_law_33 14 rfl rfl)
theorem dL_law_973 : decode cL_law 973 = .ok (.iaload, 1) := dk_46 (dk_at dksL_law_33 15 rfl rfl)
theorem dL_law_974 : decode cL_law 974 = .ok (.aload_n 0, 1) := dk_42 (dk_at dksL_law_33 16 rfl rfl)
theorem dL_law_975 : decode cL_law 975 = .ok (.iload 4, 2) := dk_21 4 (dk_at dksL_law_33 17 rfl rfl)
theorem dL_law_977 : decode cL_law 977 = .ok (.iconst 3, 1) := dk_6 (dk_at dksL_law_33 19 rfl rfl)
theorem dL_law_978 : decode cL_law 978 = .ok (.iadd, 1) := dk_96 (dk_at dksL_law_33 20 rfl rfl)
theorem dL_law_979 : decode cL_law 979 = .ok (.iaload, 1) := dk_46 (dk_at dksL_law_33 21 rfl rfl)
theorem dL_law_980 : decode cL_law 980 = .ok (.invokevirtual 132, 3) := dk_182 0 132 (dk_at dksL_law_34 0 rfl rfl)
theorem dL_law_983 : decode cL_law 983 = .ok (.if_icmp .eq 695, 3) := dk_159 2 183 (dk_at dksL_law_34 3 rfl rfl)
theorem dL_law_986 : decode cL_law 986 = .ok (.iconst 0, 1) := dk_3 (dk_at dksL_law_34 6 rfl rfl)
theorem dL_law_987 : decode cL_law 987 = .ok (.ireturn, 1) := dk_172 (dk_at dksL_law_34 7 rfl rfl)
theorem dL_law_988 : decode cL_law 988 = .ok (.aload_n 1, 1) := dk_43 (dk_at dksL_law_34 8 rfl rfl)
theorem dL_law_989 : decode cL_law 989 = .ok (.aload_n 0, 1) := dk_42 (dk_at dksL_law_34 9 rfl rfl)
theorem dL_law_990 : decode cL_law 990 = .ok (.iload 4, 2) := dk_21 4 (dk_at dksL_law_34 10 rfl rfl)
theorem dL_law_992 : decode cL_law 992 = .ok (.iconst 1, 1) := dk_4 (dk_at dksL_law_34 12 rfl rfl)
theorem dL_law_993 : decode cL_law 993 = .ok (.iadd, 1) := dk_96 (dk_at dksL_law_34 13 rfl rfl)
theorem dL_law_994 : decode cL_law 994 = .ok (.iaload, 1) := dk_46 (dk_at dksL_law_34 14 rfl rfl)
theorem dL_law_995 : decode cL_law 995 = .ok (.aload_n 0, 1) := dk_42 (dk_at dksL_law_34 15 rfl rfl)
theorem dL_law_996 : decode cL_law 996 = .ok (.iload 4, 2) := dk_21 4 (dk_at dksL_law_34 16 rfl rfl)
theorem dL_law_998 : decode cL_law 998 = .ok (.iconst 2, 1) := dk_5 (dk_at dksL_law_34 18 rfl rfl)
theorem dL_law_999 : decode cL_law 999 = .ok (.iadd, 1) := dk_96 (dk_at dksL_law_34 19 rfl rfl)
theorem dL_law_1000 : decode cL_law 1000 = .ok (.iaload, 1) := dk_46 (dk_at dksL_law_34 20 rfl rfl)
theorem dL_law_1001 : decode cL_law 1001 = .ok (.invokevirtual 133, 3) := dk_182 0 133 (dk_at dksL_law_34 21 rfl rfl)
theorem dL_law_1004 : decode cL_law 1004 = .ok (.aload_n 2, 1) := dk_44 (dk_at dksL_law_35 0 rfl rfl)
theorem dL_law_1005 : decode cL_law 1005 = .ok (.aload_n 0, 1) := dk_42 (dk_at dksL_law_35 1 rfl rfl)
theorem dL_law_1006 : decode cL_law 1006 = .ok (.iload 4, 2) := dk_21 4 (dk_at dksL_law_35 2 rfl rfl)
theorem dL_law_1008 : decode cL_law 1008 = .ok (.iconst 1, 1) := dk_4 (dk_at dksL_law_35 4 rfl rfl)
theorem dL_law_1009 : decode cL_law 1009 = .ok (.iadd, 1) := dk_96 (dk_at dksL_law_35 5 rfl rfl)
theorem dL_law_1010 : decode cL_law 1010 = .ok (.iaload, 1) := dk_46 (dk_at dksL_law_35 6 rfl rfl)
theorem dL_law_1011 : decode cL_law 1011 = .ok (.aload_n 0, 1) := dk_42 (dk_at dksL_law_35 7 rfl rfl)
theorem dL_law_1012 : decode cL_law 1012 = .ok (.iload 4, 2) := dk_21 4 (dk_at dksL_law_35 8 rfl rfl)
theorem dL_law_1014 : decode cL_law 1014 = .ok (.iconst 2, 1) := dk_5 (dk_at dksL_law_35 10 rfl rfl)
theorem dL_law_1015 : decode cL_law 1015 = .ok (.iadd, 1) := dk_96 (dk_at dksL_law_35 11 rfl rfl)
theorem dL_law_1016 : decode cL_law 1016 = .ok (.iaload, 1) := dk_46 (dk_at dksL_law_35 12 rfl rfl)
theorem dL_law_1017 : decode cL_law 1017 = .ok (.invokevirtual 136, 3) := dk_182 0 136 (dk_at dksL_law_35 13 rfl rfl)
theorem dL_law_1020 : decode cL_law 1020 = .ok (.if_icmp .eq 658, 3) := dk_159 2 146 (dk_at dksL_law_35 16 rfl rfl)
theorem dL_law_1023 : decode cL_law 1023 = .ok (.iconst 0, 1) := dk_3 (dk_at dksL_law_35 19 rfl rfl)
theorem dL_law_1024 : decode cL_law 1024 = .ok (.ireturn, 1) := dk_172 (dk_at dksL_law_35 20 rfl rfl)
theorem dL_law_1025 : decode cL_law 1025 = .ok (.aload_n 1, 1) := dk_43 (dk_at dksL_law_35 21 rfl rfl)
theorem dL_law_1026 : decode cL_law 1026 = .ok (.aload_n 0, 1) := dk_42 (dk_at dksL_law_35 22 rfl rfl)
theorem dL_law_1027 : decode cL_law 1027 = .ok (.iload 4, 2) := dk_21 4 (dk_at dksL_law_36 0 rfl rfl)
theorem dL_law_1029 : decode cL_law 1029 = .ok (.iconst 1, 1) := dk_4 (dk_at dksL_law_36 2 rfl rfl)
theorem dL_law_1030 : decode cL_law 1030 = .ok (.iadd, 1) := dk_96 (dk_at dksL_law_36 3 rfl rfl)
theorem dL_law_1031 : decode cL_law 1031 = .ok (.iaload, 1) := dk_46 (dk_at dksL_law_36 4 rfl rfl)
theorem dL_law_1032 : decode cL_law 1032 = .ok (.aload_n 0, 1) := dk_42 (dk_at dksL_law_36 5 rfl rfl)
theorem dL_law_1033 : decode cL_law 1033 = .ok (.iload 4, 2) := dk_21 4 (dk_at dksL_law_36 6 rfl rfl)
theorem dL_law_1035 : decode cL_law 1035 = .ok (.iconst 2, 1) := dk_5 (dk_at dksL_law_36 8 rfl rfl)
theorem dL_law_1036 : decode cL_law 1036 = .ok (.iadd, 1) := dk_96 (dk_at dksL_law_36 9 rfl rfl)
theorem dL_law_1037 : decode cL_law 1037 = .ok (.iaload, 1) := dk_46 (dk_at dksL_law_36 10 rfl rfl)
theorem dL_law_1038 : decode cL_law 1038 = .ok (.invokevirtual 137, 3) := dk_182 0 137 (dk_at dksL_law_36 11 rfl rfl)
theorem dL_law_1041 : decode cL_law 1041 = .ok (.aload_n 2, 1) := dk_44 (dk_at dksL_law_36 14 rfl rfl)
theorem dL_law_1042 : decode cL_law 1042 = .ok (.aload_n 0, 1) := dk_42 (dk_at dksL_law_36 15 rfl rfl)
theorem dL_law_1043 : decode cL_law 1043 = .ok (.iload 4, 2) := dk_21 4 (dk_at dksL_law_36 16 rfl rfl)
theorem dL_law_1045 : decode cL_law 1045 = .ok (.iconst 1, 1) := dk_4 (dk_at dksL_law_36 18 rfl rfl)
theorem dL_law_1046 : decode cL_law 1046 = .ok (.iadd, 1) := dk_96 (dk_at dksL_law_36 19 rfl rfl)
theorem dL_law_1047 : decode cL_law 1047 = .ok (.iaload, 1) := dk_46 (dk_at dksL_law_36 20 rfl rfl)
theorem dL_law_1048 : decode cL_law 1048 = .ok (.aload_n 0, 1) := dk_42 (dk_at dksL_law_36 21 rfl rfl)
theorem dL_law_1049 : decode cL_law 1049 = .ok (.iload 4, 2) := dk_21 4 (dk_at dksL_law_36 22 rfl rfl)
theorem dL_law_1051 : decode cL_law 1051 = .ok (.iconst 2, 1) := dk_5 (dk_at dksL_law_37 0 rfl rfl)
theorem dL_law_1052 : decode cL_law 1052 = .ok (.iadd, 1) := dk_96 (dk_at dksL_law_37 1 rfl rfl)
theorem dL_law_1053 : decode cL_law 1053 = .ok (.iaload, 1) := dk_46 (dk_at dksL_law_37 2 rfl rfl)
theorem dL_law_1054 : decode cL_law 1054 = .ok (.invokevirtual 140, 3) := dk_182 0 140 (dk_at dksL_law_37 3 rfl rfl)
theorem dL_law_1057 : decode cL_law 1057 = .ok (.if_icmp .eq 621, 3) := dk_159 2 109 (dk_at dksL_law_37 6 rfl rfl)
theorem dL_law_1060 : decode cL_law 1060 = .ok (.iconst 0, 1) := dk_3 (dk_at dksL_law_37 9 rfl rfl)
theorem dL_law_1061 : decode cL_law 1061 = .ok (.ireturn, 1) := dk_172 (dk_at dksL_law_37 10 rfl rfl)
theorem dL_law_1062 : decode cL_law 1062 = .ok (.aload_n 1, 1) := dk_43 (dk_at dksL_law_37 11 rfl rfl)
theorem dL_law_1063 : decode cL_law 1063 = .ok (.aload_n 0, 1) := dk_42 (dk_at dksL_law_37 12 rfl rfl)
theorem dL_law_1064 : decode cL_law 1064 = .ok (.iload 4, 2) := dk_21 4 (dk_at dksL_law_37 13 rfl rfl)
theorem dL_law_1066 : decode cL_law 1066 = .ok (.iconst 1, 1) := dk_4 (dk_at dksL_law_37 15 rfl rfl)
theorem dL_law_1067 : decode cL_law 1067 = .ok (.iadd, 1) := dk_96 (dk_at dksL_law_37 16 rfl rfl)
theorem dL_law_1068 : decode cL_law 1068 = .ok (.iaload, 1) := dk_46 (dk_at dksL_law_37 17 rfl rfl)
theorem dL_law_1069 : decode cL_law 1069 = .ok (.aload_n 0, 1) := dk_42 (dk_at dksL_law_37 18 rfl rfl)
theorem dL_law_1070 : decode cL_law 1070 = .ok (.iload 4, 2) := dk_21 4 (dk_at dksL_law_37 19 rfl rfl)
theorem dL_law_1072 : decode cL_law 1072 = .ok (.iconst 2, 1) := dk_5 (dk_at dksL_law_37 21 rfl rfl)
theorem dL_law_1073 : decode cL_law 1073 = .ok (.iadd, 1) := dk_96 (dk_at dksL_law_37 22 rfl rfl)
theorem dL_law_1074 : decode cL_law 1074 = .ok (.iaload, 1) := dk_46 (dk_at dksL_law_37 23 rfl rfl)
theorem dL_law_1075 : decode cL_law 1075 = .ok (.invokevirtual 141, 3) := dk_182 0 141 (dk_at dksL_law_38 0 rfl rfl)
theorem dL_law_1078 : decode cL_law 1078 = .ok (.aload_n 2, 1) := dk_44 (dk_at dksL_law_38 3 rfl rfl)
theorem dL_law_1079 : decode cL_law 1079 = .ok (.aload_n 0, 1) := dk_42 (dk_at dksL_law_38 4 rfl rfl)
theorem dL_law_1080 : decode cL_law 1080 = .ok (.iload 4, 2) := dk_21 4 (dk_at dksL_law_38 5 rfl rfl)
theorem dL_law_1082 : decode cL_law 1082 = .ok (.iconst 1, 1) := dk_4 (dk_at dksL_law_38 7 rfl rfl)
theorem dL_law_1083 : decode cL_law 1083 = .ok (.iadd, 1) := dk_96 (dk_at dksL_law_38 8 rfl rfl)
theorem dL_law_1084 : decode cL_law 1084 = .ok (.iaload, 1) := dk_46 (dk_at dksL_law_38 9 rfl rfl)
theorem dL_law_1085 : decode cL_law 1085 = .ok (.aload_n 0, 1) := dk_42 (dk_at dksL_law_38 10 rfl rfl)
theorem dL_law_1086 : decode cL_law 1086 = .ok (.iload 4, 2) := dk_21 4 (dk_at dksL_law_38 11 rfl rfl)
theorem dL_law_1088 : decode cL_law 1088 = .ok (.iconst 2, 1) := dk_5 (dk_at dksL_law_38 13 rfl rfl)
theorem dL_law_1089 : decode cL_law 1089 = .ok (.iadd, 1) := dk_96 (dk_at dksL_law_38 14 rfl rfl)
theorem dL_law_1090 : decode cL_law 1090 = .ok (.iaload, 1) := dk_46 (dk_at dksL_law_38 15 rfl rfl)
theorem dL_law_1091 : decode cL_law 1091 = .ok (.invokevirtual 144, 3) := dk_182 0 144 (dk_at dksL_law_38 16 rfl rfl)
theorem dL_law_1094 : decode cL_law 1094 = .ok (.if_icmp .eq 584, 3) := dk_159 2 72 (dk_at dksL_law_38 19 rfl rfl)
theorem dL_law_1097 : decode cL_law 1097 = .ok (.iconst 0, 1) := dk_3 (dk_at dksL_law_38 22 rfl rfl)
theorem dL_law_1098 : decode cL_law 1098 = .ok (.ireturn, 1) := dk_172 (dk_at dksL_law_38 23 rfl rfl)
theorem dL_law_1099 : decode cL_law 1099 = .ok (.aload_n 1, 1) := dk_43 (dk_at dksL_law_39 0 rfl rfl)
theorem dL_law_1100 : decode cL_law 1100 = .ok (.aload_n 0, 1) := dk_42 (dk_at dksL_law_39 1 rfl rfl)
theorem dL_law_1101 : decode cL_law 1101 = .ok (.iload 4, 2) := dk_21 4 (dk_at dksL_law_39 2 rfl rfl)
theorem dL_law_1103 : decode cL_law 1103 = .ok (.iconst 1, 1) := dk_4 (dk_at dksL_law_39 4 rfl rfl)
theorem dL_law_1104 : decode cL_law 1104 = .ok (.iadd, 1) := dk_96 (dk_at dksL_law_39 5 rfl rfl)
theorem dL_law_1105 : decode cL_law 1105 = .ok (.iaload, 1) := dk_46 (dk_at dksL_law_39 6 rfl rfl)
theorem dL_law_1106 : decode cL_law 1106 = .ok (.aload_n 0, 1) := dk_42 (dk_at dksL_law_39 7 rfl rfl)
theorem dL_law_1107 : decode cL_law 1107 = .ok (.iload 4, 2) := dk_21 4 (dk_at dksL_law_39 8 rfl rfl)
theorem dL_law_1109 : decode cL_law 1109 = .ok (.iconst 2, 1) := dk_5 (dk_at dksL_law_39 10 rfl rfl)
theorem dL_law_1110 : decode cL_law 1110 = .ok (.iadd, 1) := dk_96 (dk_at dksL_law_39 11 rfl rfl)
theorem dL_law_1111 : decode cL_law 1111 = .ok (.iaload, 1) := dk_46 (dk_at dksL_law_39 12 rfl rfl)
theorem dL_law_1112 : decode cL_law 1112 = .ok (.aload_n 0, 1) := dk_42 (dk_at dksL_law_39 13 rfl rfl)
theorem dL_law_1113 : decode cL_law 1113 = .ok (.iload 4, 2) := dk_21 4 (dk_at dksL_law_39 14 rfl rfl)
theorem dL_law_1115 : decode cL_law 1115 = .ok (.iconst 3, 1) := dk_6 (dk_at dksL_law_39 16 rfl rfl)
theorem dL_law_1116 : decode cL_law 1116 = .ok (.iadd, 1) := dk_96 (dk_at dksL_law_39 17 rfl rfl)
theorem dL_law_1117 : decode cL_law 1117 = .ok (.iaload, 1) := dk_46 (dk_at dksL_law_39 18 rfl rfl)
theorem dL_law_1118 : decode cL_law 1118 = .ok (.invokevirtual 145, 3) := dk_182 0 145 (dk_at dksL_law_39 19 rfl rfl)
theorem dL_law_1121 : decode cL_law 1121 = .ok (.aload_n 2, 1) := dk_44 (dk_at dksL_law_39 22 rfl rfl)
theorem dL_law_1122 : decode cL_law 1122 = .ok (.aload_n 0, 1) := dk_42 (dk_at dksL_law_39 23 rfl rfl)
theorem dL_law_1123 : decode cL_law 1123 = .ok (.iload 4, 2) := dk_21 4 (dk_at dksL_law_40 0 rfl rfl)
theorem dL_law_1125 : decode cL_law 1125 = .ok (.iconst 1, 1) := dk_4 (dk_at dksL_law_40 2 rfl rfl)
theorem dL_law_1126 : decode cL_law 1126 = .ok (.iadd, 1) := dk_96 (dk_at dksL_law_40 3 rfl rfl)
theorem dL_law_1127 : decode cL_law 1127 = .ok (.iaload, 1) := dk_46 (dk_at dksL_law_40 4 rfl rfl)
theorem dL_law_1128 : decode cL_law 1128 = .ok (.aload_n 0, 1) := dk_42 (dk_at dksL_law_40 5 rfl rfl)
theorem dL_law_1129 : decode cL_law 1129 = .ok (.iload 4, 2) := dk_21 4 (dk_at dksL_law_40 6 rfl rfl)
theorem dL_law_1131 : decode cL_law 1131 = .ok (.iconst 2, 1) := dk_5 (dk_at dksL_law_40 8 rfl rfl)
theorem dL_law_1132 : decode cL_law 1132 = .ok (.iadd, 1) := dk_96 (dk_at dksL_law_40 9 rfl rfl)
theorem dL_law_1133 : decode cL_law 1133 = .ok (.iaload, 1) := dk_46 (dk_at dksL_law_40 10 rfl rfl)
theorem dL_law_1134 : decode cL_law 1134 = .ok (.aload_n 0, 1) := dk_42 (dk_at dksL_law_40 11 rfl rfl)
theorem dL_law_1135 : decode cL_law 1135 = .ok (.iload 4, 2) := dk_21 4 (dk_at dksL_law_40 12 rfl rfl)
theorem dL_law_1137 : decode cL_law 1137 = .ok (.iconst 3, 1) := dk_6 (dk_at dksL_law_40 14 rfl rfl)
theorem dL_law_1138 : decode cL_law 1138 = .ok (.iadd, 1) := dk_96 (dk_at dksL_law_40 15 rfl rfl)
theorem dL_law_1139 : decode cL_law 1139 = .ok (.iaload, 1) := dk_46 (dk_at dksL_law_40 16 rfl rfl)
theorem dL_law_1140 : decode cL_law 1140 = .ok (.invokevirtual 148, 3) := dk_182 0 148 (dk_at dksL_law_40 17 rfl rfl)
theorem dL_law_1143 : decode cL_law 1143 = .ok (.if_icmp .eq 535, 3) := dk_159 2 23 (dk_at dksL_law_40 20 rfl rfl)
theorem dL_law_1146 : decode cL_law 1146 = .ok (.iconst 0, 1) := dk_3 (dk_at dksL_law_40 23 rfl rfl)
theorem dL_law_1147 : decode cL_law 1147 = .ok (.ireturn, 1) := dk_172 (dk_at dksL_law_41 0 rfl rfl)
theorem dL_law_1148 : decode cL_law 1148 = .ok (.aload_n 1, 1) := dk_43 (dk_at dksL_law_41 1 rfl rfl)
theorem dL_law_1149 : decode cL_law 1149 = .ok (.aload_n 0, 1) := dk_42 (dk_at dksL_law_41 2 rfl rfl)
theorem dL_law_1150 : decode cL_law 1150 = .ok (.iload 4, 2) := dk_21 4 (dk_at dksL_law_41 3 rfl rfl)
theorem dL_law_1152 : decode cL_law 1152 = .ok (.iconst 1, 1) := dk_4 (dk_at dksL_law_41 5 rfl rfl)
theorem dL_law_1153 : decode cL_law 1153 = .ok (.iadd, 1) := dk_96 (dk_at dksL_law_41 6 rfl rfl)
theorem dL_law_1154 : decode cL_law 1154 = .ok (.iaload, 1) := dk_46 (dk_at dksL_law_41 7 rfl rfl)
theorem dL_law_1155 : decode cL_law 1155 = .ok (.invokevirtual 149, 3) := dk_182 0 149 (dk_at dksL_law_41 8 rfl rfl)
theorem dL_law_1158 : decode cL_law 1158 = .ok (.aload_n 2, 1) := dk_44 (dk_at dksL_law_41 11 rfl rfl)
theorem dL_law_1159 : decode cL_law 1159 = .ok (.aload_n 0, 1) := dk_42 (dk_at dksL_law_41 12 rfl rfl)
theorem dL_law_1160 : decode cL_law 1160 = .ok (.iload 4, 2) := dk_21 4 (dk_at dksL_law_41 13 rfl rfl)
theorem dL_law_1162 : decode cL_law 1162 = .ok (.iconst 1, 1) := dk_4 (dk_at dksL_law_41 15 rfl rfl)
theorem dL_law_1163 : decode cL_law 1163 = .ok (.iadd, 1) := dk_96 (dk_at dksL_law_41 16 rfl rfl)
theorem dL_law_1164 : decode cL_law 1164 = .ok (.iaload, 1) := dk_46 (dk_at dksL_law_41 17 rfl rfl)
theorem dL_law_1165 : decode cL_law 1165 = .ok (.invokevirtual 152, 3) := dk_182 0 152 (dk_at dksL_law_41 18 rfl rfl)
theorem dL_law_1168 : decode cL_law 1168 = .ok (.if_icmp .eq 510, 3) := dk_159 1 254 (dk_at dksL_law_41 21 rfl rfl)
theorem dL_law_1171 : decode cL_law 1171 = .ok (.iconst 0, 1) := dk_3 (dk_at dksL_law_42 0 rfl rfl)
theorem dL_law_1172 : decode cL_law 1172 = .ok (.ireturn, 1) := dk_172 (dk_at dksL_law_42 1 rfl rfl)
theorem dL_law_1173 : decode cL_law 1173 = .ok (.aload_n 1, 1) := dk_43 (dk_at dksL_law_42 2 rfl rfl)
theorem dL_law_1174 : decode cL_law 1174 = .ok (.aload_n 0, 1) := dk_42 (dk_at dksL_law_42 3 rfl rfl)
theorem dL_law_1175 : decode cL_law 1175 = .ok (.iload 4, 2) := dk_21 4 (dk_at dksL_law_42 4 rfl rfl)
theorem dL_law_1177 : decode cL_law 1177 = .ok (.iconst 1, 1) := dk_4 (dk_at dksL_law_42 6 rfl rfl)
theorem dL_law_1178 : decode cL_law 1178 = .ok (.iadd, 1) := dk_96 (dk_at dksL_law_42 7 rfl rfl)
theorem dL_law_1179 : decode cL_law 1179 = .ok (.iaload, 1) := dk_46 (dk_at dksL_law_42 8 rfl rfl)
theorem dL_law_1180 : decode cL_law 1180 = .ok (.aload_n 0, 1) := dk_42 (dk_at dksL_law_42 9 rfl rfl)
theorem dL_law_1181 : decode cL_law 1181 = .ok (.iload 4, 2) := dk_21 4 (dk_at dksL_law_42 10 rfl rfl)
theorem dL_law_1183 : decode cL_law 1183 = .ok (.iconst 2, 1) := dk_5 (dk_at dksL_law_42 12 rfl rfl)
theorem dL_law_1184 : decode cL_law 1184 = .ok (.iadd, 1) := dk_96 (dk_at dksL_law_42 13 rfl rfl)
theorem dL_law_1185 : decode cL_law 1185 = .ok (.iaload, 1) := dk_46 (dk_at dksL_law_42 14 rfl rfl)
theorem dL_law_1186 : decode cL_law 1186 = .ok (.aload_n 0, 1) := dk_42 (dk_at dksL_law_42 15 rfl rfl)
theorem dL_law_1187 : decode cL_law 1187 = .ok (.iload 4, 2) := dk_21 4 (dk_at dksL_law_42 16 rfl rfl)
theorem dL_law_1189 : decode cL_law 1189 = .ok (.iconst 3, 1) := dk_6 (dk_at dksL_law_42 18 rfl rfl)
theorem dL_law_1190 : decode cL_law 1190 = .ok (.iadd, 1) := dk_96 (dk_at dksL_law_42 19 rfl rfl)
theorem dL_law_1191 : decode cL_law 1191 = .ok (.iaload, 1) := dk_46 (dk_at dksL_law_42 20 rfl rfl)
theorem dL_law_1192 : decode cL_law 1192 = .ok (.invokevirtual 153, 3) := dk_182 0 153 (dk_at dksL_law_42 21 rfl rfl)
theorem dL_law_1195 : decode cL_law 1195 = .ok (.aload_n 2, 1) := dk_44 (dk_at dksL_law_43 0 rfl rfl)
theorem dL_law_1196 : decode cL_law 1196 = .ok (.aload_n 0, 1) := dk_42 (dk_at dksL_law_43 1 rfl rfl)
theorem dL_law_1197 : decode cL_law 1197 = .ok (.iload 4, 2) := dk_21 4 (dk_at dksL_law_43 2 rfl rfl)
theorem dL_law_1199 : decode cL_law 1199 = .ok (.iconst 1, 1) := dk_4 (dk_at dksL_law_43 4 rfl rfl)
theorem dL_law_1200 : decode cL_law 1200 = .ok (.iadd, 1) := dk_96 (dk_at dksL_law_43 5 rfl rfl)
theorem dL_law_1201 : decode cL_law 1201 = .ok (.iaload, 1) := dk_46 (dk_at dksL_law_43 6 rfl rfl)
theorem dL_law_1202 : decode cL_law 1202 = .ok (.aload_n 0, 1) := dk_42 (dk_at dksL_law_43 7 rfl rfl)
theorem dL_law_1203 : decode cL_law 1203 = .ok (.iload 4, 2) := dk_21 4 (dk_at dksL_law_43 8 rfl rfl)
theorem dL_law_1205 : decode cL_law 1205 = .ok (.iconst 2, 1) := dk_5 (dk_at dksL_law_43 10 rfl rfl)
theorem dL_law_1206 : decode cL_law 1206 = .ok (.iadd, 1) := dk_96 (dk_at dksL_law_43 11 rfl rfl)
theorem dL_law_1207 : decode cL_law 1207 = .ok (.iaload, 1) := dk_46 (dk_at dksL_law_43 12 rfl rfl)
theorem dL_law_1208 : decode cL_law 1208 = .ok (.aload_n 0, 1) := dk_42 (dk_at dksL_law_43 13 rfl rfl)
theorem dL_law_1209 : decode cL_law 1209 = .ok (.iload 4, 2) := dk_21 4 (dk_at dksL_law_43 14 rfl rfl)
theorem dL_law_1211 : decode cL_law 1211 = .ok (.iconst 3, 1) := dk_6 (dk_at dksL_law_43 16 rfl rfl)
theorem dL_law_1212 : decode cL_law 1212 = .ok (.iadd, 1) := dk_96 (dk_at dksL_law_43 17 rfl rfl)
theorem dL_law_1213 : decode cL_law 1213 = .ok (.iaload, 1) := dk_46 (dk_at dksL_law_43 18 rfl rfl)
theorem dL_law_1214 : decode cL_law 1214 = .ok (.invokevirtual 156, 3) := dk_182 0 156 (dk_at dksL_law_43 19 rfl rfl)
theorem dL_law_1217 : decode cL_law 1217 = .ok (.if_icmp .eq 461, 3) := dk_159 1 205 (dk_at dksL_law_44 0 rfl rfl)
theorem dL_law_1220 : decode cL_law 1220 = .ok (.iconst 0, 1) := dk_3 (dk_at dksL_law_44 3 rfl rfl)
theorem dL_law_1221 : decode cL_law 1221 = .ok (.ireturn, 1) := dk_172 (dk_at dksL_law_44 4 rfl rfl)
theorem dL_law_1222 : decode cL_law 1222 = .ok (.aload_n 1, 1) := dk_43 (dk_at dksL_law_44 5 rfl rfl)
theorem dL_law_1223 : decode cL_law 1223 = .ok (.invokevirtual 157, 3) := dk_182 0 157 (dk_at dksL_law_44 6 rfl rfl)
theorem dL_law_1226 : decode cL_law 1226 = .ok (.aload_n 2, 1) := dk_44 (dk_at dksL_law_44 9 rfl rfl)
theorem dL_law_1227 : decode cL_law 1227 = .ok (.invokevirtual 160, 3) := dk_182 0 160 (dk_at dksL_law_44 10 rfl rfl)
theorem dL_law_1230 : decode cL_law 1230 = .ok (.if_icmp .eq 448, 3) := dk_159 1 192 (dk_at dksL_law_44 13 rfl rfl)
theorem dL_law_1233 : decode cL_law 1233 = .ok (.iconst 0, 1) := dk_3 (dk_at dksL_law_44 16 rfl rfl)
theorem dL_law_1234 : decode cL_law 1234 = .ok (.ireturn, 1) := dk_172 (dk_at dksL_law_44 17 rfl rfl)
theorem dL_law_1235 : decode cL_law 1235 = .ok (.aload_n 1, 1) := dk_43 (dk_at dksL_law_44 18 rfl rfl)
theorem dL_law_1236 : decode cL_law 1236 = .ok (.invokevirtual 161, 3) := dk_182 0 161 (dk_at dksL_law_44 19 rfl rfl)
theorem dL_law_1239 : decode cL_law 1239 = .ok (.aload_n 2, 1) := dk_44 (dk_at dksL_law_44 22 rfl rfl)
theorem dL_law_1240 : decode cL_law 1240 = .ok (.invokevirtual 164, 3) := dk_182 0 164 (dk_at dksL_law_45 0 rfl rfl)
theorem dL_law_1243 : decode cL_law 1243 = .ok (.if_icmp .eq 435, 3) := dk_159 1 179 (dk_at dksL_law_45 3 rfl rfl)
theorem dL_law_1246 : decode cL_law 1246 = .ok (.iconst 0, 1) := dk_3 (dk_at dksL_law_45 6 rfl rfl)
theorem dL_law_1247 : decode cL_law 1247 = .ok (.ireturn, 1) := dk_172 (dk_at dksL_law_45 7 rfl rfl)
theorem dL_law_1248 : decode cL_law 1248 = .ok (.aload_n 1, 1) := dk_43 (dk_at dksL_law_45 8 rfl rfl)
theorem dL_law_1249 : decode cL_law 1249 = .ok (.invokevirtual 165, 3) := dk_182 0 165 (dk_at dksL_law_45 9 rfl rfl)
theorem dL_law_1252 : decode cL_law 1252 = .ok (.aload_n 2, 1) := dk_44 (dk_at dksL_law_45 12 rfl rfl)
theorem dL_law_1253 : decode cL_law 1253 = .ok (.invokevirtual 168, 3) := dk_182 0 168 (dk_at dksL_law_45 13 rfl rfl)
theorem dL_law_1256 : decode cL_law 1256 = .ok (.if_icmp .eq 422, 3) := dk_159 1 166 (dk_at dksL_law_45 16 rfl rfl)
theorem dL_law_1259 : decode cL_law 1259 = .ok (.iconst 0, 1) := dk_3 (dk_at dksL_law_45 19 rfl rfl)
theorem dL_law_1260 : decode cL_law 1260 = .ok (.ireturn, 1) := dk_172 (dk_at dksL_law_45 20 rfl rfl)
theorem dL_law_1261 : decode cL_law 1261 = .ok (.aload_n 1, 1) := dk_43 (dk_at dksL_law_45 21 rfl rfl)
theorem dL_law_1262 : decode cL_law 1262 = .ok (.aload_n 0, 1) := dk_42 (dk_at dksL_law_45 22 rfl rfl)
theorem dL_law_1263 : decode cL_law 1263 = .ok (.iload 4, 2) := dk_21 4 (dk_at dksL_law_46 0 rfl rfl)
theorem dL_law_1265 : decode cL_law 1265 = .ok (.iconst 1, 1) := dk_4 (dk_at dksL_law_46 2 rfl rfl)
theorem dL_law_1266 : decode cL_law 1266 = .ok (.iadd, 1) := dk_96 (dk_at dksL_law_46 3 rfl rfl)
theorem dL_law_1267 : decode cL_law 1267 = .ok (.iaload, 1) := dk_46 (dk_at dksL_law_46 4 rfl rfl)
theorem dL_law_1268 : decode cL_law 1268 = .ok (.invokevirtual 169, 3) := dk_182 0 169 (dk_at dksL_law_46 5 rfl rfl)
theorem dL_law_1271 : decode cL_law 1271 = .ok (.aload_n 2, 1) := dk_44 (dk_at dksL_law_46 8 rfl rfl)
theorem dL_law_1272 : decode cL_law 1272 = .ok (.aload_n 0, 1) := dk_42 (dk_at dksL_law_46 9 rfl rfl)
theorem dL_law_1273 : decode cL_law 1273 = .ok (.iload 4, 2) := dk_21 4 (dk_at dksL_law_46 10 rfl rfl)
theorem dL_law_1275 : decode cL_law 1275 = .ok (.iconst 1, 1) := dk_4 (dk_at dksL_law_46 12 rfl rfl)
theorem dL_law_1276 : decode cL_law 1276 = .ok (.iadd, 1) := dk_96 (dk_at dksL_law_46 13 rfl rfl)
theorem dL_law_1277 : decode cL_law 1277 = .ok (.iaload, 1) := dk_46 (dk_at dksL_law_46 14 rfl rfl)
theorem dL_law_1278 : decode cL_law 1278 = .ok (.invokevirtual 172, 3) := dk_182 0 172 (dk_at dksL_law_46 15 rfl rfl)
theorem dL_law_1281 : decode cL_law 1281 = .ok (.if_icmp .eq 397, 3) := dk_159 1 141 (dk_at dksL_law_46 18 rfl rfl)
theorem dL_law_1284 : decode cL_law 1284 = .ok (.iconst 0, 1) := dk_3 (dk_at dksL_law_46 21 rfl rfl)
theorem dL_law_1285 : decode cL_law 1285 = .ok (.ireturn, 1) := dk_172 (dk_at dksL_law_46 22 rfl rfl)
theorem dL_law_1286 : decode cL_law 1286 = .ok (.aload_n 1, 1) := dk_43 (dk_at dksL_law_46 23 rfl rfl)
theorem dL_law_1287 : decode cL_law 1287 = .ok (.aload_n 0, 1) := dk_42 (dk_at dksL_law_47 0 rfl rfl)
theorem dL_law_1288 : decode cL_law 1288 = .ok (.iload 4, 2) := dk_21 4 (dk_at dksL_law_47 1 rfl rfl)
theorem dL_law_1290 : decode cL_law 1290 = .ok (.iconst 1, 1) := dk_4 (dk_at dksL_law_47 3 rfl rfl)
theorem dL_law_1291 : decode cL_law 1291 = .ok (.iadd, 1) := dk_96 (dk_at dksL_law_47 4 rfl rfl)
theorem dL_law_1292 : decode cL_law 1292 = .ok (.iaload, 1) := dk_46 (dk_at dksL_law_47 5 rfl rfl)
theorem dL_law_1293 : decode cL_law 1293 = .ok (.invokevirtual 173, 3) := dk_182 0 173 (dk_at dksL_law_47 6 rfl rfl)
theorem dL_law_1296 : decode cL_law 1296 = .ok (.aload_n 2, 1) := dk_44 (dk_at dksL_law_47 9 rfl rfl)
theorem dL_law_1297 : decode cL_law 1297 = .ok (.aload_n 0, 1) := dk_42 (dk_at dksL_law_47 10 rfl rfl)
theorem dL_law_1298 : decode cL_law 1298 = .ok (.iload 4, 2) := dk_21 4 (dk_at dksL_law_47 11 rfl rfl)
theorem dL_law_1300 : decode cL_law 1300 = .ok (.iconst 1, 1) := dk_4 (dk_at dksL_law_47 13 rfl rfl)
theorem dL_law_1301 : decode cL_law 1301 = .ok (.iadd, 1) := dk_96 (dk_at dksL_law_47 14 rfl rfl)
theorem dL_law_1302 : decode cL_law 1302 = .ok (.iaload, 1) := dk_46 (dk_at dksL_law_47 15 rfl rfl)
theorem dL_law_1303 : decode cL_law 1303 = .ok (.invokevirtual 176, 3) := dk_182 0 176 (dk_at dksL_law_47 16 rfl rfl)
theorem dL_law_1306 : decode cL_law 1306 = .ok (.if_icmp .eq 372, 3) := dk_159 1 116 (dk_at dksL_law_47 19 rfl rfl)
theorem dL_law_1309 : decode cL_law 1309 = .ok (.iconst 0, 1) := dk_3 (dk_at dksL_law_47 22 rfl rfl)
theorem dL_law_1310 : decode cL_law 1310 = .ok (.ireturn, 1) := dk_172 (dk_at dksL_law_47 23 rfl rfl)
theorem dL_law_1311 : decode cL_law 1311 = .ok (.aload_n 1, 1) := dk_43 (dk_at dksL_law_48 0 rfl rfl)
theorem dL_law_1312 : decode cL_law 1312 = .ok (.aload_n 0, 1) := dk_42 (dk_at dksL_law_48 1 rfl rfl)
theorem dL_law_1313 : decode cL_law 1313 = .ok (.iload 4, 2) := dk_21 4 (dk_at dksL_law_48 2 rfl rfl)
theorem dL_law_1315 : decode cL_law 1315 = .ok (.iconst 1, 1) := dk_4 (dk_at dksL_law_48 4 rfl rfl)
theorem dL_law_1316 : decode cL_law 1316 = .ok (.iadd, 1) := dk_96 (dk_at dksL_law_48 5 rfl rfl)
theorem dL_law_1317 : decode cL_law 1317 = .ok (.iaload, 1) := dk_46 (dk_at dksL_law_48 6 rfl rfl)
theorem dL_law_1318 : decode cL_law 1318 = .ok (.invokevirtual 177, 3) := dk_182 0 177 (dk_at dksL_law_48 7 rfl rfl)
theorem dL_law_1321 : decode cL_law 1321 = .ok (.aload_n 2, 1) := dk_44 (dk_at dksL_law_48 10 rfl rfl)
theorem dL_law_1322 : decode cL_law 1322 = .ok (.aload_n 0, 1) := dk_42 (dk_at dksL_law_48 11 rfl rfl)
theorem dL_law_1323 : decode cL_law 1323 = .ok (.iload 4, 2) := dk_21 4 (dk_at dksL_law_48 12 rfl rfl)
theorem dL_law_1325 : decode cL_law 1325 = .ok (.iconst 1, 1) := dk_4 (dk_at dksL_law_48 14 rfl rfl)
theorem dL_law_1326 : decode cL_law 1326 = .ok (.iadd, 1) := dk_96 (dk_at dksL_law_48 15 rfl rfl)
theorem dL_law_1327 : decode cL_law 1327 = .ok (.iaload, 1) := dk_46 (dk_at dksL_law_48 16 rfl rfl)
theorem dL_law_1328 : decode cL_law 1328 = .ok (.invokevirtual 180, 3) := dk_182 0 180 (dk_at dksL_law_48 17 rfl rfl)
theorem dL_law_1331 : decode cL_law 1331 = .ok (.if_icmp .eq 347, 3) := dk_159 1 91 (dk_at dksL_law_48 20 rfl rfl)
theorem dL_law_1334 : decode cL_law 1334 = .ok (.iconst 0, 1) := dk_3 (dk_at dksL_law_48 23 rfl rfl)
theorem dL_law_1335 : decode cL_law 1335 = .ok (.ireturn, 1) := dk_172 (dk_at dksL_law_49 0 rfl rfl)
theorem dL_law_1336 : decode cL_law 1336 = .ok (.aload_n 1, 1) := dk_43 (dk_at dksL_law_49 1 rfl rfl)
theorem dL_law_1337 : decode cL_law 1337 = .ok (.invokevirtual 181, 3) := dk_182 0 181 (dk_at dksL_law_49 2 rfl rfl)
theorem dL_law_1340 : decode cL_law 1340 = .ok (.aload_n 2, 1) := dk_44 (dk_at dksL_law_49 5 rfl rfl)
theorem dL_law_1341 : decode cL_law 1341 = .ok (.invokevirtual 184, 3) := dk_182 0 184 (dk_at dksL_law_49 6 rfl rfl)
theorem dL_law_1344 : decode cL_law 1344 = .ok (.if_icmp .eq 334, 3) := dk_159 1 78 (dk_at dksL_law_49 9 rfl rfl)
theorem dL_law_1347 : decode cL_law 1347 = .ok (.iconst 0, 1) := dk_3 (dk_at dksL_law_49 12 rfl rfl)
theorem dL_law_1348 : decode cL_law 1348 = .ok (.ireturn, 1) := dk_172 (dk_at dksL_law_49 13 rfl rfl)
theorem dL_law_1349 : decode cL_law 1349 = .ok (.aload_n 1, 1) := dk_43 (dk_at dksL_law_49 14 rfl rfl)
theorem dL_law_1350 : decode cL_law 1350 = .ok (.invokevirtual 185, 3) := dk_182 0 185 (dk_at dksL_law_49 15 rfl rfl)
theorem dL_law_1353 : decode cL_law 1353 = .ok (.aload_n 2, 1) := dk_44 (dk_at dksL_law_49 18 rfl rfl)
theorem dL_law_1354 : decode cL_law 1354 = .ok (.invokevirtual 188, 3) := dk_182 0 188 (dk_at dksL_law_49 19 rfl rfl)
theorem dL_law_1357 : decode cL_law 1357 = .ok (.if_icmp .eq 321, 3) := dk_159 1 65 (dk_at dksL_law_50 0 rfl rfl)
theorem dL_law_1360 : decode cL_law 1360 = .ok (.iconst 0, 1) := dk_3 (dk_at dksL_law_50 3 rfl rfl)
theorem dL_law_1361 : decode cL_law 1361 = .ok (.ireturn, 1) := dk_172 (dk_at dksL_law_50 4 rfl rfl)
theorem dL_law_1362 : decode cL_law 1362 = .ok (.aload_n 1, 1) := dk_43 (dk_at dksL_law_50 5 rfl rfl)
theorem dL_law_1363 : decode cL_law 1363 = .ok (.invokevirtual 189, 3) := dk_182 0 189 (dk_at dksL_law_50 6 rfl rfl)
theorem dL_law_1366 : decode cL_law 1366 = .ok (.aload_n 2, 1) := dk_44 (dk_at dksL_law_50 9 rfl rfl)
theorem dL_law_1367 : decode cL_law 1367 = .ok (.invokevirtual 192, 3) := dk_182 0 192 (dk_at dksL_law_50 10 rfl rfl)
theorem dL_law_1370 : decode cL_law 1370 = .ok (.if_icmp .eq 308, 3) := dk_159 1 52 (dk_at dksL_law_50 13 rfl rfl)
theorem dL_law_1373 : decode cL_law 1373 = .ok (.iconst 0, 1) := dk_3 (dk_at dksL_law_50 16 rfl rfl)
theorem dL_law_1374 : decode cL_law 1374 = .ok (.ireturn, 1) := dk_172 (dk_at dksL_law_50 17 rfl rfl)
theorem dL_law_1375 : decode cL_law 1375 = .ok (.aload_n 1, 1) := dk_43 (dk_at dksL_law_50 18 rfl rfl)
theorem dL_law_1376 : decode cL_law 1376 = .ok (.aload_n 0, 1) := dk_42 (dk_at dksL_law_50 19 rfl rfl)
theorem dL_law_1377 : decode cL_law 1377 = .ok (.iload 4, 2) := dk_21 4 (dk_at dksL_law_50 20 rfl rfl)
theorem dL_law_1379 : decode cL_law 1379 = .ok (.iconst 1, 1) := dk_4 (dk_at dksL_law_50 22 rfl rfl)
theorem dL_law_1380 : decode cL_law 1380 = .ok (.iadd, 1) := dk_96 (dk_at dksL_law_50 23 rfl rfl)
theorem dL_law_1381 : decode cL_law 1381 = .ok (.iaload, 1) := dk_46 (dk_at dksL_law_51 0 rfl rfl)
theorem dL_law_1382 : decode cL_law 1382 = .ok (.aload_n 0, 1) := dk_42 (dk_at dksL_law_51 1 rfl rfl)
theorem dL_law_1383 : decode cL_law 1383 = .ok (.iload 4, 2) := dk_21 4 (dk_at dksL_law_51 2 rfl rfl)
theorem dL_law_1385 : decode cL_law 1385 = .ok (.iconst 2, 1) := dk_5 (dk_at dksL_law_51 4 rfl rfl)
theorem dL_law_1386 : decode cL_law 1386 = .ok (.iadd, 1) := dk_96 (dk_at dksL_law_51 5 rfl rfl)
theorem dL_law_1387 : decode cL_law 1387 = .ok (.iaload, 1) := dk_46 (dk_at dksL_law_51 6 rfl rfl)
theorem dL_law_1388 : decode cL_law 1388 = .ok (.aload_n 0, 1) := dk_42 (dk_at dksL_law_51 7 rfl rfl)
theorem dL_law_1389 : decode cL_law 1389 = .ok (.iload 4, 2) := dk_21 4 (dk_at dksL_law_51 8 rfl rfl)
theorem dL_law_1391 : decode cL_law 1391 = .ok (.iconst 3, 1) := dk_6 (dk_at dksL_law_51 10 rfl rfl)
theorem dL_law_1392 : decode cL_law 1392 = .ok (.iadd, 1) := dk_96 (dk_at dksL_law_51 11 rfl rfl)
theorem dL_law_1393 : decode cL_law 1393 = .ok (.iaload, 1) := dk_46 (dk_at dksL_law_51 12 rfl rfl)
theorem dL_law_1394 : decode cL_law 1394 = .ok (.invokevirtual 193, 3) := dk_182 0 193 (dk_at dksL_law_51 13 rfl rfl)
theorem dL_law_1397 : decode cL_law 1397 = .ok (.aload_n 2, 1) := dk_44 (dk_at dksL_law_51 16 rfl rfl)
theorem dL_law_1398 : decode cL_law 1398 = .ok (.aload_n 0, 1) := dk_42 (dk_at dksL_law_51 17 rfl rfl)
theorem dL_law_1399 : decode cL_law 1399 = .ok (.iload 4, 2) := dk_21 4 (dk_at dksL_law_51 18 rfl rfl)
theorem dL_law_1401 : decode cL_law 1401 = .ok (.iconst 1, 1) := dk_4 (dk_at dksL_law_51 20 rfl rfl)
theorem dL_law_1402 : decode cL_law 1402 = .ok (.iadd, 1) := dk_96 (dk_at dksL_law_51 21 rfl rfl)
theorem dL_law_1403 : decode cL_law 1403 = .ok (.iaload, 1) := dk_46 (dk_at dksL_law_51 22 rfl rfl)
theorem dL_law_1404 : decode cL_law 1404 = .ok (.aload_n 0, 1) := dk_42 (dk_at dksL_law_51 23 rfl rfl)
theorem dL_law_1405 : decode cL_law 1405 = .ok (.iload 4, 2) := dk_21 4 (dk_at dksL_law_52 0 rfl rfl)
theorem dL_law_1407 : decode cL_law 1407 = .ok (.iconst 2, 1) := dk_5 (dk_at dksL_law_52 2 rfl rfl)
theorem dL_law_1408 : decode cL_law 1408 = .ok (.iadd, 1) := dk_96 (dk_at dksL_law_52 3 rfl rfl)
theorem dL_law_1409 : decode cL_law 1409 = .ok (.iaload, 1) := dk_46 (dk_at dksL_law_52 4 rfl rfl)
theorem dL_law_1410 : decode cL_law 1410 = .ok (.aload_n 0, 1) := dk_42 (dk_at dksL_law_52 5 rfl rfl)
theorem dL_law_1411 : decode cL_law 1411 = .ok (.iload 4, 2) := dk_21 4 (dk_at dksL_law_52 6 rfl rfl)
theorem dL_law_1413 : decode cL_law 1413 = .ok (.iconst 3, 1) := dk_6 (dk_at dksL_law_52 8 rfl rfl)
theorem dL_law_1414 : decode cL_law 1414 = .ok (.iadd, 1) := dk_96 (dk_at dksL_law_52 9 rfl rfl)
theorem dL_law_1415 : decode cL_law 1415 = .ok (.iaload, 1) := dk_46 (dk_at dksL_law_52 10 rfl rfl)
theorem dL_law_1416 : decode cL_law 1416 = .ok (.invokevirtual 196, 3) := dk_182 0 196 (dk_at dksL_law_52 11 rfl rfl)
theorem dL_law_1419 : decode cL_law 1419 = .ok (.if_icmp .eq 259, 3) := dk_159 1 3 (dk_at dksL_law_52 14 rfl rfl)
theorem dL_law_1422 : decode cL_law 1422 = .ok (.iconst 0, 1) := dk_3 (dk_at dksL_law_52 17 rfl rfl)
theorem dL_law_1423 : decode cL_law 1423 = .ok (.ireturn, 1) := dk_172 (dk_at dksL_law_52 18 rfl rfl)
theorem dL_law_1424 : decode cL_law 1424 = .ok (.aload_n 1, 1) := dk_43 (dk_at dksL_law_52 19 rfl rfl)
theorem dL_law_1425 : decode cL_law 1425 = .ok (.aload_n 0, 1) := dk_42 (dk_at dksL_law_52 20 rfl rfl)
theorem dL_law_1426 : decode cL_law 1426 = .ok (.iload 4, 2) := dk_21 4 (dk_at dksL_law_52 21 rfl rfl)
theorem dL_law_1428 : decode cL_law 1428 = .ok (.iconst 1, 1) := dk_4 (dk_at dksL_law_52 23 rfl rfl)
theorem dL_law_1429 : decode cL_law 1429 = .ok (.iadd, 1) := dk_96 (dk_at dksL_law_53 0 rfl rfl)
theorem dL_law_1430 : decode cL_law 1430 = .ok (.iaload, 1) := dk_46 (dk_at dksL_law_53 1 rfl rfl)
theorem dL_law_1431 : decode cL_law 1431 = .ok (.aload_n 0, 1) := dk_42 (dk_at dksL_law_53 2 rfl rfl)
theorem dL_law_1432 : decode cL_law 1432 = .ok (.iload 4, 2) := dk_21 4 (dk_at dksL_law_53 3 rfl rfl)
theorem dL_law_1434 : decode cL_law 1434 = .ok (.iconst 2, 1) := dk_5 (dk_at dksL_law_53 5 rfl rfl)
theorem dL_law_1435 : decode cL_law 1435 = .ok (.iadd, 1) := dk_96 (dk_at dksL_law_53 6 rfl rfl)
theorem dL_law_1436 : decode cL_law 1436 = .ok (.iaload, 1) := dk_46 (dk_at dksL_law_53 7 rfl rfl)
theorem dL_law_1437 : decode cL_law 1437 = .ok (.aload_n 0, 1) := dk_42 (dk_at dksL_law_53 8 rfl rfl)
theorem dL_law_1438 : decode cL_law 1438 = .ok (.iload 4, 2) := dk_21 4 (dk_at dksL_law_53 9 rfl rfl)
theorem dL_law_1440 : decode cL_law 1440 = .ok (.iconst 3, 1) := dk_6 (dk_at dksL_law_53 11 rfl rfl)
theorem dL_law_1441 : decode cL_law 1441 = .ok (.iadd, 1) := dk_96 (dk_at dksL_law_53 12 rfl rfl)
theorem dL_law_1442 : decode cL_law 1442 = .ok (.iaload, 1) := dk_46 (dk_at dksL_law_53 13 rfl rfl)
theorem dL_law_1443 : decode cL_law 1443 = .ok (.invokevirtual 197, 3) := dk_182 0 197 (dk_at dksL_law_53 14 rfl rfl)
theorem dL_law_1446 : decode cL_law 1446 = .ok (.aload_n 2, 1) := dk_44 (dk_at dksL_law_53 17 rfl rfl)
theorem dL_law_1447 : decode cL_law 1447 = .ok (.aload_n 0, 1) := dk_42 (dk_at dksL_law_53 18 rfl rfl)
theorem dL_law_1448 : decode cL_law 1448 = .ok (.iload 4, 2) := dk_21 4 (dk_at dksL_law_53 19 rfl rfl)
theorem dL_law_1450 : decode cL_law 1450 = .ok (.iconst 1, 1) := dk_4 (dk_at dksL_law_53 21 rfl rfl)
theorem dL_law_1451 : decode cL_law 1451 = .ok (.iadd, 1) := dk_96 (dk_at dksL_law_53 22 rfl rfl)
theorem dL_law_1452 : decode cL_law 1452 = .ok (.iaload, 1) := dk_46 (dk_at dksL_law_53 23 rfl rfl)
theorem dL_law_1453 : decode cL_law 1453 = .ok (.aload_n 0, 1) := dk_42 (dk_at dksL_law_54 0 rfl rfl)
theorem dL_law_1454 : decode cL_law 1454 = .ok (.iload 4, 2) := dk_21 4 (dk_at dksL_law_54 1 rfl rfl)
theorem dL_law_1456 : decode cL_law 1456 = .ok (.iconst 2, 1) := dk_5 (dk_at dksL_law_54 3 rfl rfl)
theorem dL_law_1457 : decode cL_law 1457 = .ok (.iadd, 1) := dk_96 (dk_at dksL_law_54 4 rfl rfl)
theorem dL_law_1458 : decode cL_law 1458 = .ok (.iaload, 1) := dk_46 (dk_at dksL_law_54 5 rfl rfl)
theorem dL_law_1459 : decode cL_law 1459 = .ok (.aload_n 0, 1) := dk_42 (dk_at dksL_law_54 6 rfl rfl)
theorem dL_law_1460 : decode cL_law 1460 = .ok (.iload 4, 2) := dk_21 4 (dk_at dksL_law_54 7 rfl rfl)
theorem dL_law_1462 : decode cL_law 1462 = .ok (.iconst 3, 1) := dk_6 (dk_at dksL_law_54 9 rfl rfl)
theorem dL_law_1463 : decode cL_law 1463 = .ok (.iadd, 1) := dk_96 (dk_at dksL_law_54 10 rfl rfl)
theorem dL_law_1464 : decode cL_law 1464 = .ok (.iaload, 1) := dk_46 (dk_at dksL_law_54 11 rfl rfl)
theorem dL_law_1465 : decode cL_law 1465 = .ok (.invokevirtual 200, 3) := dk_182 0 200 (dk_at dksL_law_54 12 rfl rfl)
theorem dL_law_1468 : decode cL_law 1468 = .ok (.if_icmp .eq 210, 3) := dk_159 0 210 (dk_at dksL_law_54 15 rfl rfl)
theorem dL_law_1471 : decode cL_law 1471 = .ok (.iconst 0, 1) := dk_3 (dk_at dksL_law_54 18 rfl rfl)
theorem dL_law_1472 : decode cL_law 1472 = .ok (.ireturn, 1) := dk_172 (dk_at dksL_law_54 19 rfl rfl)
theorem dL_law_1473 : decode cL_law 1473 = .ok (.aload_n 1, 1) := dk_43 (dk_at dksL_law_54 20 rfl rfl)
theorem dL_law_1474 : decode cL_law 1474 = .ok (.aload_n 0, 1) := dk_42 (dk_at dksL_law_54 21 rfl rfl)
theorem dL_law_1475 : decode cL_law 1475 = .ok (.iload 4, 2) := dk_21 4 (dk_at dksL_law_54 22 rfl rfl)
theorem dL_law_1477 : decode cL_law 1477 = .ok (.iconst 1, 1) := dk_4 (dk_at dksL_law_55 0 rfl rfl)
theorem dL_law_1478 : decode cL_law 1478 = .ok (.iadd, 1) := dk_96 (dk_at dksL_law_55 1 rfl rfl)
theorem dL_law_1479 : decode cL_law 1479 = .ok (.iaload, 1) := dk_46 (dk_at dksL_law_55 2 rfl rfl)
theorem dL_law_1480 : decode cL_law 1480 = .ok (.invokevirtual 201, 3) := dk_182 0 201 (dk_at dksL_law_55 3 rfl rfl)
theorem dL_law_1483 : decode cL_law 1483 = .ok (.aload_n 2, 1) := dk_44 (dk_at dksL_law_55 6 rfl rfl)
theorem dL_law_1484 : decode cL_law 1484 = .ok (.aload_n 0, 1) := dk_42 (dk_at dksL_law_55 7 rfl rfl)
theorem dL_law_1485 : decode cL_law 1485 = .ok (.iload 4, 2) := dk_21 4 (dk_at dksL_law_55 8 rfl rfl)
theorem dL_law_1487 : decode cL_law 1487 = .ok (.iconst 1, 1) := dk_4 (dk_at dksL_law_55 10 rfl rfl)
theorem dL_law_1488 : decode cL_law 1488 = .ok (.iadd, 1) := dk_96 (dk_at dksL_law_55 11 rfl rfl)
theorem dL_law_1489 : decode cL_law 1489 = .ok (.iaload, 1) := dk_46 (dk_at dksL_law_55 12 rfl rfl)
theorem dL_law_1490 : decode cL_law 1490 = .ok (.invokevirtual 204, 3) := dk_182 0 204 (dk_at dksL_law_55 13 rfl rfl)
theorem dL_law_1493 : decode cL_law 1493 = .ok (.if_icmp .eq 185, 3) := dk_159 0 185 (dk_at dksL_law_55 16 rfl rfl)
theorem dL_law_1496 : decode cL_law 1496 = .ok (.iconst 0, 1) := dk_3 (dk_at dksL_law_55 19 rfl rfl)
theorem dL_law_1497 : decode cL_law 1497 = .ok (.ireturn, 1) := dk_172 (dk_at dksL_law_55 20 rfl rfl)
theorem dL_law_1498 : decode cL_law 1498 = .ok (.aload_n 1, 1) := dk_43 (dk_at dksL_law_55 21 rfl rfl)
theorem dL_law_1499 : decode cL_law 1499 = .ok (.invokevirtual 205, 3) := dk_182 0 205 (dk_at dksL_law_56 0 rfl rfl)
theorem dL_law_1502 : decode cL_law 1502 = .ok (.aload_n 2, 1) := dk_44 (dk_at dksL_law_56 3 rfl rfl)
theorem dL_law_1503 : decode cL_law 1503 = .ok (.invokevirtual 208, 3) := dk_182 0 208 (dk_at dksL_law_56 4 rfl rfl)
theorem dL_law_1506 : decode cL_law 1506 = .ok (.if_icmp .eq 172, 3) := dk_159 0 172 (dk_at dksL_law_56 7 rfl rfl)
theorem dL_law_1509 : decode cL_law 1509 = .ok (.iconst 0, 1) := dk_3 (dk_at dksL_law_56 10 rfl rfl)
theorem dL_law_1510 : decode cL_law 1510 = .ok (.ireturn, 1) := dk_172 (dk_at dksL_law_56 11 rfl rfl)
theorem dL_law_1511 : decode cL_law 1511 = .ok (.aload_n 1, 1) := dk_43 (dk_at dksL_law_56 12 rfl rfl)
theorem dL_law_1512 : decode cL_law 1512 = .ok (.aload_n 0, 1) := dk_42 (dk_at dksL_law_56 13 rfl rfl)
theorem dL_law_1513 : decode cL_law 1513 = .ok (.iload 4, 2) := dk_21 4 (dk_at dksL_law_56 14 rfl rfl)
theorem dL_law_1515 : decode cL_law 1515 = .ok (.iconst 1, 1) := dk_4 (dk_at dksL_law_56 16 rfl rfl)
theorem dL_law_1516 : decode cL_law 1516 = .ok (.iadd, 1) := dk_96 (dk_at dksL_law_56 17 rfl rfl)
theorem dL_law_1517 : decode cL_law 1517 = .ok (.iaload, 1) := dk_46 (dk_at dksL_law_56 18 rfl rfl)
theorem dL_law_1518 : decode cL_law 1518 = .ok (.aload_n 0, 1) := dk_42 (dk_at dksL_law_56 19 rfl rfl)
theorem dL_law_1519 : decode cL_law 1519 = .ok (.iload 4, 2) := dk_21 4 (dk_at dksL_law_56 20 rfl rfl)
theorem dL_law_1521 : decode cL_law 1521 = .ok (.iconst 2, 1) := dk_5 (dk_at dksL_law_56 22 rfl rfl)
theorem dL_law_1522 : decode cL_law 1522 = .ok (.iadd, 1) := dk_96 (dk_at dksL_law_56 23 rfl rfl)
theorem dL_law_1523 : decode cL_law 1523 = .ok (.iaload, 1) := dk_46 (dk_at dksL_law_57 0 rfl rfl)
theorem dL_law_1524 : decode cL_law 1524 = .ok (.invokevirtual 209, 3) := dk_182 0 209 (dk_at dksL_law_57 1 rfl rfl)
theorem dL_law_1527 : decode cL_law 1527 = .ok (.aload_n 2, 1) := dk_44 (dk_at dksL_law_57 4 rfl rfl)
theorem dL_law_1528 : decode cL_law 1528 = .ok (.aload_n 0, 1) := dk_42 (dk_at dksL_law_57 5 rfl rfl)
theorem dL_law_1529 : decode cL_law 1529 = .ok (.iload 4, 2) := dk_21 4 (dk_at dksL_law_57 6 rfl rfl)
theorem dL_law_1531 : decode cL_law 1531 = .ok (.iconst 1, 1) := dk_4 (dk_at dksL_law_57 8 rfl rfl)
theorem dL_law_1532 : decode cL_law 1532 = .ok (.iadd, 1) := dk_96 (dk_at dksL_law_57 9 rfl rfl)
theorem dL_law_1533 : decode cL_law 1533 = .ok (.iaload, 1) := dk_46 (dk_at dksL_law_57 10 rfl rfl)
theorem dL_law_1534 : decode cL_law 1534 = .ok (.aload_n 0, 1) := dk_42 (dk_at dksL_law_57 11 rfl rfl)
theorem dL_law_1535 : decode cL_law 1535 = .ok (.iload 4, 2) := dk_21 4 (dk_at dksL_law_57 12 rfl rfl)
theorem dL_law_1537 : decode cL_law 1537 = .ok (.iconst 2, 1) := dk_5 (dk_at dksL_law_57 14 rfl rfl)
theorem dL_law_1538 : decode cL_law 1538 = .ok (.iadd, 1) := dk_96 (dk_at dksL_law_57 15 rfl rfl)
theorem dL_law_1539 : decode cL_law 1539 = .ok (.iaload, 1) := dk_46 (dk_at dksL_law_57 16 rfl rfl)
theorem dL_law_1540 : decode cL_law 1540 = .ok (.invokevirtual 212, 3) := dk_182 0 212 (dk_at dksL_law_57 17 rfl rfl)
theorem dL_law_1543 : decode cL_law 1543 = .ok (.if_icmp .eq 135, 3) := dk_159 0 135 (dk_at dksL_law_57 20 rfl rfl)
theorem dL_law_1546 : decode cL_law 1546 = .ok (.iconst 0, 1) := dk_3 (dk_at dksL_law_57 23 rfl rfl)
theorem dL_law_1547 : decode cL_law 1547 = .ok (.ireturn, 1) := dk_172 (dk_at dksL_law_58 0 rfl rfl)
theorem dL_law_1548 : decode cL_law 1548 = .ok (.aload_n 1, 1) := dk_43 (dk_at dksL_law_58 1 rfl rfl)
theorem dL_law_1549 : decode cL_law 1549 = .ok (.aload_n 0, 1) := dk_42 (dk_at dksL_law_58 2 rfl rfl)
theorem dL_law_1550 : decode cL_law 1550 = .ok (.iload 4, 2) := dk_21 4 (dk_at dksL_law_58 3 rfl rfl)
theorem dL_law_1552 : decode cL_law 1552 = .ok (.iconst 1, 1) := dk_4 (dk_at dksL_law_58 5 rfl rfl)
theorem dL_law_1553 : decode cL_law 1553 = .ok (.iadd, 1) := dk_96 (dk_at dksL_law_58 6 rfl rfl)
theorem dL_law_1554 : decode cL_law 1554 = .ok (.iaload, 1) := dk_46 (dk_at dksL_law_58 7 rfl rfl)
theorem dL_law_1555 : decode cL_law 1555 = .ok (.invokevirtual 213, 3) := dk_182 0 213 (dk_at dksL_law_58 8 rfl rfl)
theorem dL_law_1558 : decode cL_law 1558 = .ok (.aload_n 2, 1) := dk_44 (dk_at dksL_law_58 11 rfl rfl)
theorem dL_law_1559 : decode cL_law 1559 = .ok (.aload_n 0, 1) := dk_42 (dk_at dksL_law_58 12 rfl rfl)
theorem dL_law_1560 : decode cL_law 1560 = .ok (.iload 4, 2) := dk_21 4 (dk_at dksL_law_58 13 rfl rfl)
theorem dL_law_1562 : decode cL_law 1562 = .ok (.iconst 1, 1) := dk_4 (dk_at dksL_law_58 15 rfl rfl)
theorem dL_law_1563 : decode cL_law 1563 = .ok (.iadd, 1) := dk_96 (dk_at dksL_law_58 16 rfl rfl)
theorem dL_law_1564 : decode cL_law 1564 = .ok (.iaload, 1) := dk_46 (dk_at dksL_law_58 17 rfl rfl)
theorem dL_law_1565 : decode cL_law 1565 = .ok (.invokevirtual 216, 3) := dk_182 0 216 (dk_at dksL_law_58 18 rfl rfl)
theorem dL_law_1568 : decode cL_law 1568 = .ok (.if_icmp .eq 110, 3) := dk_159 0 110 (dk_at dksL_law_58 21 rfl rfl)
theorem dL_law_1571 : decode cL_law 1571 = .ok (.iconst 0, 1) := dk_3 (dk_at dksL_law_59 0 rfl rfl)
theorem dL_law_1572 : decode cL_law 1572 = .ok (.ireturn, 1) := dk_172 (dk_at dksL_law_59 1 rfl rfl)
theorem dL_law_1573 : decode cL_law 1573 = .ok (.aload_n 1, 1) := dk_43 (dk_at dksL_law_59 2 rfl rfl)
theorem dL_law_1574 : decode cL_law 1574 = .ok (.aload_n 0, 1) := dk_42 (dk_at dksL_law_59 3 rfl rfl)
theorem dL_law_1575 : decode cL_law 1575 = .ok (.iload 4, 2) := dk_21 4 (dk_at dksL_law_59 4 rfl rfl)
theorem dL_law_1577 : decode cL_law 1577 = .ok (.iconst 1, 1) := dk_4 (dk_at dksL_law_59 6 rfl rfl)
theorem dL_law_1578 : decode cL_law 1578 = .ok (.iadd, 1) := dk_96 (dk_at dksL_law_59 7 rfl rfl)
theorem dL_law_1579 : decode cL_law 1579 = .ok (.iaload, 1) := dk_46 (dk_at dksL_law_59 8 rfl rfl)
theorem dL_law_1580 : decode cL_law 1580 = .ok (.invokevirtual 217, 3) := dk_182 0 217 (dk_at dksL_law_59 9 rfl rfl)
theorem dL_law_1583 : decode cL_law 1583 = .ok (.aload_n 2, 1) := dk_44 (dk_at dksL_law_59 12 rfl rfl)
theorem dL_law_1584 : decode cL_law 1584 = .ok (.aload_n 0, 1) := dk_42 (dk_at dksL_law_59 13 rfl rfl)
theorem dL_law_1585 : decode cL_law 1585 = .ok (.iload 4, 2) := dk_21 4 (dk_at dksL_law_59 14 rfl rfl)
theorem dL_law_1587 : decode cL_law 1587 = .ok (.iconst 1, 1) := dk_4 (dk_at dksL_law_59 16 rfl rfl)
theorem dL_law_1588 : decode cL_law 1588 = .ok (.iadd, 1) := dk_96 (dk_at dksL_law_59 17 rfl rfl)
theorem dL_law_1589 : decode cL_law 1589 = .ok (.iaload, 1) := dk_46 (dk_at dksL_law_59 18 rfl rfl)
theorem dL_law_1590 : decode cL_law 1590 = .ok (.invokevirtual 220, 3) := dk_182 0 220 (dk_at dksL_law_59 19 rfl rfl)
theorem dL_law_1593 : decode cL_law 1593 = .ok (.if_icmp .eq 85, 3) := dk_159 0 85 (dk_at dksL_law_60 0 rfl rfl)
theorem dL_law_1596 : decode cL_law 1596 = .ok (.iconst 0, 1) := dk_3 (dk_at dksL_law_60 3 rfl rfl)
theorem dL_law_1597 : decode cL_law 1597 = .ok (.ireturn, 1) := dk_172 (dk_at dksL_law_60 4 rfl rfl)
theorem dL_law_1598 : decode cL_law 1598 = .ok (.aload_n 1, 1) := dk_43 (dk_at dksL_law_60 5 rfl rfl)
theorem dL_law_1599 : decode cL_law 1599 = .ok (.aload_n 0, 1) := dk_42 (dk_at dksL_law_60 6 rfl rfl)
theorem dL_law_1600 : decode cL_law 1600 = .ok (.iload 4, 2) := dk_21 4 (dk_at dksL_law_60 7 rfl rfl)
theorem dL_law_1602 : decode cL_law 1602 = .ok (.iconst 1, 1) := dk_4 (dk_at dksL_law_60 9 rfl rfl)
theorem dL_law_1603 : decode cL_law 1603 = .ok (.iadd, 1) := dk_96 (dk_at dksL_law_60 10 rfl rfl)
theorem dL_law_1604 : decode cL_law 1604 = .ok (.iaload, 1) := dk_46 (dk_at dksL_law_60 11 rfl rfl)
theorem dL_law_1605 : decode cL_law 1605 = .ok (.invokevirtual 221, 3) := dk_182 0 221 (dk_at dksL_law_60 12 rfl rfl)
theorem dL_law_1608 : decode cL_law 1608 = .ok (.aload_n 2, 1) := dk_44 (dk_at dksL_law_60 15 rfl rfl)
theorem dL_law_1609 : decode cL_law 1609 = .ok (.aload_n 0, 1) := dk_42 (dk_at dksL_law_60 16 rfl rfl)
theorem dL_law_1610 : decode cL_law 1610 = .ok (.iload 4, 2) := dk_21 4 (dk_at dksL_law_60 17 rfl rfl)
theorem dL_law_1612 : decode cL_law 1612 = .ok (.iconst 1, 1) := dk_4 (dk_at dksL_law_60 19 rfl rfl)
theorem dL_law_1613 : decode cL_law 1613 = .ok (.iadd, 1) := dk_96 (dk_at dksL_law_60 20 rfl rfl)
theorem dL_law_1614 : decode cL_law 1614 = .ok (.iaload, 1) := dk_46 (dk_at dksL_law_60 21 rfl rfl)
theorem dL_law_1615 : decode cL_law 1615 = .ok (.invokevirtual 224, 3) := dk_182 0 224 (dk_at dksL_law_61 0 rfl rfl)
theorem dL_law_1618 : decode cL_law 1618 = .ok (.if_icmp .eq 60, 3) := dk_159 0 60 (dk_at dksL_law_61 3 rfl rfl)
theorem dL_law_1621 : decode cL_law 1621 = .ok (.iconst 0, 1) := dk_3 (dk_at dksL_law_61 6 rfl rfl)
theorem dL_law_1622 : decode cL_law 1622 = .ok (.ireturn, 1) := dk_172 (dk_at dksL_law_61 7 rfl rfl)
theorem dL_law_1623 : decode cL_law 1623 = .ok (.aload_n 1, 1) := dk_43 (dk_at dksL_law_61 8 rfl rfl)
theorem dL_law_1624 : decode cL_law 1624 = .ok (.aload_n 0, 1) := dk_42 (dk_at dksL_law_61 9 rfl rfl)
theorem dL_law_1625 : decode cL_law 1625 = .ok (.iload 4, 2) := dk_21 4 (dk_at dksL_law_61 10 rfl rfl)
theorem dL_law_1627 : decode cL_law 1627 = .ok (.iconst 1, 1) := dk_4 (dk_at dksL_law_61 12 rfl rfl)
theorem dL_law_1628 : decode cL_law 1628 = .ok (.iadd, 1) := dk_96 (dk_at dksL_law_61 13 rfl rfl)
theorem dL_law_1629 : decode cL_law 1629 = .ok (.iaload, 1) := dk_46 (dk_at dksL_law_61 14 rfl rfl)
theorem dL_law_1630 : decode cL_law 1630 = .ok (.aload_n 3, 1) := dk_45 (dk_at dksL_law_61 15 rfl rfl)
theorem dL_law_1631 : decode cL_law 1631 = .ok (.invokestatic 225, 3) := dk_184 0 225 (dk_at dksL_law_61 16 rfl rfl)
theorem dL_law_1634 : decode cL_law 1634 = .ok (.istore 5, 2) := dk_54 5 (dk_at dksL_law_61 19 rfl rfl)
theorem dL_law_1636 : decode cL_law 1636 = .ok (.aload_n 2, 1) := dk_44 (dk_at dksL_law_61 21 rfl rfl)
theorem dL_law_1637 : decode cL_law 1637 = .ok (.aload_n 0, 1) := dk_42 (dk_at dksL_law_61 22 rfl rfl)
theorem dL_law_1638 : decode cL_law 1638 = .ok (.iload 4, 2) := dk_21 4 (dk_at dksL_law_62 0 rfl rfl)
theorem dL_law_1640 : decode cL_law 1640 = .ok (.iconst 1, 1) := dk_4 (dk_at dksL_law_62 2 rfl rfl)
theorem dL_law_1641 : decode cL_law 1641 = .ok (.iadd, 1) := dk_96 (dk_at dksL_law_62 3 rfl rfl)
theorem dL_law_1642 : decode cL_law 1642 = .ok (.iaload, 1) := dk_46 (dk_at dksL_law_62 4 rfl rfl)
theorem dL_law_1643 : decode cL_law 1643 = .ok (.invokevirtual 228, 3) := dk_182 0 228 (dk_at dksL_law_62 5 rfl rfl)
theorem dL_law_1646 : decode cL_law 1646 = .ok (.lstore 6, 2) := dk_55 6 (dk_at dksL_law_62 8 rfl rfl)
theorem dL_law_1648 : decode cL_law 1648 = .ok (.aload_n 2, 1) := dk_44 (dk_at dksL_law_62 10 rfl rfl)
theorem dL_law_1649 : decode cL_law 1649 = .ok (.invokevirtual 48, 3) := dk_182 0 48 (dk_at dksL_law_62 11 rfl rfl)
theorem dL_law_1652 : decode cL_law 1652 = .ok (.iload 5, 2) := dk_21 5 (dk_at dksL_law_62 14 rfl rfl)
theorem dL_law_1654 : decode cL_law 1654 = .ok (.if_icmp .eq 5, 3) := dk_159 0 5 (dk_at dksL_law_62 16 rfl rfl)
theorem dL_law_1657 : decode cL_law 1657 = .ok (.iconst 0, 1) := dk_3 (dk_at dksL_law_62 19 rfl rfl)
theorem dL_law_1658 : decode cL_law 1658 = .ok (.ireturn, 1) := dk_172 (dk_at dksL_law_62 20 rfl rfl)
theorem dL_law_1659 : decode cL_law 1659 = .ok (.iload 5, 2) := dk_21 5 (dk_at dksL_law_62 21 rfl rfl)
theorem dL_law_1661 : decode cL_law 1661 = .ok (.ifCond .ne 14, 3) := dk_154 0 14 (dk_at dksL_law_63 0 rfl rfl)
theorem dL_law_1664 : decode cL_law 1664 = .ok (.aload_n 3, 1) := dk_45 (dk_at dksL_law_63 3 rfl rfl)
theorem dL_law_1665 : decode cL_law 1665 = .ok (.iconst 0, 1) := dk_3 (dk_at dksL_law_63 4 rfl rfl)
theorem dL_law_1666 : decode cL_law 1666 = .ok (.laload, 1) := dk_47 (dk_at dksL_law_63 5 rfl rfl)
theorem dL_law_1667 : decode cL_law 1667 = .ok (.lload 6, 2) := dk_22 6 (dk_at dksL_law_63 6 rfl rfl)
theorem dL_law_1669 : decode cL_law 1669 = .ok (.lcmp, 1) := dk_148 (dk_at dksL_law_63 8 rfl rfl)
theorem dL_law_1670 : decode cL_law 1670 = .ok (.ifCond .eq 5, 3) := dk_153 0 5 (dk_at dksL_law_63 9 rfl rfl)
theorem dL_law_1673 : decode cL_law 1673 = .ok (.iconst 0, 1) := dk_3 (dk_at dksL_law_63 12 rfl rfl)
theorem dL_law_1674 : decode cL_law 1674 = .ok (.ireturn, 1) := dk_172 (dk_at dksL_law_63 13 rfl rfl)
theorem dL_law_1675 : decode cL_law 1675 = .ok (.goto 3, 3) := dk_167 0 3 (dk_at dksL_law_63 14 rfl rfl)
theorem dL_law_1678 : decode cL_law 1678 = .ok (.iinc 4 5, 3) := dk_132 4 5 (dk_at dksL_law_63 17 rfl rfl)
theorem dL_law_1681 : decode cL_law 1681 = .ok (.goto (-1658), 3) := dk_167 249 134 (dk_at dksL_law_63 20 rfl rfl)
theorem dL_law_1684 : decode cL_law 1684 = .ok (.iconst 1, 1) := dk_4 (dk_at dksL_law_63 23 rfl rfl)
theorem dL_law_1685 : decode cL_law 1685 = .ok (.ireturn, 1) := dk_172 (dk_at dksL_law_64 0 rfl rfl)
