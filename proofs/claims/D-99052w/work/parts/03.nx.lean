/-! TreesBeforeMenLaw -/
set_option maxRecDepth 100000
def RX0 : String := "TreesBeforeMenLaw"
abbrev cX0_man : ByteArray := method_3_code
def yX0_man : MethodName := ⟨RX0, "man", "(LTreesBeforeMen;II[J)I"⟩
def dkwX0_man_0 : List UInt8 := [45, 3, 42, 27, 28, 182, 0, 7, 133, 80, 167, 0, 7, 58, 4, 4, 172, 3, 172]
abbrev dktX0_man_0 : List UInt8 := dkwX0_man_0 ++ []
theorem dksX0_man_0 : cX0_man.data.toList.drop 0 = dktX0_man_0 := by decide +kernel
theorem dX0_man_0 : decode cX0_man 0 = .ok (.aload_n 3, 1) := dk_45 (dk_at dksX0_man_0 0 rfl rfl)
theorem dX0_man_1 : decode cX0_man 1 = .ok (.iconst 0, 1) := dk_3 (dk_at dksX0_man_0 1 rfl rfl)
theorem dX0_man_2 : decode cX0_man 2 = .ok (.aload_n 0, 1) := dk_42 (dk_at dksX0_man_0 2 rfl rfl)
theorem dX0_man_3 : decode cX0_man 3 = .ok (.iload_n 1, 1) := dk_27 (dk_at dksX0_man_0 3 rfl rfl)
theorem dX0_man_4 : decode cX0_man 4 = .ok (.iload_n 2, 1) := dk_28 (dk_at dksX0_man_0 4 rfl rfl)
theorem dX0_man_5 : decode cX0_man 5 = .ok (.invokevirtual 7, 3) := dk_182 0 7 (dk_at dksX0_man_0 5 rfl rfl)
theorem dX0_man_8 : decode cX0_man 8 = .ok (.i2l, 1) := dk_133 (dk_at dksX0_man_0 8 rfl rfl)
theorem dX0_man_9 : decode cX0_man 9 = .ok (.lastore, 1) := dk_80 (dk_at dksX0_man_0 9 rfl rfl)
theorem dX0_man_10 : decode cX0_man 10 = .ok (.goto 7, 3) := dk_167 0 7 (dk_at dksX0_man_0 10 rfl rfl)
theorem dX0_man_13 : decode cX0_man 13 = .ok (.astore 4, 2) := dk_58 4 (dk_at dksX0_man_0 13 rfl rfl)
theorem dX0_man_15 : decode cX0_man 15 = .ok (.iconst 1, 1) := dk_4 (dk_at dksX0_man_0 15 rfl rfl)
theorem dX0_man_16 : decode cX0_man 16 = .ok (.ireturn, 1) := dk_172 (dk_at dksX0_man_0 16 rfl rfl)
theorem dX0_man_17 : decode cX0_man 17 = .ok (.iconst 0, 1) := dk_3 (dk_at dksX0_man_0 17 rfl rfl)
theorem dX0_man_18 : decode cX0_man 18 = .ok (.ireturn, 1) := dk_172 (dk_at dksX0_man_0 18 rfl rfl)
abbrev cX0_island : ByteArray := method_4_code
def yX0_island : MethodName := ⟨RX0, "island", "(LTreesBeforeMen;II[J)I"⟩
def dkwX0_island_0 : List UInt8 := [45, 3, 42, 27, 28, 182, 0, 15, 133, 80, 167, 0, 7, 58, 4, 4, 172, 3, 172]
abbrev dktX0_island_0 : List UInt8 := dkwX0_island_0 ++ []
theorem dksX0_island_0 : cX0_island.data.toList.drop 0 = dktX0_island_0 := by decide +kernel
theorem dX0_island_0 : decode cX0_island 0 = .ok (.aload_n 3, 1) := dk_45 (dk_at dksX0_island_0 0 rfl rfl)
theorem dX0_island_1 : decode cX0_island 1 = .ok (.iconst 0, 1) := dk_3 (dk_at dksX0_island_0 1 rfl rfl)
theorem dX0_island_2 : decode cX0_island 2 = .ok (.aload_n 0, 1) := dk_42 (dk_at dksX0_island_0 2 rfl rfl)
theorem dX0_island_3 : decode cX0_island 3 = .ok (.iload_n 1, 1) := dk_27 (dk_at dksX0_island_0 3 rfl rfl)
theorem dX0_island_4 : decode cX0_island 4 = .ok (.iload_n 2, 1) := dk_28 (dk_at dksX0_island_0 4 rfl rfl)
theorem dX0_island_5 : decode cX0_island 5 = .ok (.invokevirtual 15, 3) := dk_182 0 15 (dk_at dksX0_island_0 5 rfl rfl)
theorem dX0_island_8 : decode cX0_island 8 = .ok (.i2l, 1) := dk_133 (dk_at dksX0_island_0 8 rfl rfl)
theorem dX0_island_9 : decode cX0_island 9 = .ok (.lastore, 1) := dk_80 (dk_at dksX0_island_0 9 rfl rfl)
theorem dX0_island_10 : decode cX0_island 10 = .ok (.goto 7, 3) := dk_167 0 7 (dk_at dksX0_island_0 10 rfl rfl)
theorem dX0_island_13 : decode cX0_island 13 = .ok (.astore 4, 2) := dk_58 4 (dk_at dksX0_island_0 13 rfl rfl)
theorem dX0_island_15 : decode cX0_island 15 = .ok (.iconst 1, 1) := dk_4 (dk_at dksX0_island_0 15 rfl rfl)
theorem dX0_island_16 : decode cX0_island 16 = .ok (.ireturn, 1) := dk_172 (dk_at dksX0_island_0 16 rfl rfl)
theorem dX0_island_17 : decode cX0_island 17 = .ok (.iconst 0, 1) := dk_3 (dk_at dksX0_island_0 17 rfl rfl)
theorem dX0_island_18 : decode cX0_island 18 = .ok (.ireturn, 1) := dk_172 (dk_at dksX0_island_0 18 rfl rfl)
abbrev cX0_row : ByteArray := method_5_code
def yX0_row : MethodName := ⟨RX0, "row", "(LTreesBeforeMen;I[J)I"⟩
def dkwX0_row_0 : List UInt8 := [44, 3, 42, 27, 182, 0, 18, 80, 167, 0, 6, 78, 4, 172, 3, 172]
abbrev dktX0_row_0 : List UInt8 := dkwX0_row_0 ++ []
theorem dksX0_row_0 : cX0_row.data.toList.drop 0 = dktX0_row_0 := by decide +kernel
theorem dX0_row_0 : decode cX0_row 0 = .ok (.aload_n 2, 1) := dk_44 (dk_at dksX0_row_0 0 rfl rfl)
theorem dX0_row_1 : decode cX0_row 1 = .ok (.iconst 0, 1) := dk_3 (dk_at dksX0_row_0 1 rfl rfl)
theorem dX0_row_2 : decode cX0_row 2 = .ok (.aload_n 0, 1) := dk_42 (dk_at dksX0_row_0 2 rfl rfl)
theorem dX0_row_3 : decode cX0_row 3 = .ok (.iload_n 1, 1) := dk_27 (dk_at dksX0_row_0 3 rfl rfl)
theorem dX0_row_4 : decode cX0_row 4 = .ok (.invokevirtual 18, 3) := dk_182 0 18 (dk_at dksX0_row_0 4 rfl rfl)
theorem dX0_row_7 : decode cX0_row 7 = .ok (.lastore, 1) := dk_80 (dk_at dksX0_row_0 7 rfl rfl)
theorem dX0_row_8 : decode cX0_row 8 = .ok (.goto 6, 3) := dk_167 0 6 (dk_at dksX0_row_0 8 rfl rfl)
theorem dX0_row_11 : decode cX0_row 11 = .ok (.astore_n 3, 1) := dk_78 (dk_at dksX0_row_0 11 rfl rfl)
theorem dX0_row_12 : decode cX0_row 12 = .ok (.iconst 1, 1) := dk_4 (dk_at dksX0_row_0 12 rfl rfl)
theorem dX0_row_13 : decode cX0_row 13 = .ok (.ireturn, 1) := dk_172 (dk_at dksX0_row_0 13 rfl rfl)
theorem dX0_row_14 : decode cX0_row 14 = .ok (.iconst 0, 1) := dk_3 (dk_at dksX0_row_0 14 rfl rfl)
theorem dX0_row_15 : decode cX0_row 15 = .ok (.ireturn, 1) := dk_172 (dk_at dksX0_row_0 15 rfl rfl)
theorem q90 : (Jvm.Cond.initialized "TreesBeforeMenLaw") ∈ lw_all := lw_g (lw_at lw_m1 0 rfl) rfl
theorem q119 : (Jvm.Cond.classLink "TreesBeforeMenLaw" (8 : Nat) "TreesBeforeMen") ∈ lw_all := lw_g (lw_at lw_m1 29 rfl) rfl
theorem q121 : (Jvm.Cond.methodLink "TreesBeforeMenLaw" (22 : Nat) ({ cls := "TreesBeforeMen", name := "<init>", desc := "()V" } : Jvm.MethodName)) ∈ lw_all := lw_g (lw_at lw_m1 31 rfl) rfl
theorem q359 : (Jvm.Cond.methodLink "TreesBeforeMenLaw" (26 : Nat) ({ cls := "TreesBeforeMen", name := "sign", desc := "(I)I" } : Jvm.MethodName)) ∈ lw_all := lw_g (lw_at lw_m2 29 rfl) rfl
theorem q363 : (Jvm.Cond.methodLink "TreesBeforeMenLaw" (31 : Nat) ({ cls := "TreesBeforeMen", name := "end", desc := "(I)Z" } : Jvm.MethodName)) ∈ lw_all := lw_g (lw_at lw_m2 33 rfl) rfl
theorem q370 : (Jvm.Cond.methodLink "TreesBeforeMenLaw" (36 : Nat) ({ cls := "TreesBeforeMen", name := "men", desc := "()I" } : Jvm.MethodName)) ∈ lw_all := lw_g (lw_at lw_m2 40 rfl) rfl
theorem q511 : (Jvm.Cond.methodLink "TreesBeforeMenLaw" (41 : Nat) ({ cls := "TreesBeforeMen", name := "weather", desc := "()I" } : Jvm.MethodName)) ∈ lw_all := lw_g (lw_at lw_m2 181 rfl) rfl
theorem q519 : (Jvm.Cond.methodLink "TreesBeforeMenLaw" (45 : Nat) ({ cls := "TreesBeforeMen", name := "islands", desc := "()I" } : Jvm.MethodName)) ∈ lw_all := lw_g (lw_at lw_m2 189 rfl) rfl
theorem q533 : (Jvm.Cond.methodLink "TreesBeforeMenLaw" (49 : Nat) ({ cls := "TreesBeforeMen", name := "rule", desc := "()I" } : Jvm.MethodName)) ∈ lw_all := lw_g (lw_at lw_m2 203 rfl) rfl
theorem q700 : (Jvm.Cond.methodLink "TreesBeforeMenLaw" (65 : Nat) ({ cls := "TreesBeforeMen", name := "set", desc := "(II)I" } : Jvm.MethodName)) ∈ lw_all := lw_g (lw_at lw_m3 130 rfl) rfl
theorem q717 : (Jvm.Cond.methodLink "TreesBeforeMenLaw" (69 : Nat) ({ cls := "TreesBeforeMen", name := "sheet", desc := "(IIII)I" } : Jvm.MethodName)) ∈ lw_all := lw_g (lw_at lw_m3 147 rfl) rfl
theorem q762 : (Jvm.Cond.methodLink "TreesBeforeMenLaw" (74 : Nat) ({ cls := "TreesBeforeMen", name := "days", desc := "(I)I" } : Jvm.MethodName)) ∈ lw_all := lw_g (lw_at lw_m3 192 rfl) rfl
theorem q865 : (Jvm.Cond.methodLink "TreesBeforeMenLaw" (78 : Nat) ({ cls := "TreesBeforeMen", name := "fill", desc := "(I)I" } : Jvm.MethodName)) ∈ lw_all := lw_g (lw_at lw_m4 55 rfl) rfl
theorem q870 : (Jvm.Cond.methodLink "TreesBeforeMenLaw" (82 : Nat) ({ cls := "TreesBeforeMen", name := "plant", desc := "(I)I" } : Jvm.MethodName)) ∈ lw_all := lw_g (lw_at lw_m4 60 rfl) rfl
theorem q874 : (Jvm.Cond.methodLink "TreesBeforeMenLaw" (86 : Nat) ({ cls := "TreesBeforeMen", name := "scold", desc := "(II)I" } : Jvm.MethodName)) ∈ lw_all := lw_g (lw_at lw_m4 64 rfl) rfl
theorem q890 : (Jvm.Cond.methodLink "TreesBeforeMenLaw" (90 : Nat) ({ cls := "TreesBeforeMen", name := "soothe", desc := "(II)I" } : Jvm.MethodName)) ∈ lw_all := lw_g (lw_at lw_m4 80 rfl) rfl
theorem q894 : (Jvm.Cond.methodLink "TreesBeforeMenLaw" (94 : Nat) ({ cls := "TreesBeforeMen", name := "runs", desc := "(I)I" } : Jvm.MethodName)) ∈ lw_all := lw_g (lw_at lw_m4 84 rfl) rfl
theorem q906 : (Jvm.Cond.methodLink "TreesBeforeMenLaw" (98 : Nat) ({ cls := "TreesBeforeMen", name := "put", desc := "()I" } : Jvm.MethodName)) ∈ lw_all := lw_g (lw_at lw_m4 96 rfl) rfl
theorem q913 : (Jvm.Cond.methodLink "TreesBeforeMenLaw" (102 : Nat) ({ cls := "TreesBeforeMen", name := "log", desc := "()I" } : Jvm.MethodName)) ∈ lw_all := lw_g (lw_at lw_m4 103 rfl) rfl
theorem q972 : (Jvm.Cond.methodLink "TreesBeforeMenLaw" (106 : Nat) ({ cls := "TreesBeforeMen", name := "undo", desc := "()I" } : Jvm.MethodName)) ∈ lw_all := lw_g (lw_at lw_m4 162 rfl) rfl
theorem q976 : (Jvm.Cond.methodLink "TreesBeforeMenLaw" (110 : Nat) ({ cls := "TreesBeforeMen", name := "rises", desc := "()I" } : Jvm.MethodName)) ∈ lw_all := lw_g (lw_at lw_m4 166 rfl) rfl
theorem q980 : (Jvm.Cond.methodLink "TreesBeforeMenLaw" (114 : Nat) ({ cls := "TreesBeforeMen", name := "follow", desc := "(I)I" } : Jvm.MethodName)) ∈ lw_all := lw_g (lw_at lw_m4 170 rfl) rfl
theorem q984 : (Jvm.Cond.methodLink "TreesBeforeMenLaw" (118 : Nat) ({ cls := "TreesBeforeMen", name := "quiet", desc := "()I" } : Jvm.MethodName)) ∈ lw_all := lw_g (lw_at lw_m4 174 rfl) rfl
theorem q988 : (Jvm.Cond.methodLink "TreesBeforeMenLaw" (122 : Nat) ({ cls := "TreesBeforeMen", name := "words", desc := "()I" } : Jvm.MethodName)) ∈ lw_all := lw_g (lw_at lw_m4 178 rfl) rfl
theorem q1001 : (Jvm.Cond.methodLink "TreesBeforeMenLaw" (126 : Nat) ({ cls := "TreesBeforeMen", name := "kindness", desc := "()I" } : Jvm.MethodName)) ∈ lw_all := lw_g (lw_at lw_m4 191 rfl) rfl
theorem q1005 : (Jvm.Cond.methodLink "TreesBeforeMenLaw" (130 : Nat) ({ cls := "TreesBeforeMen", name := "heads", desc := "()I" } : Jvm.MethodName)) ∈ lw_all := lw_g (lw_at lw_m4 195 rfl) rfl
theorem q1009 : (Jvm.Cond.methodLink "TreesBeforeMenLaw" (134 : Nat) ({ cls := "TreesBeforeMen", name := "ahead", desc := "(I)I" } : Jvm.MethodName)) ∈ lw_all := lw_g (lw_at lw_m4 199 rfl) rfl
theorem q1013 : (Jvm.Cond.methodLink "TreesBeforeMenLaw" (138 : Nat) ({ cls := "TreesBeforeMen", name := "lasts", desc := "()I" } : Jvm.MethodName)) ∈ lw_all := lw_g (lw_at lw_m4 203 rfl) rfl
theorem q1017 : (Jvm.Cond.methodLink "TreesBeforeMenLaw" (142 : Nat) ({ cls := "TreesBeforeMen", name := "most", desc := "(I)I" } : Jvm.MethodName)) ∈ lw_all := lw_g (lw_at lw_m4 207 rfl) rfl
theorem q1025 : (Jvm.Cond.methodLink "TreesBeforeMenLaw" (146 : Nat) ({ cls := "TreesBeforeMen", name := "gives", desc := "(I)I" } : Jvm.MethodName)) ∈ lw_all := lw_g (lw_at lw_m4 215 rfl) rfl
theorem q1029 : (Jvm.Cond.methodLink "TreesBeforeMenLaw" (150 : Nat) ({ cls := "TreesBeforeMen", name := "plan", desc := "(I)I" } : Jvm.MethodName)) ∈ lw_all := lw_g (lw_at lw_m4 219 rfl) rfl
theorem q1038 : (Jvm.Cond.methodLink "TreesBeforeMenLaw" (154 : Nat) ({ cls := "TreesBeforeMen", name := "law", desc := "()I" } : Jvm.MethodName)) ∈ lw_all := lw_g (lw_at lw_m4 228 rfl) rfl
theorem q1046 : (Jvm.Cond.methodLink "TreesBeforeMenLaw" (158 : Nat) ({ cls := "TreesBeforeMen", name := "sail", desc := "(II)I" } : Jvm.MethodName)) ∈ lw_all := lw_g (lw_at lw_m4 236 rfl) rfl
theorem q1060 : (Jvm.Cond.methodLink "TreesBeforeMenLaw" (162 : Nat) ({ cls := "TreesBeforeMen", name := "bread", desc := "(I)I" } : Jvm.MethodName)) ∈ lw_all := lw_g (lw_at lw_m5 10 rfl) rfl
theorem q1064 : (Jvm.Cond.methodLink "TreesBeforeMenLaw" (166 : Nat) ({ cls := "TreesBeforeMen", name := "shares", desc := "(III)I" } : Jvm.MethodName)) ∈ lw_all := lw_g (lw_at lw_m5 14 rfl) rfl
theorem q1068 : (Jvm.Cond.methodLink "TreesBeforeMenLaw" (171 : Nat) ({ cls := "TreesBeforeMen", name := "searched", desc := "(I)I" } : Jvm.MethodName)) ∈ lw_all := lw_g (lw_at lw_m5 18 rfl) rfl
theorem q1072 : (Jvm.Cond.methodLink "TreesBeforeMenLaw" (175 : Nat) ({ cls := "TreesBeforeMen", name := "forget", desc := "()I" } : Jvm.MethodName)) ∈ lw_all := lw_g (lw_at lw_m5 22 rfl) rfl
theorem q1079 : (Jvm.Cond.methodLink "TreesBeforeMenLaw" (179 : Nat) ({ cls := "TreesBeforeMen", name := "belief", desc := "(II)I" } : Jvm.MethodName)) ∈ lw_all := lw_g (lw_at lw_m5 29 rfl) rfl
theorem q1102 : (Jvm.Cond.methodLink "TreesBeforeMenLaw" (183 : Nat) ({ cls := "TreesBeforeMen", name := "hunt", desc := "(I)I" } : Jvm.MethodName)) ∈ lw_all := lw_g (lw_at lw_m5 52 rfl) rfl
theorem q1106 : (Jvm.Cond.methodLink "TreesBeforeMenLaw" (187 : Nat) ({ cls := "TreesBeforeMen", name := "heard", desc := "(II)I" } : Jvm.MethodName)) ∈ lw_all := lw_g (lw_at lw_m5 56 rfl) rfl
theorem q1111 : (Jvm.Cond.methodLink "TreesBeforeMenLaw" (191 : Nat) ({ cls := "TreesBeforeMen", name := "pardon", desc := "()I" } : Jvm.MethodName)) ∈ lw_all := lw_g (lw_at lw_m5 61 rfl) rfl
theorem q1115 : (Jvm.Cond.methodLink "TreesBeforeMenLaw" (195 : Nat) ({ cls := "TreesBeforeMen", name := "fits", desc := "()I" } : Jvm.MethodName)) ∈ lw_all := lw_g (lw_at lw_m5 65 rfl) rfl
theorem q1127 : (Jvm.Cond.methodLink "TreesBeforeMenLaw" (199 : Nat) ({ cls := "TreesBeforeMen", name := "ask", desc := "()I" } : Jvm.MethodName)) ∈ lw_all := lw_g (lw_at lw_m5 77 rfl) rfl
theorem q1131 : (Jvm.Cond.methodLink "TreesBeforeMenLaw" (203 : Nat) ({ cls := "TreesBeforeMen", name := "rests", desc := "(I)I" } : Jvm.MethodName)) ∈ lw_all := lw_g (lw_at lw_m5 81 rfl) rfl
theorem q1142 : (Jvm.Cond.methodLink "TreesBeforeMenLaw" (207 : Nat) ({ cls := "TreesBeforeMen", name := "voyages", desc := "(II)I" } : Jvm.MethodName)) ∈ lw_all := lw_g (lw_at lw_m5 92 rfl) rfl
theorem q1151 : (Jvm.Cond.methodLink "TreesBeforeMenLaw" (211 : Nat) ({ cls := "TreesBeforeMen", name := "keep", desc := "(I)Z" } : Jvm.MethodName)) ∈ lw_all := lw_g (lw_at lw_m5 101 rfl) rfl
theorem q1176 : (Jvm.Cond.methodLink "TreesBeforeMenLaw" (215 : Nat) ({ cls := "TreesBeforeMen", name := "again", desc := "(I)Z" } : Jvm.MethodName)) ∈ lw_all := lw_g (lw_at lw_m5 126 rfl) rfl
theorem q1180 : (Jvm.Cond.methodLink "TreesBeforeMenLaw" (219 : Nat) ({ cls := "TreesBeforeMen", name := "count", desc := "(I)I" } : Jvm.MethodName)) ∈ lw_all := lw_g (lw_at lw_m5 130 rfl) rfl
theorem q1184 : (Jvm.Cond.methodLink "TreesBeforeMenLaw" (53 : Nat) ({ cls := "TreesBeforeMenLaw", name := "man", desc := "(LTreesBeforeMen;II[J)I" } : Jvm.MethodName)) ∈ lw_all := lw_g (lw_at lw_m5 134 rfl) rfl
theorem q1185 : (Jvm.Cond.static ({ cls := "TreesBeforeMenLaw", name := "man", desc := "(LTreesBeforeMen;II[J)I" } : Jvm.MethodName)) ∈ lw_all := lw_g (lw_at lw_m5 135 rfl) rfl
theorem q1186 : (Jvm.Cond.codeWith ({ cls := "TreesBeforeMenLaw", name := "man", desc := "(LTreesBeforeMen;II[J)I" } : Jvm.MethodName) method_3_code (5 : Nat) (Option.some Jvm.ClassFile.FieldType.int) [((0 : Nat), (10 : Nat), (13 : Nat), (13 : Nat))]) ∈ lw_all := lw_g (lw_at lw_m5 136 rfl) rfl
theorem q1187 : (Jvm.Cond.classLink "TreesBeforeMenLaw" (13 : Nat) "java/util/NoSuchElementException") ∈ lw_all := lw_g (lw_at lw_m5 137 rfl) rfl
theorem q1188 : (Jvm.Cond.methodLink "TreesBeforeMenLaw" (7 : Nat) ({ cls := "TreesBeforeMen", name := "man", desc := "(II)I" } : Jvm.MethodName)) ∈ lw_all := lw_g (lw_at lw_m5 138 rfl) rfl
theorem q1210 : (Jvm.Cond.methodLink "TreesBeforeMenLaw" (62 : Nat) ({ cls := "TreesBeforeMenLaw", name := "island", desc := "(LTreesBeforeMen;II[J)I" } : Jvm.MethodName)) ∈ lw_all := lw_g (lw_at lw_m5 160 rfl) rfl
theorem q1211 : (Jvm.Cond.static ({ cls := "TreesBeforeMenLaw", name := "island", desc := "(LTreesBeforeMen;II[J)I" } : Jvm.MethodName)) ∈ lw_all := lw_g (lw_at lw_m5 161 rfl) rfl
theorem q1212 : (Jvm.Cond.codeWith ({ cls := "TreesBeforeMenLaw", name := "island", desc := "(LTreesBeforeMen;II[J)I" } : Jvm.MethodName) method_4_code (5 : Nat) (Option.some Jvm.ClassFile.FieldType.int) [((0 : Nat), (10 : Nat), (13 : Nat), (13 : Nat))]) ∈ lw_all := lw_g (lw_at lw_m5 162 rfl) rfl
theorem q1213 : (Jvm.Cond.methodLink "TreesBeforeMenLaw" (15 : Nat) ({ cls := "TreesBeforeMen", name := "island", desc := "(II)I" } : Jvm.MethodName)) ∈ lw_all := lw_g (lw_at lw_m5 163 rfl) rfl
theorem q1217 : (Jvm.Cond.methodLink "TreesBeforeMenLaw" (223 : Nat) ({ cls := "TreesBeforeMenLaw", name := "row", desc := "(LTreesBeforeMen;I[J)I" } : Jvm.MethodName)) ∈ lw_all := lw_g (lw_at lw_m5 167 rfl) rfl
theorem q1218 : (Jvm.Cond.static ({ cls := "TreesBeforeMenLaw", name := "row", desc := "(LTreesBeforeMen;I[J)I" } : Jvm.MethodName)) ∈ lw_all := lw_g (lw_at lw_m5 168 rfl) rfl
theorem q1219 : (Jvm.Cond.codeWith ({ cls := "TreesBeforeMenLaw", name := "row", desc := "(LTreesBeforeMen;I[J)I" } : Jvm.MethodName) method_5_code (4 : Nat) (Option.some Jvm.ClassFile.FieldType.int) [((0 : Nat), (8 : Nat), (11 : Nat), (13 : Nat))]) ∈ lw_all := lw_g (lw_at lw_m5 169 rfl) rfl
theorem q1220 : (Jvm.Cond.methodLink "TreesBeforeMenLaw" (18 : Nat) ({ cls := "TreesBeforeMen", name := "row", desc := "(I)J" } : Jvm.MethodName)) ∈ lw_all := lw_g (lw_at lw_m5 170 rfl) rfl
theorem q1224 : (Jvm.Cond.classLink "TreesBeforeMenLaw" (23 : Nat) "TreesBeforeMenModel") ∈ lw_all := lw_g (lw_at lw_m5 174 rfl) rfl
theorem q1226 : (Jvm.Cond.methodLink "TreesBeforeMenLaw" (25 : Nat) ({ cls := "TreesBeforeMenModel", name := "<init>", desc := "()V" } : Jvm.MethodName)) ∈ lw_all := lw_g (lw_at lw_m5 176 rfl) rfl
theorem q1391 : (Jvm.Cond.methodLink "TreesBeforeMenLaw" (59 : Nat) ({ cls := "TreesBeforeMenModel", name := "thrown", desc := "()I" } : Jvm.MethodName)) ∈ lw_all := lw_g (lw_at lw_m6 101 rfl) rfl
theorem q1395 : (Jvm.Cond.methodLink "TreesBeforeMenLaw" (30 : Nat) ({ cls := "TreesBeforeMenModel", name := "sign", desc := "(I)I" } : Jvm.MethodName)) ∈ lw_all := lw_g (lw_at lw_m6 105 rfl) rfl
theorem q1399 : (Jvm.Cond.methodLink "TreesBeforeMenLaw" (35 : Nat) ({ cls := "TreesBeforeMenModel", name := "end", desc := "(I)Z" } : Jvm.MethodName)) ∈ lw_all := lw_g (lw_at lw_m6 109 rfl) rfl
theorem q1406 : (Jvm.Cond.methodLink "TreesBeforeMenLaw" (40 : Nat) ({ cls := "TreesBeforeMenModel", name := "men", desc := "()I" } : Jvm.MethodName)) ∈ lw_all := lw_g (lw_at lw_m6 116 rfl) rfl
theorem q1444 : (Jvm.Cond.methodLink "TreesBeforeMenLaw" (44 : Nat) ({ cls := "TreesBeforeMenModel", name := "weather", desc := "()I" } : Jvm.MethodName)) ∈ lw_all := lw_g (lw_at lw_m6 154 rfl) rfl
theorem q1478 : (Jvm.Cond.methodLink "TreesBeforeMenLaw" (48 : Nat) ({ cls := "TreesBeforeMenModel", name := "islands", desc := "()I" } : Jvm.MethodName)) ∈ lw_all := lw_g (lw_at lw_m6 188 rfl) rfl
theorem q1486 : (Jvm.Cond.methodLink "TreesBeforeMenLaw" (52 : Nat) ({ cls := "TreesBeforeMenModel", name := "rule", desc := "()I" } : Jvm.MethodName)) ∈ lw_all := lw_g (lw_at lw_m6 196 rfl) rfl
theorem q1514 : (Jvm.Cond.methodLink "TreesBeforeMenLaw" (58 : Nat) ({ cls := "TreesBeforeMenModel", name := "man", desc := "(II)I" } : Jvm.MethodName)) ∈ lw_all := lw_g (lw_at lw_m6 224 rfl) rfl
theorem q1543 : (Jvm.Cond.methodLink "TreesBeforeMenLaw" (64 : Nat) ({ cls := "TreesBeforeMenModel", name := "island", desc := "(II)I" } : Jvm.MethodName)) ∈ lw_all := lw_g (lw_at lw_m7 13 rfl) rfl
theorem q1556 : (Jvm.Cond.methodLink "TreesBeforeMenLaw" (73 : Nat) ({ cls := "TreesBeforeMenModel", name := "sheet", desc := "(IIII)I" } : Jvm.MethodName)) ∈ lw_all := lw_g (lw_at lw_m7 26 rfl) rfl
theorem q1561 : (Jvm.Cond.methodLink "TreesBeforeMenLaw" (109 : Nat) ({ cls := "TreesBeforeMenModel", name := "undo", desc := "()I" } : Jvm.MethodName)) ∈ lw_all := lw_g (lw_at lw_m7 31 rfl) rfl
theorem q1565 : (Jvm.Cond.methodLink "TreesBeforeMenLaw" (68 : Nat) ({ cls := "TreesBeforeMenModel", name := "set", desc := "(II)I" } : Jvm.MethodName)) ∈ lw_all := lw_g (lw_at lw_m7 35 rfl) rfl
theorem q1586 : (Jvm.Cond.methodLink "TreesBeforeMenLaw" (77 : Nat) ({ cls := "TreesBeforeMenModel", name := "days", desc := "(I)I" } : Jvm.MethodName)) ∈ lw_all := lw_g (lw_at lw_m7 56 rfl) rfl
theorem q1622 : (Jvm.Cond.methodLink "TreesBeforeMenLaw" (81 : Nat) ({ cls := "TreesBeforeMenModel", name := "fill", desc := "(I)I" } : Jvm.MethodName)) ∈ lw_all := lw_g (lw_at lw_m7 92 rfl) rfl
theorem q1631 : (Jvm.Cond.methodLink "TreesBeforeMenLaw" (85 : Nat) ({ cls := "TreesBeforeMenModel", name := "plant", desc := "(I)I" } : Jvm.MethodName)) ∈ lw_all := lw_g (lw_at lw_m7 101 rfl) rfl
theorem q1639 : (Jvm.Cond.methodLink "TreesBeforeMenLaw" (89 : Nat) ({ cls := "TreesBeforeMenModel", name := "scold", desc := "(II)I" } : Jvm.MethodName)) ∈ lw_all := lw_g (lw_at lw_m7 109 rfl) rfl
theorem q1650 : (Jvm.Cond.methodLink "TreesBeforeMenLaw" (93 : Nat) ({ cls := "TreesBeforeMenModel", name := "soothe", desc := "(II)I" } : Jvm.MethodName)) ∈ lw_all := lw_g (lw_at lw_m7 120 rfl) rfl
theorem q1654 : (Jvm.Cond.methodLink "TreesBeforeMenLaw" (97 : Nat) ({ cls := "TreesBeforeMenModel", name := "runs", desc := "(I)I" } : Jvm.MethodName)) ∈ lw_all := lw_g (lw_at lw_m7 124 rfl) rfl
theorem q1662 : (Jvm.Cond.methodLink "TreesBeforeMenLaw" (101 : Nat) ({ cls := "TreesBeforeMenModel", name := "put", desc := "()I" } : Jvm.MethodName)) ∈ lw_all := lw_g (lw_at lw_m7 132 rfl) rfl
theorem q1670 : (Jvm.Cond.methodLink "TreesBeforeMenLaw" (105 : Nat) ({ cls := "TreesBeforeMenModel", name := "log", desc := "()I" } : Jvm.MethodName)) ∈ lw_all := lw_g (lw_at lw_m7 140 rfl) rfl
theorem q1684 : (Jvm.Cond.methodLink "TreesBeforeMenLaw" (113 : Nat) ({ cls := "TreesBeforeMenModel", name := "rises", desc := "()I" } : Jvm.MethodName)) ∈ lw_all := lw_g (lw_at lw_m7 154 rfl) rfl
theorem q1692 : (Jvm.Cond.methodLink "TreesBeforeMenLaw" (117 : Nat) ({ cls := "TreesBeforeMenModel", name := "follow", desc := "(I)I" } : Jvm.MethodName)) ∈ lw_all := lw_g (lw_at lw_m7 162 rfl) rfl
theorem q1696 : (Jvm.Cond.methodLink "TreesBeforeMenLaw" (121 : Nat) ({ cls := "TreesBeforeMenModel", name := "quiet", desc := "()I" } : Jvm.MethodName)) ∈ lw_all := lw_g (lw_at lw_m7 166 rfl) rfl
theorem q1704 : (Jvm.Cond.methodLink "TreesBeforeMenLaw" (125 : Nat) ({ cls := "TreesBeforeMenModel", name := "words", desc := "()I" } : Jvm.MethodName)) ∈ lw_all := lw_g (lw_at lw_m7 174 rfl) rfl
theorem q1720 : (Jvm.Cond.methodLink "TreesBeforeMenLaw" (129 : Nat) ({ cls := "TreesBeforeMenModel", name := "kindness", desc := "()I" } : Jvm.MethodName)) ∈ lw_all := lw_g (lw_at lw_m7 190 rfl) rfl
theorem q1724 : (Jvm.Cond.methodLink "TreesBeforeMenLaw" (133 : Nat) ({ cls := "TreesBeforeMenModel", name := "heads", desc := "()I" } : Jvm.MethodName)) ∈ lw_all := lw_g (lw_at lw_m7 194 rfl) rfl
theorem q1728 : (Jvm.Cond.methodLink "TreesBeforeMenLaw" (137 : Nat) ({ cls := "TreesBeforeMenModel", name := "ahead", desc := "(I)I" } : Jvm.MethodName)) ∈ lw_all := lw_g (lw_at lw_m7 198 rfl) rfl
theorem q1732 : (Jvm.Cond.methodLink "TreesBeforeMenLaw" (141 : Nat) ({ cls := "TreesBeforeMenModel", name := "lasts", desc := "()I" } : Jvm.MethodName)) ∈ lw_all := lw_g (lw_at lw_m7 202 rfl) rfl
theorem q1736 : (Jvm.Cond.methodLink "TreesBeforeMenLaw" (145 : Nat) ({ cls := "TreesBeforeMenModel", name := "most", desc := "(I)I" } : Jvm.MethodName)) ∈ lw_all := lw_g (lw_at lw_m7 206 rfl) rfl
theorem q1741 : (Jvm.Cond.methodLink "TreesBeforeMenLaw" (149 : Nat) ({ cls := "TreesBeforeMenModel", name := "gives", desc := "(I)I" } : Jvm.MethodName)) ∈ lw_all := lw_g (lw_at lw_m7 211 rfl) rfl
theorem q1745 : (Jvm.Cond.methodLink "TreesBeforeMenLaw" (153 : Nat) ({ cls := "TreesBeforeMenModel", name := "plan", desc := "(I)I" } : Jvm.MethodName)) ∈ lw_all := lw_g (lw_at lw_m7 215 rfl) rfl
theorem q1754 : (Jvm.Cond.methodLink "TreesBeforeMenLaw" (157 : Nat) ({ cls := "TreesBeforeMenModel", name := "law", desc := "()I" } : Jvm.MethodName)) ∈ lw_all := lw_g (lw_at lw_m7 224 rfl) rfl
theorem q1762 : (Jvm.Cond.methodLink "TreesBeforeMenLaw" (161 : Nat) ({ cls := "TreesBeforeMenModel", name := "sail", desc := "(II)I" } : Jvm.MethodName)) ∈ lw_all := lw_g (lw_at lw_m7 232 rfl) rfl
theorem q1776 : (Jvm.Cond.methodLink "TreesBeforeMenLaw" (165 : Nat) ({ cls := "TreesBeforeMenModel", name := "bread", desc := "(I)I" } : Jvm.MethodName)) ∈ lw_all := lw_g (lw_at lw_m8 6 rfl) rfl
theorem q1780 : (Jvm.Cond.methodLink "TreesBeforeMenLaw" (170 : Nat) ({ cls := "TreesBeforeMenModel", name := "shares", desc := "(III)I" } : Jvm.MethodName)) ∈ lw_all := lw_g (lw_at lw_m8 10 rfl) rfl
theorem q1784 : (Jvm.Cond.methodLink "TreesBeforeMenLaw" (174 : Nat) ({ cls := "TreesBeforeMenModel", name := "searched", desc := "(I)I" } : Jvm.MethodName)) ∈ lw_all := lw_g (lw_at lw_m8 14 rfl) rfl
theorem q1788 : (Jvm.Cond.methodLink "TreesBeforeMenLaw" (178 : Nat) ({ cls := "TreesBeforeMenModel", name := "forget", desc := "()I" } : Jvm.MethodName)) ∈ lw_all := lw_g (lw_at lw_m8 18 rfl) rfl
theorem q1792 : (Jvm.Cond.methodLink "TreesBeforeMenLaw" (182 : Nat) ({ cls := "TreesBeforeMenModel", name := "belief", desc := "(II)I" } : Jvm.MethodName)) ∈ lw_all := lw_g (lw_at lw_m8 22 rfl) rfl
theorem q1812 : (Jvm.Cond.methodLink "TreesBeforeMenLaw" (186 : Nat) ({ cls := "TreesBeforeMenModel", name := "hunt", desc := "(I)I" } : Jvm.MethodName)) ∈ lw_all := lw_g (lw_at lw_m8 42 rfl) rfl
theorem q1816 : (Jvm.Cond.methodLink "TreesBeforeMenLaw" (190 : Nat) ({ cls := "TreesBeforeMenModel", name := "heard", desc := "(II)I" } : Jvm.MethodName)) ∈ lw_all := lw_g (lw_at lw_m8 46 rfl) rfl
theorem q1820 : (Jvm.Cond.methodLink "TreesBeforeMenLaw" (194 : Nat) ({ cls := "TreesBeforeMenModel", name := "pardon", desc := "()I" } : Jvm.MethodName)) ∈ lw_all := lw_g (lw_at lw_m8 50 rfl) rfl
theorem q1824 : (Jvm.Cond.methodLink "TreesBeforeMenLaw" (198 : Nat) ({ cls := "TreesBeforeMenModel", name := "fits", desc := "()I" } : Jvm.MethodName)) ∈ lw_all := lw_g (lw_at lw_m8 54 rfl) rfl
theorem q1836 : (Jvm.Cond.methodLink "TreesBeforeMenLaw" (202 : Nat) ({ cls := "TreesBeforeMenModel", name := "ask", desc := "()I" } : Jvm.MethodName)) ∈ lw_all := lw_g (lw_at lw_m8 66 rfl) rfl
theorem q1840 : (Jvm.Cond.methodLink "TreesBeforeMenLaw" (206 : Nat) ({ cls := "TreesBeforeMenModel", name := "rests", desc := "(I)I" } : Jvm.MethodName)) ∈ lw_all := lw_g (lw_at lw_m8 70 rfl) rfl
theorem q1851 : (Jvm.Cond.methodLink "TreesBeforeMenLaw" (210 : Nat) ({ cls := "TreesBeforeMenModel", name := "voyages", desc := "(II)I" } : Jvm.MethodName)) ∈ lw_all := lw_g (lw_at lw_m8 81 rfl) rfl
theorem q1860 : (Jvm.Cond.methodLink "TreesBeforeMenLaw" (214 : Nat) ({ cls := "TreesBeforeMenModel", name := "keep", desc := "(I)Z" } : Jvm.MethodName)) ∈ lw_all := lw_g (lw_at lw_m8 90 rfl) rfl
theorem q1865 : (Jvm.Cond.methodLink "TreesBeforeMenLaw" (218 : Nat) ({ cls := "TreesBeforeMenModel", name := "again", desc := "(I)Z" } : Jvm.MethodName)) ∈ lw_all := lw_g (lw_at lw_m8 95 rfl) rfl
theorem q1869 : (Jvm.Cond.methodLink "TreesBeforeMenLaw" (222 : Nat) ({ cls := "TreesBeforeMenModel", name := "count", desc := "(I)I" } : Jvm.MethodName)) ∈ lw_all := lw_g (lw_at lw_m8 99 rfl) rfl
theorem q1873 : (Jvm.Cond.methodLink "TreesBeforeMenLaw" (226 : Nat) ({ cls := "TreesBeforeMenModel", name := "row", desc := "(I)J" } : Jvm.MethodName)) ∈ lw_all := lw_g (lw_at lw_m8 103 rfl) rfl
/-! TreesBeforeMen$Kind -/
set_option maxRecDepth 100000
def RX2 : String := "TreesBeforeMen$Kind"
abbrev cX2_init : ByteArray := prog_7_method_1_code
def yX2_init : MethodName := ⟨RX2, "<init>", "(LTreesBeforeMen;)V"⟩
def dkwX2_init_0 : List UInt8 := [42, 43, 181, 0, 1, 42, 183, 0, 7, 177]
abbrev dktX2_init_0 : List UInt8 := dkwX2_init_0 ++ []
theorem dksX2_init_0 : cX2_init.data.toList.drop 0 = dktX2_init_0 := by decide +kernel
theorem dX2_init_0 : decode cX2_init 0 = .ok (.aload_n 0, 1) := dk_42 (dk_at dksX2_init_0 0 rfl rfl)
theorem dX2_init_1 : decode cX2_init 1 = .ok (.aload_n 1, 1) := dk_43 (dk_at dksX2_init_0 1 rfl rfl)
theorem dX2_init_2 : decode cX2_init 2 = .ok (.putfield 1, 3) := dk_181 0 1 (dk_at dksX2_init_0 2 rfl rfl)
theorem dX2_init_5 : decode cX2_init 5 = .ok (.aload_n 0, 1) := dk_42 (dk_at dksX2_init_0 5 rfl rfl)
theorem dX2_init_6 : decode cX2_init 6 = .ok (.invokespecial 7, 3) := dk_183 0 7 (dk_at dksX2_init_0 6 rfl rfl)
theorem dX2_init_9 : decode cX2_init 9 = .ok (.return_, 1) := dk_177 (dk_at dksX2_init_0 9 rfl rfl)
abbrev cX2_isDrawn : ByteArray := prog_7_method_3_code
def yX2_isDrawn : MethodName := ⟨RX2, "isDrawn", "(II)Z"⟩
def dkwX2_isDrawn_1 : List UInt8 := [161, 0, 7, 4, 167, 0, 4, 3, 172]
abbrev dktX2_isDrawn_1 : List UInt8 := dkwX2_isDrawn_1 ++ []
def dkwX2_isDrawn_0 : List UInt8 := [42, 180, 0, 1, 180, 0, 13, 27, 46, 158, 0, 20, 28, 42, 180, 0, 1, 180, 0, 13, 27, 46]
abbrev dktX2_isDrawn_0 : List UInt8 := dkwX2_isDrawn_0 ++ dktX2_isDrawn_1
theorem dksX2_isDrawn_0 : cX2_isDrawn.data.toList.drop 0 = dktX2_isDrawn_0 := by decide +kernel
theorem dksX2_isDrawn_1 : cX2_isDrawn.data.toList.drop 22 = dktX2_isDrawn_1 := dk_seg dksX2_isDrawn_0 22 rfl rfl
theorem dX2_isDrawn_0 : decode cX2_isDrawn 0 = .ok (.aload_n 0, 1) := dk_42 (dk_at dksX2_isDrawn_0 0 rfl rfl)
theorem dX2_isDrawn_1 : decode cX2_isDrawn 1 = .ok (.getfield 1, 3) := dk_180 0 1 (dk_at dksX2_isDrawn_0 1 rfl rfl)
theorem dX2_isDrawn_4 : decode cX2_isDrawn 4 = .ok (.getfield 13, 3) := dk_180 0 13 (dk_at dksX2_isDrawn_0 4 rfl rfl)
theorem dX2_isDrawn_7 : decode cX2_isDrawn 7 = .ok (.iload_n 1, 1) := dk_27 (dk_at dksX2_isDrawn_0 7 rfl rfl)
theorem dX2_isDrawn_8 : decode cX2_isDrawn 8 = .ok (.iaload, 1) := dk_46 (dk_at dksX2_isDrawn_0 8 rfl rfl)
theorem dX2_isDrawn_9 : decode cX2_isDrawn 9 = .ok (.ifCond .le 20, 3) := dk_158 0 20 (dk_at dksX2_isDrawn_0 9 rfl rfl)
theorem dX2_isDrawn_12 : decode cX2_isDrawn 12 = .ok (.iload_n 2, 1) := dk_28 (dk_at dksX2_isDrawn_0 12 rfl rfl)
theorem dX2_isDrawn_13 : decode cX2_isDrawn 13 = .ok (.aload_n 0, 1) := dk_42 (dk_at dksX2_isDrawn_0 13 rfl rfl)
theorem dX2_isDrawn_14 : decode cX2_isDrawn 14 = .ok (.getfield 1, 3) := dk_180 0 1 (dk_at dksX2_isDrawn_0 14 rfl rfl)
theorem dX2_isDrawn_17 : decode cX2_isDrawn 17 = .ok (.getfield 13, 3) := dk_180 0 13 (dk_at dksX2_isDrawn_0 17 rfl rfl)
theorem dX2_isDrawn_20 : decode cX2_isDrawn 20 = .ok (.iload_n 1, 1) := dk_27 (dk_at dksX2_isDrawn_0 20 rfl rfl)
theorem dX2_isDrawn_21 : decode cX2_isDrawn 21 = .ok (.iaload, 1) := dk_46 (dk_at dksX2_isDrawn_0 21 rfl rfl)
theorem dX2_isDrawn_22 : decode cX2_isDrawn 22 = .ok (.if_icmp .lt 7, 3) := dk_161 0 7 (dk_at dksX2_isDrawn_1 0 rfl rfl)
theorem dX2_isDrawn_25 : decode cX2_isDrawn 25 = .ok (.iconst 1, 1) := dk_4 (dk_at dksX2_isDrawn_1 3 rfl rfl)
theorem dX2_isDrawn_26 : decode cX2_isDrawn 26 = .ok (.goto 4, 3) := dk_167 0 4 (dk_at dksX2_isDrawn_1 4 rfl rfl)
theorem dX2_isDrawn_29 : decode cX2_isDrawn 29 = .ok (.iconst 0, 1) := dk_3 (dk_at dksX2_isDrawn_1 7 rfl rfl)
theorem dX2_isDrawn_30 : decode cX2_isDrawn 30 = .ok (.ireturn, 1) := dk_172 (dk_at dksX2_isDrawn_1 8 rfl rfl)
theorem q92 : (Jvm.Cond.initialized "TreesBeforeMen$Kind") ∈ lw_all := lw_g (lw_at lw_m1 2 rfl) rfl
theorem q133 : (Jvm.Cond.instanceMethod ({ cls := "TreesBeforeMen$Kind", name := "<init>", desc := "(LTreesBeforeMen;)V" } : Jvm.MethodName)) ∈ lw_all := lw_g (lw_at lw_m1 43 rfl) rfl
theorem q134 : (Jvm.Cond.code ({ cls := "TreesBeforeMen$Kind", name := "<init>", desc := "(LTreesBeforeMen;)V" } : Jvm.MethodName) prog_7_method_1_code (2 : Nat) (Option.none : Option Jvm.ClassFile.FieldType)) ∈ lw_all := lw_g (lw_at lw_m1 44 rfl) rfl
theorem q135 : (Jvm.Cond.methodLink "TreesBeforeMen$Kind" (7 : Nat) ({ cls := "java/lang/Object", name := "<init>", desc := "()V" } : Jvm.MethodName)) ∈ lw_all := lw_g (lw_at lw_m1 45 rfl) rfl
theorem q137 : (Jvm.Cond.fieldLink "TreesBeforeMen$Kind" (1 : Nat) "TreesBeforeMen$Kind" "this$0" "LTreesBeforeMen;") ∈ lw_all := lw_g (lw_at lw_m1 47 rfl) rfl
theorem q141 : (Jvm.Cond.soleField "TreesBeforeMen$Kind" "this$0") ∈ lw_all := lw_g (lw_at lw_m1 51 rfl) rfl
theorem q246 : (Jvm.Cond.fieldLinkNest "TreesBeforeMen$Kind" (13 : Nat) "TreesBeforeMen" "need" "[I" "TreesBeforeMen") ∈ lw_tbl := lw_at lw_m1 156 rfl
theorem q831 : (Jvm.Cond.declares ({ cls := "TreesBeforeMen$Kind", name := "doesRise", desc := "(LTreesBeforeMen$Voyage;II)Z" } : Jvm.MethodName)) ∈ lw_tbl := lw_at lw_m4 21 rfl
theorem q832 : (Jvm.Cond.sameMethod "TreesBeforeMen$Kind" "TreesBeforeMen$Kind" "doesRise" "(LTreesBeforeMen$Voyage;II)Z") ∈ lw_all := lw_g (lw_at lw_m4 22 rfl) rfl
theorem q844 : (Jvm.Cond.declares ({ cls := "TreesBeforeMen$Kind", name := "isDrawn", desc := "(II)Z" } : Jvm.MethodName)) ∈ lw_tbl := lw_at lw_m4 34 rfl
theorem q848 : (Jvm.Cond.instanceMethod ({ cls := "TreesBeforeMen$Kind", name := "isDrawn", desc := "(II)Z" } : Jvm.MethodName)) ∈ lw_all := lw_g (lw_at lw_m4 38 rfl) rfl
theorem q849 : (Jvm.Cond.code ({ cls := "TreesBeforeMen$Kind", name := "isDrawn", desc := "(II)Z" } : Jvm.MethodName) prog_7_method_3_code (3 : Nat) (Option.some Jvm.ClassFile.FieldType.boolean)) ∈ lw_all := lw_g (lw_at lw_m4 39 rfl) rfl
/-! TreesBeforeMen$Plain -/
set_option maxRecDepth 100000
def RX3 : String := "TreesBeforeMen$Plain"
def TX3 : u_T := fun k => match k with
  | 0 => ("TreesBeforeMen$Kind", "this$0", "LTreesBeforeMen;", true)
  | _ => ("TreesBeforeMen$Plain", "this$0", "LTreesBeforeMen;", true)
def tyX3 : Nat → FieldType := fun k => match k with
  | 0 => .object "TreesBeforeMen"
  | _ => .object "TreesBeforeMen"
abbrev wsX30 : List Cond := u_ws RX3 TX3 2
-- two fields of one name: no nmX3
theorem tyX3_ok : ∀ k, k < 2 → parseFieldDescriptor (TX3 k).2.2.1 = some (tyX3 k) := by decide +kernel
abbrev cX3_init : ByteArray := prog_10_method_1_code
def yX3_init : MethodName := ⟨RX3, "<init>", "(LTreesBeforeMen;)V"⟩
def dkwX3_init_0 : List UInt8 := [42, 43, 181, 0, 1, 42, 43, 183, 0, 7, 177]
abbrev dktX3_init_0 : List UInt8 := dkwX3_init_0 ++ []
theorem dksX3_init_0 : cX3_init.data.toList.drop 0 = dktX3_init_0 := by decide +kernel
theorem dX3_init_0 : decode cX3_init 0 = .ok (.aload_n 0, 1) := dk_42 (dk_at dksX3_init_0 0 rfl rfl)
theorem dX3_init_1 : decode cX3_init 1 = .ok (.aload_n 1, 1) := dk_43 (dk_at dksX3_init_0 1 rfl rfl)
theorem dX3_init_2 : decode cX3_init 2 = .ok (.putfield 1, 3) := dk_181 0 1 (dk_at dksX3_init_0 2 rfl rfl)
theorem dX3_init_5 : decode cX3_init 5 = .ok (.aload_n 0, 1) := dk_42 (dk_at dksX3_init_0 5 rfl rfl)
theorem dX3_init_6 : decode cX3_init 6 = .ok (.aload_n 1, 1) := dk_43 (dk_at dksX3_init_0 6 rfl rfl)
theorem dX3_init_7 : decode cX3_init 7 = .ok (.invokespecial 7, 3) := dk_183 0 7 (dk_at dksX3_init_0 7 rfl rfl)
theorem dX3_init_10 : decode cX3_init 10 = .ok (.return_, 1) := dk_177 (dk_at dksX3_init_0 10 rfl rfl)
abbrev cX3_doesRise : ByteArray := prog_10_method_2_code
def yX3_doesRise : MethodName := ⟨RX3, "doesRise", "(LTreesBeforeMen$Voyage;II)Z"⟩
def dkwX3_doesRise_1 : List UInt8 := [182, 0, 24, 153, 0, 7, 4, 167, 0, 4, 3, 172]
abbrev dktX3_doesRise_1 : List UInt8 := dkwX3_doesRise_1 ++ []
def dkwX3_doesRise_0 : List UInt8 := [43, 180, 0, 13, 28, 46, 8, 42, 180, 0, 1, 180, 0, 19, 28, 46, 104, 162, 0, 12, 42, 28, 29]
abbrev dktX3_doesRise_0 : List UInt8 := dkwX3_doesRise_0 ++ dktX3_doesRise_1
theorem dksX3_doesRise_0 : cX3_doesRise.data.toList.drop 0 = dktX3_doesRise_0 := by decide +kernel
theorem dksX3_doesRise_1 : cX3_doesRise.data.toList.drop 23 = dktX3_doesRise_1 := dk_seg dksX3_doesRise_0 23 rfl rfl
theorem dX3_doesRise_0 : decode cX3_doesRise 0 = .ok (.aload_n 1, 1) := dk_43 (dk_at dksX3_doesRise_0 0 rfl rfl)
theorem dX3_doesRise_1 : decode cX3_doesRise 1 = .ok (.getfield 13, 3) := dk_180 0 13 (dk_at dksX3_doesRise_0 1 rfl rfl)
theorem dX3_doesRise_4 : decode cX3_doesRise 4 = .ok (.iload_n 2, 1) := dk_28 (dk_at dksX3_doesRise_0 4 rfl rfl)
theorem dX3_doesRise_5 : decode cX3_doesRise 5 = .ok (.iaload, 1) := dk_46 (dk_at dksX3_doesRise_0 5 rfl rfl)
theorem dX3_doesRise_6 : decode cX3_doesRise 6 = .ok (.iconst 5, 1) := dk_8 (dk_at dksX3_doesRise_0 6 rfl rfl)
theorem dX3_doesRise_7 : decode cX3_doesRise 7 = .ok (.aload_n 0, 1) := dk_42 (dk_at dksX3_doesRise_0 7 rfl rfl)
theorem dX3_doesRise_8 : decode cX3_doesRise 8 = .ok (.getfield 1, 3) := dk_180 0 1 (dk_at dksX3_doesRise_0 8 rfl rfl)
theorem dX3_doesRise_11 : decode cX3_doesRise 11 = .ok (.getfield 19, 3) := dk_180 0 19 (dk_at dksX3_doesRise_0 11 rfl rfl)
theorem dX3_doesRise_14 : decode cX3_doesRise 14 = .ok (.iload_n 2, 1) := dk_28 (dk_at dksX3_doesRise_0 14 rfl rfl)
theorem dX3_doesRise_15 : decode cX3_doesRise 15 = .ok (.iaload, 1) := dk_46 (dk_at dksX3_doesRise_0 15 rfl rfl)
theorem dX3_doesRise_16 : decode cX3_doesRise 16 = .ok (.imul, 1) := dk_104 (dk_at dksX3_doesRise_0 16 rfl rfl)
theorem dX3_doesRise_17 : decode cX3_doesRise 17 = .ok (.if_icmp .ge 12, 3) := dk_162 0 12 (dk_at dksX3_doesRise_0 17 rfl rfl)
theorem dX3_doesRise_20 : decode cX3_doesRise 20 = .ok (.aload_n 0, 1) := dk_42 (dk_at dksX3_doesRise_0 20 rfl rfl)
theorem dX3_doesRise_21 : decode cX3_doesRise 21 = .ok (.iload_n 2, 1) := dk_28 (dk_at dksX3_doesRise_0 21 rfl rfl)
theorem dX3_doesRise_22 : decode cX3_doesRise 22 = .ok (.iload_n 3, 1) := dk_29 (dk_at dksX3_doesRise_0 22 rfl rfl)
theorem dX3_doesRise_23 : decode cX3_doesRise 23 = .ok (.invokevirtual 24, 3) := dk_182 0 24 (dk_at dksX3_doesRise_1 0 rfl rfl)
theorem dX3_doesRise_26 : decode cX3_doesRise 26 = .ok (.ifCond .eq 7, 3) := dk_153 0 7 (dk_at dksX3_doesRise_1 3 rfl rfl)
theorem dX3_doesRise_29 : decode cX3_doesRise 29 = .ok (.iconst 1, 1) := dk_4 (dk_at dksX3_doesRise_1 6 rfl rfl)
theorem dX3_doesRise_30 : decode cX3_doesRise 30 = .ok (.goto 4, 3) := dk_167 0 4 (dk_at dksX3_doesRise_1 7 rfl rfl)
theorem dX3_doesRise_33 : decode cX3_doesRise 33 = .ok (.iconst 0, 1) := dk_3 (dk_at dksX3_doesRise_1 10 rfl rfl)
theorem dX3_doesRise_34 : decode cX3_doesRise 34 = .ok (.ireturn, 1) := dk_172 (dk_at dksX3_doesRise_1 11 rfl rfl)
theorem q93 : (Jvm.Cond.initialized "TreesBeforeMen$Plain") ∈ lw_all := lw_g (lw_at lw_m1 3 rfl) rfl
theorem q128 : (Jvm.Cond.instantiable "TreesBeforeMen$Plain" (2 : Nat)) ∈ lw_all := lw_g (lw_at lw_m1 38 rfl) rfl
theorem q130 : (Jvm.Cond.instanceMethod ({ cls := "TreesBeforeMen$Plain", name := "<init>", desc := "(LTreesBeforeMen;)V" } : Jvm.MethodName)) ∈ lw_all := lw_g (lw_at lw_m1 40 rfl) rfl
theorem q131 : (Jvm.Cond.code ({ cls := "TreesBeforeMen$Plain", name := "<init>", desc := "(LTreesBeforeMen;)V" } : Jvm.MethodName) prog_10_method_1_code (2 : Nat) (Option.none : Option Jvm.ClassFile.FieldType)) ∈ lw_all := lw_g (lw_at lw_m1 41 rfl) rfl
theorem q132 : (Jvm.Cond.methodLinkNest "TreesBeforeMen$Plain" (7 : Nat) ({ cls := "TreesBeforeMen$Kind", name := "<init>", desc := "(LTreesBeforeMen;)V" } : Jvm.MethodName) "TreesBeforeMen") ∈ lw_tbl := lw_at lw_m1 42 rfl
theorem q136 : (Jvm.Cond.fieldLink "TreesBeforeMen$Plain" (1 : Nat) "TreesBeforeMen$Plain" "this$0" "LTreesBeforeMen;") ∈ lw_all := lw_g (lw_at lw_m1 46 rfl) rfl
theorem q138 : (Jvm.Cond.laysFinal "TreesBeforeMen$Plain" "TreesBeforeMen$Plain" "this$0" "LTreesBeforeMen;") ∈ lw_all := lw_g (lw_at lw_m1 48 rfl) rfl
theorem q139 : (Jvm.Cond.soleField "TreesBeforeMen$Plain" "this$0") ∈ lw_all := lw_g (lw_at lw_m1 49 rfl) rfl
theorem q140 : (Jvm.Cond.laysFinal "TreesBeforeMen$Plain" "TreesBeforeMen$Kind" "this$0" "LTreesBeforeMen;") ∈ lw_all := lw_g (lw_at lw_m1 50 rfl) rfl
theorem q142 : (Jvm.Cond.superclass "TreesBeforeMen$Plain" "TreesBeforeMen$Kind") ∈ lw_all := lw_g (lw_at lw_m1 52 rfl) rfl
theorem q196 : (Jvm.Cond.fieldLink "TreesBeforeMen$Plain" (13 : Nat) "TreesBeforeMen$Voyage" "grudge" "[I") ∈ lw_all := lw_g (lw_at lw_m1 106 rfl) rfl
theorem q244 : (Jvm.Cond.fieldLinkNest "TreesBeforeMen$Plain" (19 : Nat) "TreesBeforeMen" "temper" "[I" "TreesBeforeMen") ∈ lw_tbl := lw_at lw_m1 154 rfl
theorem q840 : (Jvm.Cond.instanceMethod ({ cls := "TreesBeforeMen$Plain", name := "doesRise", desc := "(LTreesBeforeMen$Voyage;II)Z" } : Jvm.MethodName)) ∈ lw_all := lw_g (lw_at lw_m4 30 rfl) rfl
theorem q841 : (Jvm.Cond.code ({ cls := "TreesBeforeMen$Plain", name := "doesRise", desc := "(LTreesBeforeMen$Voyage;II)Z" } : Jvm.MethodName) prog_10_method_2_code (4 : Nat) (Option.some Jvm.ClassFile.FieldType.boolean)) ∈ lw_all := lw_g (lw_at lw_m4 31 rfl) rfl
theorem q842 : (Jvm.Cond.methodLink "TreesBeforeMen$Plain" (24 : Nat) ({ cls := "TreesBeforeMen$Plain", name := "isDrawn", desc := "(II)Z" } : Jvm.MethodName)) ∈ lw_all := lw_g (lw_at lw_m4 32 rfl) rfl
theorem q843 : (Jvm.Cond.sameMethod "TreesBeforeMen$Plain" "TreesBeforeMen$Kind" "isDrawn" "(II)Z") ∈ lw_all := lw_g (lw_at lw_m4 33 rfl) rfl
theorem q847 : (Jvm.Cond.selects "TreesBeforeMen$Plain" ({ cls := "TreesBeforeMen$Plain", name := "isDrawn", desc := "(II)Z" } : Jvm.MethodName) ({ cls := "TreesBeforeMen$Kind", name := "isDrawn", desc := "(II)Z" } : Jvm.MethodName)) ∈ lw_all := lw_g (lw_at lw_m4 37 rfl) rfl
theorem q860 : (Jvm.Cond.selects "TreesBeforeMen$Plain" ({ cls := "TreesBeforeMen$Kind", name := "doesRise", desc := "(LTreesBeforeMen$Voyage;II)Z" } : Jvm.MethodName) ({ cls := "TreesBeforeMen$Plain", name := "doesRise", desc := "(LTreesBeforeMen$Voyage;II)Z" } : Jvm.MethodName)) ∈ lw_all := lw_g (lw_at lw_m4 50 rfl) rfl
theorem q1878 : (Jvm.Cond.sameMethod "TreesBeforeMen$Plain" "TreesBeforeMen$Plain" "doesRise" "(LTreesBeforeMen$Voyage;II)Z") ∈ lw_all := lw_g (lw_at lw_m8 108 rfl) rfl
theorem q1881 : (Jvm.Cond.castable "TreesBeforeMen$Plain" "java/lang/Object") ∈ lw_tbl := lw_at lw_m8 111 rfl
theorem in_X3 : ∀ w ∈ wsX30, w ∈ lw_all := lw_in wsX30 [140, 138] (by decide +kernel) (by decide +kernel)
/-! TreesBeforeMen$Forced -/
set_option maxRecDepth 100000
def RX4 : String := "TreesBeforeMen$Forced"
def TX4 : u_T := fun k => match k with
  | 0 => ("TreesBeforeMen$Kind", "this$0", "LTreesBeforeMen;", true)
  | _ => ("TreesBeforeMen$Forced", "this$0", "LTreesBeforeMen;", true)
def tyX4 : Nat → FieldType := fun k => match k with
  | 0 => .object "TreesBeforeMen"
  | _ => .object "TreesBeforeMen"
abbrev wsX40 : List Cond := u_ws RX4 TX4 2
-- two fields of one name: no nmX4
theorem tyX4_ok : ∀ k, k < 2 → parseFieldDescriptor (TX4 k).2.2.1 = some (tyX4 k) := by decide +kernel
abbrev cX4_init : ByteArray := prog_5_method_1_code
def yX4_init : MethodName := ⟨RX4, "<init>", "(LTreesBeforeMen;)V"⟩
def dkwX4_init_0 : List UInt8 := [42, 43, 181, 0, 1, 42, 43, 183, 0, 7, 177]
abbrev dktX4_init_0 : List UInt8 := dkwX4_init_0 ++ []
theorem dksX4_init_0 : cX4_init.data.toList.drop 0 = dktX4_init_0 := by decide +kernel
theorem dX4_init_0 : decode cX4_init 0 = .ok (.aload_n 0, 1) := dk_42 (dk_at dksX4_init_0 0 rfl rfl)
theorem dX4_init_1 : decode cX4_init 1 = .ok (.aload_n 1, 1) := dk_43 (dk_at dksX4_init_0 1 rfl rfl)
theorem dX4_init_2 : decode cX4_init 2 = .ok (.putfield 1, 3) := dk_181 0 1 (dk_at dksX4_init_0 2 rfl rfl)
theorem dX4_init_5 : decode cX4_init 5 = .ok (.aload_n 0, 1) := dk_42 (dk_at dksX4_init_0 5 rfl rfl)
theorem dX4_init_6 : decode cX4_init 6 = .ok (.aload_n 1, 1) := dk_43 (dk_at dksX4_init_0 6 rfl rfl)
theorem dX4_init_7 : decode cX4_init 7 = .ok (.invokespecial 7, 3) := dk_183 0 7 (dk_at dksX4_init_0 7 rfl rfl)
theorem dX4_init_10 : decode cX4_init 10 = .ok (.return_, 1) := dk_177 (dk_at dksX4_init_0 10 rfl rfl)
abbrev cX4_doesRise : ByteArray := prog_5_method_2_code
def yX4_doesRise : MethodName := ⟨RX4, "doesRise", "(LTreesBeforeMen$Voyage;II)Z"⟩
def dkwX4_doesRise_0 : List UInt8 := [42, 28, 29, 182, 0, 13, 172]
abbrev dktX4_doesRise_0 : List UInt8 := dkwX4_doesRise_0 ++ []
theorem dksX4_doesRise_0 : cX4_doesRise.data.toList.drop 0 = dktX4_doesRise_0 := by decide +kernel
theorem dX4_doesRise_0 : decode cX4_doesRise 0 = .ok (.aload_n 0, 1) := dk_42 (dk_at dksX4_doesRise_0 0 rfl rfl)
theorem dX4_doesRise_1 : decode cX4_doesRise 1 = .ok (.iload_n 2, 1) := dk_28 (dk_at dksX4_doesRise_0 1 rfl rfl)
theorem dX4_doesRise_2 : decode cX4_doesRise 2 = .ok (.iload_n 3, 1) := dk_29 (dk_at dksX4_doesRise_0 2 rfl rfl)
theorem dX4_doesRise_3 : decode cX4_doesRise 3 = .ok (.invokevirtual 13, 3) := dk_182 0 13 (dk_at dksX4_doesRise_0 3 rfl rfl)
theorem dX4_doesRise_6 : decode cX4_doesRise 6 = .ok (.ireturn, 1) := dk_172 (dk_at dksX4_doesRise_0 6 rfl rfl)
theorem q94 : (Jvm.Cond.initialized "TreesBeforeMen$Forced") ∈ lw_all := lw_g (lw_at lw_m1 4 rfl) rfl
theorem q144 : (Jvm.Cond.instantiable "TreesBeforeMen$Forced" (2 : Nat)) ∈ lw_all := lw_g (lw_at lw_m1 54 rfl) rfl
theorem q146 : (Jvm.Cond.instanceMethod ({ cls := "TreesBeforeMen$Forced", name := "<init>", desc := "(LTreesBeforeMen;)V" } : Jvm.MethodName)) ∈ lw_all := lw_g (lw_at lw_m1 56 rfl) rfl
theorem q147 : (Jvm.Cond.code ({ cls := "TreesBeforeMen$Forced", name := "<init>", desc := "(LTreesBeforeMen;)V" } : Jvm.MethodName) prog_5_method_1_code (2 : Nat) (Option.none : Option Jvm.ClassFile.FieldType)) ∈ lw_all := lw_g (lw_at lw_m1 57 rfl) rfl
theorem q148 : (Jvm.Cond.methodLinkNest "TreesBeforeMen$Forced" (7 : Nat) ({ cls := "TreesBeforeMen$Kind", name := "<init>", desc := "(LTreesBeforeMen;)V" } : Jvm.MethodName) "TreesBeforeMen") ∈ lw_tbl := lw_at lw_m1 58 rfl
theorem q149 : (Jvm.Cond.fieldLink "TreesBeforeMen$Forced" (1 : Nat) "TreesBeforeMen$Forced" "this$0" "LTreesBeforeMen;") ∈ lw_all := lw_g (lw_at lw_m1 59 rfl) rfl
theorem q150 : (Jvm.Cond.laysFinal "TreesBeforeMen$Forced" "TreesBeforeMen$Forced" "this$0" "LTreesBeforeMen;") ∈ lw_all := lw_g (lw_at lw_m1 60 rfl) rfl
theorem q151 : (Jvm.Cond.soleField "TreesBeforeMen$Forced" "this$0") ∈ lw_all := lw_g (lw_at lw_m1 61 rfl) rfl
theorem q152 : (Jvm.Cond.laysFinal "TreesBeforeMen$Forced" "TreesBeforeMen$Kind" "this$0" "LTreesBeforeMen;") ∈ lw_all := lw_g (lw_at lw_m1 62 rfl) rfl
theorem q153 : (Jvm.Cond.superclass "TreesBeforeMen$Forced" "TreesBeforeMen$Kind") ∈ lw_all := lw_g (lw_at lw_m1 63 rfl) rfl
theorem q850 : (Jvm.Cond.selects "TreesBeforeMen$Forced" ({ cls := "TreesBeforeMen$Kind", name := "doesRise", desc := "(LTreesBeforeMen$Voyage;II)Z" } : Jvm.MethodName) ({ cls := "TreesBeforeMen$Forced", name := "doesRise", desc := "(LTreesBeforeMen$Voyage;II)Z" } : Jvm.MethodName)) ∈ lw_all := lw_g (lw_at lw_m4 40 rfl) rfl
theorem q851 : (Jvm.Cond.instanceMethod ({ cls := "TreesBeforeMen$Forced", name := "doesRise", desc := "(LTreesBeforeMen$Voyage;II)Z" } : Jvm.MethodName)) ∈ lw_all := lw_g (lw_at lw_m4 41 rfl) rfl
theorem q852 : (Jvm.Cond.code ({ cls := "TreesBeforeMen$Forced", name := "doesRise", desc := "(LTreesBeforeMen$Voyage;II)Z" } : Jvm.MethodName) prog_5_method_2_code (4 : Nat) (Option.some Jvm.ClassFile.FieldType.boolean)) ∈ lw_all := lw_g (lw_at lw_m4 42 rfl) rfl
theorem q853 : (Jvm.Cond.methodLink "TreesBeforeMen$Forced" (13 : Nat) ({ cls := "TreesBeforeMen$Forced", name := "isDrawn", desc := "(II)Z" } : Jvm.MethodName)) ∈ lw_all := lw_g (lw_at lw_m4 43 rfl) rfl
theorem q854 : (Jvm.Cond.sameMethod "TreesBeforeMen$Forced" "TreesBeforeMen$Kind" "isDrawn" "(II)Z") ∈ lw_all := lw_g (lw_at lw_m4 44 rfl) rfl
theorem q855 : (Jvm.Cond.selects "TreesBeforeMen$Forced" ({ cls := "TreesBeforeMen$Forced", name := "isDrawn", desc := "(II)Z" } : Jvm.MethodName) ({ cls := "TreesBeforeMen$Kind", name := "isDrawn", desc := "(II)Z" } : Jvm.MethodName)) ∈ lw_all := lw_g (lw_at lw_m4 45 rfl) rfl
theorem q1882 : (Jvm.Cond.castable "TreesBeforeMen$Forced" "java/lang/Object") ∈ lw_tbl := lw_at lw_m8 112 rfl
theorem in_X4 : ∀ w ∈ wsX40, w ∈ lw_all := lw_in wsX40 [152, 150] (by decide +kernel) (by decide +kernel)
/-! TreesBeforeMen$Asleep -/
set_option maxRecDepth 100000
def RX5 : String := "TreesBeforeMen$Asleep"
def TX5 : u_T := fun k => match k with
  | 0 => ("TreesBeforeMen$Kind", "this$0", "LTreesBeforeMen;", true)
  | _ => ("TreesBeforeMen$Asleep", "this$0", "LTreesBeforeMen;", true)
def tyX5 : Nat → FieldType := fun k => match k with
  | 0 => .object "TreesBeforeMen"
  | _ => .object "TreesBeforeMen"
abbrev wsX50 : List Cond := u_ws RX5 TX5 2
-- two fields of one name: no nmX5
theorem tyX5_ok : ∀ k, k < 2 → parseFieldDescriptor (TX5 k).2.2.1 = some (tyX5 k) := by decide +kernel
abbrev cX5_init : ByteArray := prog_2_method_1_code
def yX5_init : MethodName := ⟨RX5, "<init>", "(LTreesBeforeMen;)V"⟩
def dkwX5_init_0 : List UInt8 := [42, 43, 181, 0, 1, 42, 43, 183, 0, 7, 177]
abbrev dktX5_init_0 : List UInt8 := dkwX5_init_0 ++ []
theorem dksX5_init_0 : cX5_init.data.toList.drop 0 = dktX5_init_0 := by decide +kernel
theorem dX5_init_0 : decode cX5_init 0 = .ok (.aload_n 0, 1) := dk_42 (dk_at dksX5_init_0 0 rfl rfl)
theorem dX5_init_1 : decode cX5_init 1 = .ok (.aload_n 1, 1) := dk_43 (dk_at dksX5_init_0 1 rfl rfl)
theorem dX5_init_2 : decode cX5_init 2 = .ok (.putfield 1, 3) := dk_181 0 1 (dk_at dksX5_init_0 2 rfl rfl)
theorem dX5_init_5 : decode cX5_init 5 = .ok (.aload_n 0, 1) := dk_42 (dk_at dksX5_init_0 5 rfl rfl)
theorem dX5_init_6 : decode cX5_init 6 = .ok (.aload_n 1, 1) := dk_43 (dk_at dksX5_init_0 6 rfl rfl)
theorem dX5_init_7 : decode cX5_init 7 = .ok (.invokespecial 7, 3) := dk_183 0 7 (dk_at dksX5_init_0 7 rfl rfl)
theorem dX5_init_10 : decode cX5_init 10 = .ok (.return_, 1) := dk_177 (dk_at dksX5_init_0 10 rfl rfl)
abbrev cX5_doesRise : ByteArray := prog_2_method_2_code
def yX5_doesRise : MethodName := ⟨RX5, "doesRise", "(LTreesBeforeMen$Voyage;II)Z"⟩
theorem dX5_doesRise_0 : decode cX5_doesRise 0 = .ok (.iconst 0, 1) := by decide +kernel
theorem dX5_doesRise_1 : decode cX5_doesRise 1 = .ok (.ireturn, 1) := by decide +kernel
theorem q95 : (Jvm.Cond.initialized "TreesBeforeMen$Asleep") ∈ lw_all := lw_g (lw_at lw_m1 5 rfl) rfl
theorem q155 : (Jvm.Cond.instantiable "TreesBeforeMen$Asleep" (2 : Nat)) ∈ lw_all := lw_g (lw_at lw_m1 65 rfl) rfl
theorem q157 : (Jvm.Cond.instanceMethod ({ cls := "TreesBeforeMen$Asleep", name := "<init>", desc := "(LTreesBeforeMen;)V" } : Jvm.MethodName)) ∈ lw_all := lw_g (lw_at lw_m1 67 rfl) rfl
theorem q158 : (Jvm.Cond.code ({ cls := "TreesBeforeMen$Asleep", name := "<init>", desc := "(LTreesBeforeMen;)V" } : Jvm.MethodName) prog_2_method_1_code (2 : Nat) (Option.none : Option Jvm.ClassFile.FieldType)) ∈ lw_all := lw_g (lw_at lw_m1 68 rfl) rfl
theorem q159 : (Jvm.Cond.methodLinkNest "TreesBeforeMen$Asleep" (7 : Nat) ({ cls := "TreesBeforeMen$Kind", name := "<init>", desc := "(LTreesBeforeMen;)V" } : Jvm.MethodName) "TreesBeforeMen") ∈ lw_tbl := lw_at lw_m1 69 rfl
theorem q160 : (Jvm.Cond.fieldLink "TreesBeforeMen$Asleep" (1 : Nat) "TreesBeforeMen$Asleep" "this$0" "LTreesBeforeMen;") ∈ lw_all := lw_g (lw_at lw_m1 70 rfl) rfl
theorem q161 : (Jvm.Cond.laysFinal "TreesBeforeMen$Asleep" "TreesBeforeMen$Asleep" "this$0" "LTreesBeforeMen;") ∈ lw_all := lw_g (lw_at lw_m1 71 rfl) rfl
theorem q162 : (Jvm.Cond.soleField "TreesBeforeMen$Asleep" "this$0") ∈ lw_all := lw_g (lw_at lw_m1 72 rfl) rfl
theorem q163 : (Jvm.Cond.laysFinal "TreesBeforeMen$Asleep" "TreesBeforeMen$Kind" "this$0" "LTreesBeforeMen;") ∈ lw_all := lw_g (lw_at lw_m1 73 rfl) rfl
theorem q164 : (Jvm.Cond.superclass "TreesBeforeMen$Asleep" "TreesBeforeMen$Kind") ∈ lw_all := lw_g (lw_at lw_m1 74 rfl) rfl
theorem q833 : (Jvm.Cond.selects "TreesBeforeMen$Asleep" ({ cls := "TreesBeforeMen$Kind", name := "doesRise", desc := "(LTreesBeforeMen$Voyage;II)Z" } : Jvm.MethodName) ({ cls := "TreesBeforeMen$Asleep", name := "doesRise", desc := "(LTreesBeforeMen$Voyage;II)Z" } : Jvm.MethodName)) ∈ lw_all := lw_g (lw_at lw_m4 23 rfl) rfl
theorem q834 : (Jvm.Cond.instanceMethod ({ cls := "TreesBeforeMen$Asleep", name := "doesRise", desc := "(LTreesBeforeMen$Voyage;II)Z" } : Jvm.MethodName)) ∈ lw_all := lw_g (lw_at lw_m4 24 rfl) rfl
theorem q835 : (Jvm.Cond.code ({ cls := "TreesBeforeMen$Asleep", name := "doesRise", desc := "(LTreesBeforeMen$Voyage;II)Z" } : Jvm.MethodName) prog_2_method_2_code (4 : Nat) (Option.some Jvm.ClassFile.FieldType.boolean)) ∈ lw_all := lw_g (lw_at lw_m4 25 rfl) rfl
theorem q1883 : (Jvm.Cond.castable "TreesBeforeMen$Asleep" "java/lang/Object") ∈ lw_tbl := lw_at lw_m8 113 rfl
theorem in_X5 : ∀ w ∈ wsX50, w ∈ lw_all := lw_in wsX50 [163, 161] (by decide +kernel) (by decide +kernel)
/-! TreesBeforeMen$Friend -/
set_option maxRecDepth 100000
def RX6 : String := "TreesBeforeMen$Friend"
def TX6 : u_T := fun k => match k with
  | 0 => ("TreesBeforeMen$Kind", "this$0", "LTreesBeforeMen;", true)
  | 1 => ("TreesBeforeMen$Plain", "this$0", "LTreesBeforeMen;", true)
  | _ => ("TreesBeforeMen$Friend", "this$0", "LTreesBeforeMen;", true)
def tyX6 : Nat → FieldType := fun k => match k with
  | 0 => .object "TreesBeforeMen"
  | 1 => .object "TreesBeforeMen"
  | _ => .object "TreesBeforeMen"
abbrev wsX60 : List Cond := u_ws RX6 TX6 3
-- two fields of one name: no nmX6
theorem tyX6_ok : ∀ k, k < 3 → parseFieldDescriptor (TX6 k).2.2.1 = some (tyX6 k) := by decide +kernel
abbrev cX6_init : ByteArray := prog_6_method_1_code
def yX6_init : MethodName := ⟨RX6, "<init>", "(LTreesBeforeMen;)V"⟩
def dkwX6_init_0 : List UInt8 := [42, 43, 181, 0, 1, 42, 43, 183, 0, 7, 177]
abbrev dktX6_init_0 : List UInt8 := dkwX6_init_0 ++ []
theorem dksX6_init_0 : cX6_init.data.toList.drop 0 = dktX6_init_0 := by decide +kernel
theorem dX6_init_0 : decode cX6_init 0 = .ok (.aload_n 0, 1) := dk_42 (dk_at dksX6_init_0 0 rfl rfl)
theorem dX6_init_1 : decode cX6_init 1 = .ok (.aload_n 1, 1) := dk_43 (dk_at dksX6_init_0 1 rfl rfl)
theorem dX6_init_2 : decode cX6_init 2 = .ok (.putfield 1, 3) := dk_181 0 1 (dk_at dksX6_init_0 2 rfl rfl)
theorem dX6_init_5 : decode cX6_init 5 = .ok (.aload_n 0, 1) := dk_42 (dk_at dksX6_init_0 5 rfl rfl)
theorem dX6_init_6 : decode cX6_init 6 = .ok (.aload_n 1, 1) := dk_43 (dk_at dksX6_init_0 6 rfl rfl)
theorem dX6_init_7 : decode cX6_init 7 = .ok (.invokespecial 7, 3) := dk_183 0 7 (dk_at dksX6_init_0 7 rfl rfl)
theorem dX6_init_10 : decode cX6_init 10 = .ok (.return_, 1) := dk_177 (dk_at dksX6_init_0 10 rfl rfl)
abbrev cX6_doesRise : ByteArray := prog_6_method_2_code
def yX6_doesRise : MethodName := ⟨RX6, "doesRise", "(LTreesBeforeMen$Voyage;II)Z"⟩
def dkwX6_doesRise_0 : List UInt8 := [42, 43, 28, 29, 4, 100, 183, 0, 13, 172]
abbrev dktX6_doesRise_0 : List UInt8 := dkwX6_doesRise_0 ++ []
theorem dksX6_doesRise_0 : cX6_doesRise.data.toList.drop 0 = dktX6_doesRise_0 := by decide +kernel
theorem dX6_doesRise_0 : decode cX6_doesRise 0 = .ok (.aload_n 0, 1) := dk_42 (dk_at dksX6_doesRise_0 0 rfl rfl)
theorem dX6_doesRise_1 : decode cX6_doesRise 1 = .ok (.aload_n 1, 1) := dk_43 (dk_at dksX6_doesRise_0 1 rfl rfl)
theorem dX6_doesRise_2 : decode cX6_doesRise 2 = .ok (.iload_n 2, 1) := dk_28 (dk_at dksX6_doesRise_0 2 rfl rfl)
theorem dX6_doesRise_3 : decode cX6_doesRise 3 = .ok (.iload_n 3, 1) := dk_29 (dk_at dksX6_doesRise_0 3 rfl rfl)
theorem dX6_doesRise_4 : decode cX6_doesRise 4 = .ok (.iconst 1, 1) := dk_4 (dk_at dksX6_doesRise_0 4 rfl rfl)
theorem dX6_doesRise_5 : decode cX6_doesRise 5 = .ok (.isub, 1) := dk_100 (dk_at dksX6_doesRise_0 5 rfl rfl)
theorem dX6_doesRise_6 : decode cX6_doesRise 6 = .ok (.invokespecial 13, 3) := dk_183 0 13 (dk_at dksX6_doesRise_0 6 rfl rfl)
theorem dX6_doesRise_9 : decode cX6_doesRise 9 = .ok (.ireturn, 1) := dk_172 (dk_at dksX6_doesRise_0 9 rfl rfl)
theorem q96 : (Jvm.Cond.initialized "TreesBeforeMen$Friend") ∈ lw_all := lw_g (lw_at lw_m1 6 rfl) rfl
theorem q166 : (Jvm.Cond.instantiable "TreesBeforeMen$Friend" (3 : Nat)) ∈ lw_all := lw_g (lw_at lw_m1 76 rfl) rfl
theorem q168 : (Jvm.Cond.instanceMethod ({ cls := "TreesBeforeMen$Friend", name := "<init>", desc := "(LTreesBeforeMen;)V" } : Jvm.MethodName)) ∈ lw_all := lw_g (lw_at lw_m1 78 rfl) rfl
theorem q169 : (Jvm.Cond.code ({ cls := "TreesBeforeMen$Friend", name := "<init>", desc := "(LTreesBeforeMen;)V" } : Jvm.MethodName) prog_6_method_1_code (2 : Nat) (Option.none : Option Jvm.ClassFile.FieldType)) ∈ lw_all := lw_g (lw_at lw_m1 79 rfl) rfl
theorem q170 : (Jvm.Cond.methodLinkNest "TreesBeforeMen$Friend" (7 : Nat) ({ cls := "TreesBeforeMen$Plain", name := "<init>", desc := "(LTreesBeforeMen;)V" } : Jvm.MethodName) "TreesBeforeMen") ∈ lw_tbl := lw_at lw_m1 80 rfl
theorem q171 : (Jvm.Cond.fieldLink "TreesBeforeMen$Friend" (1 : Nat) "TreesBeforeMen$Friend" "this$0" "LTreesBeforeMen;") ∈ lw_all := lw_g (lw_at lw_m1 81 rfl) rfl
theorem q172 : (Jvm.Cond.laysFinal "TreesBeforeMen$Friend" "TreesBeforeMen$Friend" "this$0" "LTreesBeforeMen;") ∈ lw_all := lw_g (lw_at lw_m1 82 rfl) rfl
theorem q173 : (Jvm.Cond.soleField "TreesBeforeMen$Friend" "this$0") ∈ lw_all := lw_g (lw_at lw_m1 83 rfl) rfl
theorem q174 : (Jvm.Cond.laysFinal "TreesBeforeMen$Friend" "TreesBeforeMen$Plain" "this$0" "LTreesBeforeMen;") ∈ lw_all := lw_g (lw_at lw_m1 84 rfl) rfl
theorem q175 : (Jvm.Cond.laysFinal "TreesBeforeMen$Friend" "TreesBeforeMen$Kind" "this$0" "LTreesBeforeMen;") ∈ lw_all := lw_g (lw_at lw_m1 85 rfl) rfl
theorem q176 : (Jvm.Cond.superclass "TreesBeforeMen$Friend" "TreesBeforeMen$Plain") ∈ lw_all := lw_g (lw_at lw_m1 86 rfl) rfl
theorem q846 : (Jvm.Cond.selects "TreesBeforeMen$Friend" ({ cls := "TreesBeforeMen$Plain", name := "isDrawn", desc := "(II)Z" } : Jvm.MethodName) ({ cls := "TreesBeforeMen$Kind", name := "isDrawn", desc := "(II)Z" } : Jvm.MethodName)) ∈ lw_all := lw_g (lw_at lw_m4 36 rfl) rfl
theorem q856 : (Jvm.Cond.selects "TreesBeforeMen$Friend" ({ cls := "TreesBeforeMen$Kind", name := "doesRise", desc := "(LTreesBeforeMen$Voyage;II)Z" } : Jvm.MethodName) ({ cls := "TreesBeforeMen$Friend", name := "doesRise", desc := "(LTreesBeforeMen$Voyage;II)Z" } : Jvm.MethodName)) ∈ lw_all := lw_g (lw_at lw_m4 46 rfl) rfl
theorem q857 : (Jvm.Cond.instanceMethod ({ cls := "TreesBeforeMen$Friend", name := "doesRise", desc := "(LTreesBeforeMen$Voyage;II)Z" } : Jvm.MethodName)) ∈ lw_all := lw_g (lw_at lw_m4 47 rfl) rfl
theorem q858 : (Jvm.Cond.code ({ cls := "TreesBeforeMen$Friend", name := "doesRise", desc := "(LTreesBeforeMen$Voyage;II)Z" } : Jvm.MethodName) prog_6_method_2_code (4 : Nat) (Option.some Jvm.ClassFile.FieldType.boolean)) ∈ lw_all := lw_g (lw_at lw_m4 48 rfl) rfl
theorem q859 : (Jvm.Cond.methodLink "TreesBeforeMen$Friend" (13 : Nat) ({ cls := "TreesBeforeMen$Plain", name := "doesRise", desc := "(LTreesBeforeMen$Voyage;II)Z" } : Jvm.MethodName)) ∈ lw_all := lw_g (lw_at lw_m4 49 rfl) rfl
theorem q1884 : (Jvm.Cond.castable "TreesBeforeMen$Friend" "java/lang/Object") ∈ lw_tbl := lw_at lw_m8 114 rfl
theorem in_X6 : ∀ w ∈ wsX60, w ∈ lw_all := lw_in wsX60 [175, 174, 172] (by decide +kernel) (by decide +kernel)
/-! TreesBeforeMen$Botanist -/
set_option maxRecDepth 100000
def RX7 : String := "TreesBeforeMen$Botanist"
def TX7 : u_T := fun k => match k with
  | 0 => ("TreesBeforeMen$Kind", "this$0", "LTreesBeforeMen;", true)
  | 1 => ("TreesBeforeMen$Plain", "this$0", "LTreesBeforeMen;", true)
  | _ => ("TreesBeforeMen$Botanist", "this$0", "LTreesBeforeMen;", true)
def tyX7 : Nat → FieldType := fun k => match k with
  | 0 => .object "TreesBeforeMen"
  | 1 => .object "TreesBeforeMen"
  | _ => .object "TreesBeforeMen"
abbrev wsX70 : List Cond := u_ws RX7 TX7 3
-- two fields of one name: no nmX7
theorem tyX7_ok : ∀ k, k < 3 → parseFieldDescriptor (TX7 k).2.2.1 = some (tyX7 k) := by decide +kernel
abbrev cX7_init : ByteArray := prog_3_method_1_code
def yX7_init : MethodName := ⟨RX7, "<init>", "(LTreesBeforeMen;)V"⟩
def dkwX7_init_0 : List UInt8 := [42, 43, 181, 0, 1, 42, 43, 183, 0, 7, 177]
abbrev dktX7_init_0 : List UInt8 := dkwX7_init_0 ++ []
theorem dksX7_init_0 : cX7_init.data.toList.drop 0 = dktX7_init_0 := by decide +kernel
theorem dX7_init_0 : decode cX7_init 0 = .ok (.aload_n 0, 1) := dk_42 (dk_at dksX7_init_0 0 rfl rfl)
theorem dX7_init_1 : decode cX7_init 1 = .ok (.aload_n 1, 1) := dk_43 (dk_at dksX7_init_0 1 rfl rfl)
theorem dX7_init_2 : decode cX7_init 2 = .ok (.putfield 1, 3) := dk_181 0 1 (dk_at dksX7_init_0 2 rfl rfl)
theorem dX7_init_5 : decode cX7_init 5 = .ok (.aload_n 0, 1) := dk_42 (dk_at dksX7_init_0 5 rfl rfl)
theorem dX7_init_6 : decode cX7_init 6 = .ok (.aload_n 1, 1) := dk_43 (dk_at dksX7_init_0 6 rfl rfl)
theorem dX7_init_7 : decode cX7_init 7 = .ok (.invokespecial 7, 3) := dk_183 0 7 (dk_at dksX7_init_0 7 rfl rfl)
theorem dX7_init_10 : decode cX7_init 10 = .ok (.return_, 1) := dk_177 (dk_at dksX7_init_0 10 rfl rfl)
abbrev cX7_doesRise : ByteArray := prog_3_method_2_code
def yX7_doesRise : MethodName := ⟨RX7, "doesRise", "(LTreesBeforeMen$Voyage;II)Z"⟩
def dkwX7_doesRise_1 : List UInt8 := [172]
abbrev dktX7_doesRise_1 : List UInt8 := dkwX7_doesRise_1 ++ []
def dkwX7_doesRise_0 : List UInt8 := [43, 180, 0, 13, 16, 10, 161, 0, 13, 42, 43, 28, 29, 183, 0, 19, 153, 0, 7, 4, 167, 0, 4, 3]
abbrev dktX7_doesRise_0 : List UInt8 := dkwX7_doesRise_0 ++ dktX7_doesRise_1
theorem dksX7_doesRise_0 : cX7_doesRise.data.toList.drop 0 = dktX7_doesRise_0 := by decide +kernel
theorem dksX7_doesRise_1 : cX7_doesRise.data.toList.drop 24 = dktX7_doesRise_1 := dk_seg dksX7_doesRise_0 24 rfl rfl
theorem dX7_doesRise_0 : decode cX7_doesRise 0 = .ok (.aload_n 1, 1) := dk_43 (dk_at dksX7_doesRise_0 0 rfl rfl)
theorem dX7_doesRise_1 : decode cX7_doesRise 1 = .ok (.getfield 13, 3) := dk_180 0 13 (dk_at dksX7_doesRise_0 1 rfl rfl)
theorem dX7_doesRise_4 : decode cX7_doesRise 4 = .ok (.bipush 10, 2) := dk_16 10 (dk_at dksX7_doesRise_0 4 rfl rfl)
theorem dX7_doesRise_6 : decode cX7_doesRise 6 = .ok (.if_icmp .lt 13, 3) := dk_161 0 13 (dk_at dksX7_doesRise_0 6 rfl rfl)
theorem dX7_doesRise_9 : decode cX7_doesRise 9 = .ok (.aload_n 0, 1) := dk_42 (dk_at dksX7_doesRise_0 9 rfl rfl)
theorem dX7_doesRise_10 : decode cX7_doesRise 10 = .ok (.aload_n 1, 1) := dk_43 (dk_at dksX7_doesRise_0 10 rfl rfl)
theorem dX7_doesRise_11 : decode cX7_doesRise 11 = .ok (.iload_n 2, 1) := dk_28 (dk_at dksX7_doesRise_0 11 rfl rfl)
theorem dX7_doesRise_12 : decode cX7_doesRise 12 = .ok (.iload_n 3, 1) := dk_29 (dk_at dksX7_doesRise_0 12 rfl rfl)
theorem dX7_doesRise_13 : decode cX7_doesRise 13 = .ok (.invokespecial 19, 3) := dk_183 0 19 (dk_at dksX7_doesRise_0 13 rfl rfl)
theorem dX7_doesRise_16 : decode cX7_doesRise 16 = .ok (.ifCond .eq 7, 3) := dk_153 0 7 (dk_at dksX7_doesRise_0 16 rfl rfl)
theorem dX7_doesRise_19 : decode cX7_doesRise 19 = .ok (.iconst 1, 1) := dk_4 (dk_at dksX7_doesRise_0 19 rfl rfl)
theorem dX7_doesRise_20 : decode cX7_doesRise 20 = .ok (.goto 4, 3) := dk_167 0 4 (dk_at dksX7_doesRise_0 20 rfl rfl)
theorem dX7_doesRise_23 : decode cX7_doesRise 23 = .ok (.iconst 0, 1) := dk_3 (dk_at dksX7_doesRise_0 23 rfl rfl)
theorem dX7_doesRise_24 : decode cX7_doesRise 24 = .ok (.ireturn, 1) := dk_172 (dk_at dksX7_doesRise_1 0 rfl rfl)
theorem q97 : (Jvm.Cond.initialized "TreesBeforeMen$Botanist") ∈ lw_all := lw_g (lw_at lw_m1 7 rfl) rfl
theorem q178 : (Jvm.Cond.instantiable "TreesBeforeMen$Botanist" (3 : Nat)) ∈ lw_all := lw_g (lw_at lw_m1 88 rfl) rfl
theorem q180 : (Jvm.Cond.instanceMethod ({ cls := "TreesBeforeMen$Botanist", name := "<init>", desc := "(LTreesBeforeMen;)V" } : Jvm.MethodName)) ∈ lw_all := lw_g (lw_at lw_m1 90 rfl) rfl
theorem q181 : (Jvm.Cond.code ({ cls := "TreesBeforeMen$Botanist", name := "<init>", desc := "(LTreesBeforeMen;)V" } : Jvm.MethodName) prog_3_method_1_code (2 : Nat) (Option.none : Option Jvm.ClassFile.FieldType)) ∈ lw_all := lw_g (lw_at lw_m1 91 rfl) rfl
theorem q182 : (Jvm.Cond.methodLinkNest "TreesBeforeMen$Botanist" (7 : Nat) ({ cls := "TreesBeforeMen$Plain", name := "<init>", desc := "(LTreesBeforeMen;)V" } : Jvm.MethodName) "TreesBeforeMen") ∈ lw_tbl := lw_at lw_m1 92 rfl
theorem q183 : (Jvm.Cond.fieldLink "TreesBeforeMen$Botanist" (1 : Nat) "TreesBeforeMen$Botanist" "this$0" "LTreesBeforeMen;") ∈ lw_all := lw_g (lw_at lw_m1 93 rfl) rfl
theorem q184 : (Jvm.Cond.laysFinal "TreesBeforeMen$Botanist" "TreesBeforeMen$Botanist" "this$0" "LTreesBeforeMen;") ∈ lw_all := lw_g (lw_at lw_m1 94 rfl) rfl
theorem q185 : (Jvm.Cond.soleField "TreesBeforeMen$Botanist" "this$0") ∈ lw_all := lw_g (lw_at lw_m1 95 rfl) rfl
theorem q186 : (Jvm.Cond.laysFinal "TreesBeforeMen$Botanist" "TreesBeforeMen$Plain" "this$0" "LTreesBeforeMen;") ∈ lw_all := lw_g (lw_at lw_m1 96 rfl) rfl
theorem q187 : (Jvm.Cond.laysFinal "TreesBeforeMen$Botanist" "TreesBeforeMen$Kind" "this$0" "LTreesBeforeMen;") ∈ lw_all := lw_g (lw_at lw_m1 97 rfl) rfl
theorem q188 : (Jvm.Cond.superclass "TreesBeforeMen$Botanist" "TreesBeforeMen$Plain") ∈ lw_all := lw_g (lw_at lw_m1 98 rfl) rfl
theorem q203 : (Jvm.Cond.fieldLink "TreesBeforeMen$Botanist" (13 : Nat) "TreesBeforeMen$Voyage" "trees" "I") ∈ lw_all := lw_g (lw_at lw_m1 113 rfl) rfl
theorem q836 : (Jvm.Cond.selects "TreesBeforeMen$Botanist" ({ cls := "TreesBeforeMen$Kind", name := "doesRise", desc := "(LTreesBeforeMen$Voyage;II)Z" } : Jvm.MethodName) ({ cls := "TreesBeforeMen$Botanist", name := "doesRise", desc := "(LTreesBeforeMen$Voyage;II)Z" } : Jvm.MethodName)) ∈ lw_all := lw_g (lw_at lw_m4 26 rfl) rfl
theorem q837 : (Jvm.Cond.instanceMethod ({ cls := "TreesBeforeMen$Botanist", name := "doesRise", desc := "(LTreesBeforeMen$Voyage;II)Z" } : Jvm.MethodName)) ∈ lw_all := lw_g (lw_at lw_m4 27 rfl) rfl
theorem q838 : (Jvm.Cond.code ({ cls := "TreesBeforeMen$Botanist", name := "doesRise", desc := "(LTreesBeforeMen$Voyage;II)Z" } : Jvm.MethodName) prog_3_method_2_code (4 : Nat) (Option.some Jvm.ClassFile.FieldType.boolean)) ∈ lw_all := lw_g (lw_at lw_m4 28 rfl) rfl
theorem q839 : (Jvm.Cond.methodLink "TreesBeforeMen$Botanist" (19 : Nat) ({ cls := "TreesBeforeMen$Plain", name := "doesRise", desc := "(LTreesBeforeMen$Voyage;II)Z" } : Jvm.MethodName)) ∈ lw_all := lw_g (lw_at lw_m4 29 rfl) rfl
theorem q845 : (Jvm.Cond.selects "TreesBeforeMen$Botanist" ({ cls := "TreesBeforeMen$Plain", name := "isDrawn", desc := "(II)Z" } : Jvm.MethodName) ({ cls := "TreesBeforeMen$Kind", name := "isDrawn", desc := "(II)Z" } : Jvm.MethodName)) ∈ lw_all := lw_g (lw_at lw_m4 35 rfl) rfl
theorem q1885 : (Jvm.Cond.castable "TreesBeforeMen$Botanist" "java/lang/Object") ∈ lw_tbl := lw_at lw_m8 115 rfl
theorem in_X7 : ∀ w ∈ wsX70, w ∈ lw_all := lw_in wsX70 [187, 186, 184] (by decide +kernel) (by decide +kernel)
/-! TreesBeforeMen$Voyage -/
set_option maxRecDepth 100000
def RX8 : String := "TreesBeforeMen$Voyage"
def TX8 : u_T := fun k => match k with
  | 0 => ("TreesBeforeMen$Voyage", "grudge", "[I", true)
  | 1 => ("TreesBeforeMen$Voyage", "where", "[I", true)
  | 2 => ("TreesBeforeMen$Voyage", "water", "I", false)
  | 3 => ("TreesBeforeMen$Voyage", "trees", "I", false)
  | 4 => ("TreesBeforeMen$Voyage", "forMan", "I", false)
  | 5 => ("TreesBeforeMen$Voyage", "forTree", "I", false)
  | _ => ("TreesBeforeMen$Voyage", "day", "I", false)
def tyX8 : Nat → FieldType := fun k => match k with
  | 0 => .array .int
  | 1 => .array .int
  | 2 => .int
  | 3 => .int
  | 4 => .int
  | 5 => .int
  | _ => .int
abbrev wsX80 : List Cond := u_ws RX8 TX8 7
theorem nmX8 : ∀ a, a < 7 → ∀ b, b < 7 → a ≠ b → (TX8 a).2.1 ≠ (TX8 b).2.1 := by decide +kernel
theorem tyX8_ok : ∀ k, k < 7 → parseFieldDescriptor (TX8 k).2.2.1 = some (tyX8 k) := by decide +kernel
abbrev cX8_init : ByteArray := prog_12_method_1_code
def yX8_init : MethodName := ⟨RX8, "<init>", "()V"⟩
def dkwX8_init_1 : List UInt8 := [181, 0, 18, 42, 16, 40, 181, 0, 22, 42, 6, 181, 0, 25, 42, 4, 181, 0, 28, 177]
abbrev dktX8_init_1 : List UInt8 := dkwX8_init_1 ++ []
def dkwX8_init_0 : List UInt8 := [42, 183, 0, 3, 42, 16, 8, 188, 10, 181, 0, 9, 42, 16, 8, 188, 10, 181, 0, 15, 42, 17, 0, 200]
abbrev dktX8_init_0 : List UInt8 := dkwX8_init_0 ++ dktX8_init_1
theorem dksX8_init_0 : cX8_init.data.toList.drop 0 = dktX8_init_0 := by decide +kernel
theorem dksX8_init_1 : cX8_init.data.toList.drop 24 = dktX8_init_1 := dk_seg dksX8_init_0 24 rfl rfl
theorem dX8_init_0 : decode cX8_init 0 = .ok (.aload_n 0, 1) := dk_42 (dk_at dksX8_init_0 0 rfl rfl)
theorem dX8_init_1 : decode cX8_init 1 = .ok (.invokespecial 3, 3) := dk_183 0 3 (dk_at dksX8_init_0 1 rfl rfl)
theorem dX8_init_4 : decode cX8_init 4 = .ok (.aload_n 0, 1) := dk_42 (dk_at dksX8_init_0 4 rfl rfl)
theorem dX8_init_5 : decode cX8_init 5 = .ok (.bipush 8, 2) := dk_16 8 (dk_at dksX8_init_0 5 rfl rfl)
theorem dX8_init_7 : decode cX8_init 7 = .ok (.newarray .int, 2) := dk_188_10 (dk_at dksX8_init_0 7 rfl rfl)
theorem dX8_init_9 : decode cX8_init 9 = .ok (.putfield 9, 3) := dk_181 0 9 (dk_at dksX8_init_0 9 rfl rfl)
theorem dX8_init_12 : decode cX8_init 12 = .ok (.aload_n 0, 1) := dk_42 (dk_at dksX8_init_0 12 rfl rfl)
theorem dX8_init_13 : decode cX8_init 13 = .ok (.bipush 8, 2) := dk_16 8 (dk_at dksX8_init_0 13 rfl rfl)
theorem dX8_init_15 : decode cX8_init 15 = .ok (.newarray .int, 2) := dk_188_10 (dk_at dksX8_init_0 15 rfl rfl)
theorem dX8_init_17 : decode cX8_init 17 = .ok (.putfield 15, 3) := dk_181 0 15 (dk_at dksX8_init_0 17 rfl rfl)
theorem dX8_init_20 : decode cX8_init 20 = .ok (.aload_n 0, 1) := dk_42 (dk_at dksX8_init_0 20 rfl rfl)
theorem dX8_init_21 : decode cX8_init 21 = .ok (.sipush 200, 3) := dk_17 0 200 (dk_at dksX8_init_0 21 rfl rfl)
theorem dX8_init_24 : decode cX8_init 24 = .ok (.putfield 18, 3) := dk_181 0 18 (dk_at dksX8_init_1 0 rfl rfl)
theorem dX8_init_27 : decode cX8_init 27 = .ok (.aload_n 0, 1) := dk_42 (dk_at dksX8_init_1 3 rfl rfl)
theorem dX8_init_28 : decode cX8_init 28 = .ok (.bipush 40, 2) := dk_16 40 (dk_at dksX8_init_1 4 rfl rfl)
theorem dX8_init_30 : decode cX8_init 30 = .ok (.putfield 22, 3) := dk_181 0 22 (dk_at dksX8_init_1 6 rfl rfl)
theorem dX8_init_33 : decode cX8_init 33 = .ok (.aload_n 0, 1) := dk_42 (dk_at dksX8_init_1 9 rfl rfl)
theorem dX8_init_34 : decode cX8_init 34 = .ok (.iconst 3, 1) := dk_6 (dk_at dksX8_init_1 10 rfl rfl)
theorem dX8_init_35 : decode cX8_init 35 = .ok (.putfield 25, 3) := dk_181 0 25 (dk_at dksX8_init_1 11 rfl rfl)
theorem dX8_init_38 : decode cX8_init 38 = .ok (.aload_n 0, 1) := dk_42 (dk_at dksX8_init_1 14 rfl rfl)
theorem dX8_init_39 : decode cX8_init 39 = .ok (.iconst 1, 1) := dk_4 (dk_at dksX8_init_1 15 rfl rfl)
theorem dX8_init_40 : decode cX8_init 40 = .ok (.putfield 28, 3) := dk_181 0 28 (dk_at dksX8_init_1 16 rfl rfl)
theorem dX8_init_43 : decode cX8_init 43 = .ok (.return_, 1) := dk_177 (dk_at dksX8_init_1 19 rfl rfl)
abbrev cX8_be : ByteArray := prog_12_method_2_code
def yX8_be : MethodName := ⟨RX8, "be", "(LTreesBeforeMen$Voyage;)V"⟩
def dkwX8_be_2 : List UInt8 := [180, 0, 25, 181, 0, 25, 42, 43, 180, 0, 28, 181, 0, 28, 42, 43, 180, 0, 37, 181, 0, 37, 177]
abbrev dktX8_be_2 : List UInt8 := dkwX8_be_2 ++ []
def dkwX8_be_1 : List UInt8 := [3, 16, 8, 184, 0, 31, 42, 43, 180, 0, 18, 181, 0, 18, 42, 43, 180, 0, 22, 181, 0, 22, 42, 43]
abbrev dktX8_be_1 : List UInt8 := dkwX8_be_1 ++ dktX8_be_2
def dkwX8_be_0 : List UInt8 := [43, 180, 0, 9, 3, 42, 180, 0, 9, 3, 16, 8, 184, 0, 31, 43, 180, 0, 15, 3, 42, 180, 0, 15]
abbrev dktX8_be_0 : List UInt8 := dkwX8_be_0 ++ dktX8_be_1
theorem dksX8_be_0 : cX8_be.data.toList.drop 0 = dktX8_be_0 := by decide +kernel
theorem dksX8_be_1 : cX8_be.data.toList.drop 24 = dktX8_be_1 := dk_seg dksX8_be_0 24 rfl rfl
theorem dksX8_be_2 : cX8_be.data.toList.drop 48 = dktX8_be_2 := dk_seg dksX8_be_1 24 rfl rfl
theorem dX8_be_0 : decode cX8_be 0 = .ok (.aload_n 1, 1) := dk_43 (dk_at dksX8_be_0 0 rfl rfl)
theorem dX8_be_1 : decode cX8_be 1 = .ok (.getfield 9, 3) := dk_180 0 9 (dk_at dksX8_be_0 1 rfl rfl)
theorem dX8_be_4 : decode cX8_be 4 = .ok (.iconst 0, 1) := dk_3 (dk_at dksX8_be_0 4 rfl rfl)
theorem dX8_be_5 : decode cX8_be 5 = .ok (.aload_n 0, 1) := dk_42 (dk_at dksX8_be_0 5 rfl rfl)
theorem dX8_be_6 : decode cX8_be 6 = .ok (.getfield 9, 3) := dk_180 0 9 (dk_at dksX8_be_0 6 rfl rfl)
theorem dX8_be_9 : decode cX8_be 9 = .ok (.iconst 0, 1) := dk_3 (dk_at dksX8_be_0 9 rfl rfl)
theorem dX8_be_10 : decode cX8_be 10 = .ok (.bipush 8, 2) := dk_16 8 (dk_at dksX8_be_0 10 rfl rfl)
theorem dX8_be_12 : decode cX8_be 12 = .ok (.invokestatic 31, 3) := dk_184 0 31 (dk_at dksX8_be_0 12 rfl rfl)
theorem dX8_be_15 : decode cX8_be 15 = .ok (.aload_n 1, 1) := dk_43 (dk_at dksX8_be_0 15 rfl rfl)
theorem dX8_be_16 : decode cX8_be 16 = .ok (.getfield 15, 3) := dk_180 0 15 (dk_at dksX8_be_0 16 rfl rfl)
theorem dX8_be_19 : decode cX8_be 19 = .ok (.iconst 0, 1) := dk_3 (dk_at dksX8_be_0 19 rfl rfl)
theorem dX8_be_20 : decode cX8_be 20 = .ok (.aload_n 0, 1) := dk_42 (dk_at dksX8_be_0 20 rfl rfl)
theorem dX8_be_21 : decode cX8_be 21 = .ok (.getfield 15, 3) := dk_180 0 15 (dk_at dksX8_be_0 21 rfl rfl)
theorem dX8_be_24 : decode cX8_be 24 = .ok (.iconst 0, 1) := dk_3 (dk_at dksX8_be_1 0 rfl rfl)
theorem dX8_be_25 : decode cX8_be 25 = .ok (.bipush 8, 2) := dk_16 8 (dk_at dksX8_be_1 1 rfl rfl)
theorem dX8_be_27 : decode cX8_be 27 = .ok (.invokestatic 31, 3) := dk_184 0 31 (dk_at dksX8_be_1 3 rfl rfl)
theorem dX8_be_30 : decode cX8_be 30 = .ok (.aload_n 0, 1) := dk_42 (dk_at dksX8_be_1 6 rfl rfl)
theorem dX8_be_31 : decode cX8_be 31 = .ok (.aload_n 1, 1) := dk_43 (dk_at dksX8_be_1 7 rfl rfl)
theorem dX8_be_32 : decode cX8_be 32 = .ok (.getfield 18, 3) := dk_180 0 18 (dk_at dksX8_be_1 8 rfl rfl)
theorem dX8_be_35 : decode cX8_be 35 = .ok (.putfield 18, 3) := dk_181 0 18 (dk_at dksX8_be_1 11 rfl rfl)
theorem dX8_be_38 : decode cX8_be 38 = .ok (.aload_n 0, 1) := dk_42 (dk_at dksX8_be_1 14 rfl rfl)
theorem dX8_be_39 : decode cX8_be 39 = .ok (.aload_n 1, 1) := dk_43 (dk_at dksX8_be_1 15 rfl rfl)
theorem dX8_be_40 : decode cX8_be 40 = .ok (.getfield 22, 3) := dk_180 0 22 (dk_at dksX8_be_1 16 rfl rfl)
theorem dX8_be_43 : decode cX8_be 43 = .ok (.putfield 22, 3) := dk_181 0 22 (dk_at dksX8_be_1 19 rfl rfl)
theorem dX8_be_46 : decode cX8_be 46 = .ok (.aload_n 0, 1) := dk_42 (dk_at dksX8_be_1 22 rfl rfl)
theorem dX8_be_47 : decode cX8_be 47 = .ok (.aload_n 1, 1) := dk_43 (dk_at dksX8_be_1 23 rfl rfl)
theorem dX8_be_48 : decode cX8_be 48 = .ok (.getfield 25, 3) := dk_180 0 25 (dk_at dksX8_be_2 0 rfl rfl)
theorem dX8_be_51 : decode cX8_be 51 = .ok (.putfield 25, 3) := dk_181 0 25 (dk_at dksX8_be_2 3 rfl rfl)
theorem dX8_be_54 : decode cX8_be 54 = .ok (.aload_n 0, 1) := dk_42 (dk_at dksX8_be_2 6 rfl rfl)
theorem dX8_be_55 : decode cX8_be 55 = .ok (.aload_n 1, 1) := dk_43 (dk_at dksX8_be_2 7 rfl rfl)
theorem dX8_be_56 : decode cX8_be 56 = .ok (.getfield 28, 3) := dk_180 0 28 (dk_at dksX8_be_2 8 rfl rfl)
theorem dX8_be_59 : decode cX8_be 59 = .ok (.putfield 28, 3) := dk_181 0 28 (dk_at dksX8_be_2 11 rfl rfl)
theorem dX8_be_62 : decode cX8_be 62 = .ok (.aload_n 0, 1) := dk_42 (dk_at dksX8_be_2 14 rfl rfl)
theorem dX8_be_63 : decode cX8_be 63 = .ok (.aload_n 1, 1) := dk_43 (dk_at dksX8_be_2 15 rfl rfl)
theorem dX8_be_64 : decode cX8_be 64 = .ok (.getfield 37, 3) := dk_180 0 37 (dk_at dksX8_be_2 16 rfl rfl)
theorem dX8_be_67 : decode cX8_be 67 = .ok (.putfield 37, 3) := dk_181 0 37 (dk_at dksX8_be_2 19 rfl rfl)
theorem dX8_be_70 : decode cX8_be 70 = .ok (.return_, 1) := dk_177 (dk_at dksX8_be_2 22 rfl rfl)
abbrev cX8_gives : ByteArray := prog_12_method_6_code
def yX8_gives : MethodName := ⟨RX8, "gives", "(I)Z"⟩
def dkwX8_gives_1 : List UInt8 := [61, 42, 180, 0, 18, 28, 162, 0, 5, 3, 172, 42, 89, 180, 0, 18, 28, 100, 181, 0, 18, 4, 172]
abbrev dktX8_gives_1 : List UInt8 := dkwX8_gives_1 ++ []
def dkwX8_gives_0 : List UInt8 := [42, 180, 0, 25, 42, 27, 3, 182, 0, 49, 184, 0, 52, 104, 42, 180, 0, 28, 42, 180, 0, 22, 104, 96]
abbrev dktX8_gives_0 : List UInt8 := dkwX8_gives_0 ++ dktX8_gives_1
theorem dksX8_gives_0 : cX8_gives.data.toList.drop 0 = dktX8_gives_0 := by decide +kernel
theorem dksX8_gives_1 : cX8_gives.data.toList.drop 24 = dktX8_gives_1 := dk_seg dksX8_gives_0 24 rfl rfl
theorem dX8_gives_0 : decode cX8_gives 0 = .ok (.aload_n 0, 1) := dk_42 (dk_at dksX8_gives_0 0 rfl rfl)
theorem dX8_gives_1 : decode cX8_gives 1 = .ok (.getfield 25, 3) := dk_180 0 25 (dk_at dksX8_gives_0 1 rfl rfl)
theorem dX8_gives_4 : decode cX8_gives 4 = .ok (.aload_n 0, 1) := dk_42 (dk_at dksX8_gives_0 4 rfl rfl)
theorem dX8_gives_5 : decode cX8_gives 5 = .ok (.iload_n 1, 1) := dk_27 (dk_at dksX8_gives_0 5 rfl rfl)
theorem dX8_gives_6 : decode cX8_gives 6 = .ok (.iconst 0, 1) := dk_3 (dk_at dksX8_gives_0 6 rfl rfl)
theorem dX8_gives_7 : decode cX8_gives 7 = .ok (.invokevirtual 49, 3) := dk_182 0 49 (dk_at dksX8_gives_0 7 rfl rfl)
theorem dX8_gives_10 : decode cX8_gives 10 = .ok (.invokestatic 52, 3) := dk_184 0 52 (dk_at dksX8_gives_0 10 rfl rfl)
theorem dX8_gives_13 : decode cX8_gives 13 = .ok (.imul, 1) := dk_104 (dk_at dksX8_gives_0 13 rfl rfl)
theorem dX8_gives_14 : decode cX8_gives 14 = .ok (.aload_n 0, 1) := dk_42 (dk_at dksX8_gives_0 14 rfl rfl)
theorem dX8_gives_15 : decode cX8_gives 15 = .ok (.getfield 28, 3) := dk_180 0 28 (dk_at dksX8_gives_0 15 rfl rfl)
theorem dX8_gives_18 : decode cX8_gives 18 = .ok (.aload_n 0, 1) := dk_42 (dk_at dksX8_gives_0 18 rfl rfl)
theorem dX8_gives_19 : decode cX8_gives 19 = .ok (.getfield 22, 3) := dk_180 0 22 (dk_at dksX8_gives_0 19 rfl rfl)
theorem dX8_gives_22 : decode cX8_gives 22 = .ok (.imul, 1) := dk_104 (dk_at dksX8_gives_0 22 rfl rfl)
theorem dX8_gives_23 : decode cX8_gives 23 = .ok (.iadd, 1) := dk_96 (dk_at dksX8_gives_0 23 rfl rfl)
theorem dX8_gives_24 : decode cX8_gives 24 = .ok (.istore_n 2, 1) := dk_61 (dk_at dksX8_gives_1 0 rfl rfl)
theorem dX8_gives_25 : decode cX8_gives 25 = .ok (.aload_n 0, 1) := dk_42 (dk_at dksX8_gives_1 1 rfl rfl)
theorem dX8_gives_26 : decode cX8_gives 26 = .ok (.getfield 18, 3) := dk_180 0 18 (dk_at dksX8_gives_1 2 rfl rfl)
theorem dX8_gives_29 : decode cX8_gives 29 = .ok (.iload_n 2, 1) := dk_28 (dk_at dksX8_gives_1 5 rfl rfl)
theorem dX8_gives_30 : decode cX8_gives 30 = .ok (.if_icmp .ge 5, 3) := dk_162 0 5 (dk_at dksX8_gives_1 6 rfl rfl)
theorem dX8_gives_33 : decode cX8_gives 33 = .ok (.iconst 0, 1) := dk_3 (dk_at dksX8_gives_1 9 rfl rfl)
theorem dX8_gives_34 : decode cX8_gives 34 = .ok (.ireturn, 1) := dk_172 (dk_at dksX8_gives_1 10 rfl rfl)
theorem dX8_gives_35 : decode cX8_gives 35 = .ok (.aload_n 0, 1) := dk_42 (dk_at dksX8_gives_1 11 rfl rfl)
theorem dX8_gives_36 : decode cX8_gives 36 = .ok (.dup, 1) := dk_89 (dk_at dksX8_gives_1 12 rfl rfl)
theorem dX8_gives_37 : decode cX8_gives 37 = .ok (.getfield 18, 3) := dk_180 0 18 (dk_at dksX8_gives_1 13 rfl rfl)
theorem dX8_gives_40 : decode cX8_gives 40 = .ok (.iload_n 2, 1) := dk_28 (dk_at dksX8_gives_1 16 rfl rfl)
theorem dX8_gives_41 : decode cX8_gives 41 = .ok (.isub, 1) := dk_100 (dk_at dksX8_gives_1 17 rfl rfl)
theorem dX8_gives_42 : decode cX8_gives 42 = .ok (.putfield 18, 3) := dk_181 0 18 (dk_at dksX8_gives_1 18 rfl rfl)
theorem dX8_gives_45 : decode cX8_gives 45 = .ok (.iconst 1, 1) := dk_4 (dk_at dksX8_gives_1 21 rfl rfl)
theorem dX8_gives_46 : decode cX8_gives 46 = .ok (.ireturn, 1) := dk_172 (dk_at dksX8_gives_1 22 rfl rfl)
abbrev cX8_those : ByteArray := prog_12_method_3_code
def yX8_those : MethodName := ⟨RX8, "those", "(II)I"⟩
def dkwX8_those_1 : List UInt8 := [21, 4, 120, 167, 0, 4, 3, 128, 62, 132, 4, 1, 167, 255, 225, 29, 172]
abbrev dktX8_those_1 : List UInt8 := dkwX8_those_1 ++ []
def dkwX8_those_0 : List UInt8 := [3, 62, 3, 54, 4, 21, 4, 27, 162, 0, 31, 29, 42, 180, 0, 15, 21, 4, 46, 28, 160, 0, 10, 4]
abbrev dktX8_those_0 : List UInt8 := dkwX8_those_0 ++ dktX8_those_1
theorem dksX8_those_0 : cX8_those.data.toList.drop 0 = dktX8_those_0 := by decide +kernel
theorem dksX8_those_1 : cX8_those.data.toList.drop 24 = dktX8_those_1 := dk_seg dksX8_those_0 24 rfl rfl
theorem dX8_those_0 : decode cX8_those 0 = .ok (.iconst 0, 1) := dk_3 (dk_at dksX8_those_0 0 rfl rfl)
theorem dX8_those_1 : decode cX8_those 1 = .ok (.istore_n 3, 1) := dk_62 (dk_at dksX8_those_0 1 rfl rfl)
theorem dX8_those_2 : decode cX8_those 2 = .ok (.iconst 0, 1) := dk_3 (dk_at dksX8_those_0 2 rfl rfl)
theorem dX8_those_3 : decode cX8_those 3 = .ok (.istore 4, 2) := dk_54 4 (dk_at dksX8_those_0 3 rfl rfl)
theorem dX8_those_5 : decode cX8_those 5 = .ok (.iload 4, 2) := dk_21 4 (dk_at dksX8_those_0 5 rfl rfl)
theorem dX8_those_7 : decode cX8_those 7 = .ok (.iload_n 1, 1) := dk_27 (dk_at dksX8_those_0 7 rfl rfl)
theorem dX8_those_8 : decode cX8_those 8 = .ok (.if_icmp .ge 31, 3) := dk_162 0 31 (dk_at dksX8_those_0 8 rfl rfl)
theorem dX8_those_11 : decode cX8_those 11 = .ok (.iload_n 3, 1) := dk_29 (dk_at dksX8_those_0 11 rfl rfl)
theorem dX8_those_12 : decode cX8_those 12 = .ok (.aload_n 0, 1) := dk_42 (dk_at dksX8_those_0 12 rfl rfl)
theorem dX8_those_13 : decode cX8_those 13 = .ok (.getfield 15, 3) := dk_180 0 15 (dk_at dksX8_those_0 13 rfl rfl)
theorem dX8_those_16 : decode cX8_those 16 = .ok (.iload 4, 2) := dk_21 4 (dk_at dksX8_those_0 16 rfl rfl)
theorem dX8_those_18 : decode cX8_those 18 = .ok (.iaload, 1) := dk_46 (dk_at dksX8_those_0 18 rfl rfl)
theorem dX8_those_19 : decode cX8_those 19 = .ok (.iload_n 2, 1) := dk_28 (dk_at dksX8_those_0 19 rfl rfl)
theorem dX8_those_20 : decode cX8_those 20 = .ok (.if_icmp .ne 10, 3) := dk_160 0 10 (dk_at dksX8_those_0 20 rfl rfl)
theorem dX8_those_23 : decode cX8_those 23 = .ok (.iconst 1, 1) := dk_4 (dk_at dksX8_those_0 23 rfl rfl)
theorem dX8_those_24 : decode cX8_those 24 = .ok (.iload 4, 2) := dk_21 4 (dk_at dksX8_those_1 0 rfl rfl)
theorem dX8_those_26 : decode cX8_those 26 = .ok (.ishl, 1) := dk_120 (dk_at dksX8_those_1 2 rfl rfl)
theorem dX8_those_27 : decode cX8_those 27 = .ok (.goto 4, 3) := dk_167 0 4 (dk_at dksX8_those_1 3 rfl rfl)
theorem dX8_those_30 : decode cX8_those 30 = .ok (.iconst 0, 1) := dk_3 (dk_at dksX8_those_1 6 rfl rfl)
theorem dX8_those_31 : decode cX8_those 31 = .ok (.ior, 1) := dk_128 (dk_at dksX8_those_1 7 rfl rfl)
theorem dX8_those_32 : decode cX8_those 32 = .ok (.istore_n 3, 1) := dk_62 (dk_at dksX8_those_1 8 rfl rfl)
theorem dX8_those_33 : decode cX8_those 33 = .ok (.iinc 4 1, 3) := dk_132 4 1 (dk_at dksX8_those_1 9 rfl rfl)
theorem dX8_those_36 : decode cX8_those 36 = .ok (.goto (-31), 3) := dk_167 255 225 (dk_at dksX8_those_1 12 rfl rfl)
theorem dX8_those_39 : decode cX8_those 39 = .ok (.iload_n 3, 1) := dk_29 (dk_at dksX8_those_1 15 rfl rfl)
theorem dX8_those_40 : decode cX8_those 40 = .ok (.ireturn, 1) := dk_172 (dk_at dksX8_those_1 16 rfl rfl)
abbrev cX8_angers : ByteArray := prog_12_method_4_code
def yX8_angers : MethodName := ⟨RX8, "angers", "(II)V"⟩
def dkwX8_angers_0 : List UInt8 := [42, 180, 0, 9, 27, 3, 16, 99, 42, 180, 0, 9, 27, 46, 28, 96, 184, 0, 40, 184, 0, 46, 79, 177]
abbrev dktX8_angers_0 : List UInt8 := dkwX8_angers_0 ++ []
theorem dksX8_angers_0 : cX8_angers.data.toList.drop 0 = dktX8_angers_0 := by decide +kernel
theorem dX8_angers_0 : decode cX8_angers 0 = .ok (.aload_n 0, 1) := dk_42 (dk_at dksX8_angers_0 0 rfl rfl)
theorem dX8_angers_1 : decode cX8_angers 1 = .ok (.getfield 9, 3) := dk_180 0 9 (dk_at dksX8_angers_0 1 rfl rfl)
theorem dX8_angers_4 : decode cX8_angers 4 = .ok (.iload_n 1, 1) := dk_27 (dk_at dksX8_angers_0 4 rfl rfl)
theorem dX8_angers_5 : decode cX8_angers 5 = .ok (.iconst 0, 1) := dk_3 (dk_at dksX8_angers_0 5 rfl rfl)
theorem dX8_angers_6 : decode cX8_angers 6 = .ok (.bipush 99, 2) := dk_16 99 (dk_at dksX8_angers_0 6 rfl rfl)
theorem dX8_angers_8 : decode cX8_angers 8 = .ok (.aload_n 0, 1) := dk_42 (dk_at dksX8_angers_0 8 rfl rfl)
theorem dX8_angers_9 : decode cX8_angers 9 = .ok (.getfield 9, 3) := dk_180 0 9 (dk_at dksX8_angers_0 9 rfl rfl)
theorem dX8_angers_12 : decode cX8_angers 12 = .ok (.iload_n 1, 1) := dk_27 (dk_at dksX8_angers_0 12 rfl rfl)
theorem dX8_angers_13 : decode cX8_angers 13 = .ok (.iaload, 1) := dk_46 (dk_at dksX8_angers_0 13 rfl rfl)
theorem dX8_angers_14 : decode cX8_angers 14 = .ok (.iload_n 2, 1) := dk_28 (dk_at dksX8_angers_0 14 rfl rfl)
theorem dX8_angers_15 : decode cX8_angers 15 = .ok (.iadd, 1) := dk_96 (dk_at dksX8_angers_0 15 rfl rfl)
theorem dX8_angers_16 : decode cX8_angers 16 = .ok (.invokestatic 40, 3) := dk_184 0 40 (dk_at dksX8_angers_0 16 rfl rfl)
theorem dX8_angers_19 : decode cX8_angers 19 = .ok (.invokestatic 46, 3) := dk_184 0 46 (dk_at dksX8_angers_0 19 rfl rfl)
theorem dX8_angers_22 : decode cX8_angers 22 = .ok (.iastore, 1) := dk_79 (dk_at dksX8_angers_0 22 rfl rfl)
theorem dX8_angers_23 : decode cX8_angers 23 = .ok (.return_, 1) := dk_177 (dk_at dksX8_angers_0 23 rfl rfl)
abbrev cX8_fill : ByteArray := prog_12_method_5_code
def yX8_fill : MethodName := ⟨RX8, "fill", "(I)I"⟩
def dkwX8_fill_0 : List UInt8 := [42, 17, 3, 231, 42, 180, 0, 18, 27, 96, 184, 0, 40, 181, 0, 18, 42, 180, 0, 18, 172]
abbrev dktX8_fill_0 : List UInt8 := dkwX8_fill_0 ++ []
theorem dksX8_fill_0 : cX8_fill.data.toList.drop 0 = dktX8_fill_0 := by decide +kernel
theorem dX8_fill_0 : decode cX8_fill 0 = .ok (.aload_n 0, 1) := dk_42 (dk_at dksX8_fill_0 0 rfl rfl)
theorem dX8_fill_1 : decode cX8_fill 1 = .ok (.sipush 999, 3) := dk_17 3 231 (dk_at dksX8_fill_0 1 rfl rfl)
theorem dX8_fill_4 : decode cX8_fill 4 = .ok (.aload_n 0, 1) := dk_42 (dk_at dksX8_fill_0 4 rfl rfl)
theorem dX8_fill_5 : decode cX8_fill 5 = .ok (.getfield 18, 3) := dk_180 0 18 (dk_at dksX8_fill_0 5 rfl rfl)
theorem dX8_fill_8 : decode cX8_fill 8 = .ok (.iload_n 1, 1) := dk_27 (dk_at dksX8_fill_0 8 rfl rfl)
theorem dX8_fill_9 : decode cX8_fill 9 = .ok (.iadd, 1) := dk_96 (dk_at dksX8_fill_0 9 rfl rfl)
theorem dX8_fill_10 : decode cX8_fill 10 = .ok (.invokestatic 40, 3) := dk_184 0 40 (dk_at dksX8_fill_0 10 rfl rfl)
theorem dX8_fill_13 : decode cX8_fill 13 = .ok (.putfield 18, 3) := dk_181 0 18 (dk_at dksX8_fill_0 13 rfl rfl)
theorem dX8_fill_16 : decode cX8_fill 16 = .ok (.aload_n 0, 1) := dk_42 (dk_at dksX8_fill_0 16 rfl rfl)
theorem dX8_fill_17 : decode cX8_fill 17 = .ok (.getfield 18, 3) := dk_180 0 18 (dk_at dksX8_fill_0 17 rfl rfl)
theorem dX8_fill_20 : decode cX8_fill 20 = .ok (.ireturn, 1) := dk_172 (dk_at dksX8_fill_0 20 rfl rfl)
theorem q98 : (Jvm.Cond.initialized "TreesBeforeMen$Voyage") ∈ lw_all := lw_g (lw_at lw_m1 8 rfl) rfl
theorem q190 : (Jvm.Cond.instantiable "TreesBeforeMen$Voyage" (7 : Nat)) ∈ lw_all := lw_g (lw_at lw_m1 100 rfl) rfl
theorem q192 : (Jvm.Cond.instanceMethod ({ cls := "TreesBeforeMen$Voyage", name := "<init>", desc := "()V" } : Jvm.MethodName)) ∈ lw_all := lw_g (lw_at lw_m1 102 rfl) rfl
theorem q193 : (Jvm.Cond.code ({ cls := "TreesBeforeMen$Voyage", name := "<init>", desc := "()V" } : Jvm.MethodName) prog_12_method_1_code (1 : Nat) (Option.none : Option Jvm.ClassFile.FieldType)) ∈ lw_all := lw_g (lw_at lw_m1 103 rfl) rfl
theorem q194 : (Jvm.Cond.methodLink "TreesBeforeMen$Voyage" (3 : Nat) ({ cls := "java/lang/Object", name := "<init>", desc := "()V" } : Jvm.MethodName)) ∈ lw_all := lw_g (lw_at lw_m1 104 rfl) rfl
theorem q195 : (Jvm.Cond.fieldLink "TreesBeforeMen$Voyage" (9 : Nat) "TreesBeforeMen$Voyage" "grudge" "[I") ∈ lw_all := lw_g (lw_at lw_m1 105 rfl) rfl
theorem q198 : (Jvm.Cond.fieldLink "TreesBeforeMen$Voyage" (15 : Nat) "TreesBeforeMen$Voyage" "where" "[I") ∈ lw_all := lw_g (lw_at lw_m1 108 rfl) rfl
theorem q200 : (Jvm.Cond.fieldLink "TreesBeforeMen$Voyage" (18 : Nat) "TreesBeforeMen$Voyage" "water" "I") ∈ lw_all := lw_g (lw_at lw_m1 110 rfl) rfl
theorem q202 : (Jvm.Cond.fieldLink "TreesBeforeMen$Voyage" (22 : Nat) "TreesBeforeMen$Voyage" "trees" "I") ∈ lw_all := lw_g (lw_at lw_m1 112 rfl) rfl
theorem q206 : (Jvm.Cond.fieldLink "TreesBeforeMen$Voyage" (25 : Nat) "TreesBeforeMen$Voyage" "forMan" "I") ∈ lw_all := lw_g (lw_at lw_m1 116 rfl) rfl
theorem q208 : (Jvm.Cond.fieldLink "TreesBeforeMen$Voyage" (28 : Nat) "TreesBeforeMen$Voyage" "forTree" "I") ∈ lw_all := lw_g (lw_at lw_m1 118 rfl) rfl
theorem q210 : (Jvm.Cond.fieldLink "TreesBeforeMen$Voyage" (37 : Nat) "TreesBeforeMen$Voyage" "day" "I") ∈ lw_all := lw_g (lw_at lw_m1 120 rfl) rfl
theorem q213 : (Jvm.Cond.laysFinal "TreesBeforeMen$Voyage" "TreesBeforeMen$Voyage" "grudge" "[I") ∈ lw_all := lw_g (lw_at lw_m1 123 rfl) rfl
theorem q214 : (Jvm.Cond.soleField "TreesBeforeMen$Voyage" "grudge") ∈ lw_all := lw_g (lw_at lw_m1 124 rfl) rfl
theorem q215 : (Jvm.Cond.laysFinal "TreesBeforeMen$Voyage" "TreesBeforeMen$Voyage" "where" "[I") ∈ lw_all := lw_g (lw_at lw_m1 125 rfl) rfl
theorem q216 : (Jvm.Cond.soleField "TreesBeforeMen$Voyage" "where") ∈ lw_all := lw_g (lw_at lw_m1 126 rfl) rfl
theorem q217 : (Jvm.Cond.lays "TreesBeforeMen$Voyage" "TreesBeforeMen$Voyage" "water" "I") ∈ lw_all := lw_g (lw_at lw_m1 127 rfl) rfl
theorem q218 : (Jvm.Cond.soleField "TreesBeforeMen$Voyage" "water") ∈ lw_all := lw_g (lw_at lw_m1 128 rfl) rfl
theorem q219 : (Jvm.Cond.lays "TreesBeforeMen$Voyage" "TreesBeforeMen$Voyage" "trees" "I") ∈ lw_all := lw_g (lw_at lw_m1 129 rfl) rfl
theorem q220 : (Jvm.Cond.soleField "TreesBeforeMen$Voyage" "trees") ∈ lw_all := lw_g (lw_at lw_m1 130 rfl) rfl
theorem q221 : (Jvm.Cond.lays "TreesBeforeMen$Voyage" "TreesBeforeMen$Voyage" "forMan" "I") ∈ lw_all := lw_g (lw_at lw_m1 131 rfl) rfl
theorem q222 : (Jvm.Cond.soleField "TreesBeforeMen$Voyage" "forMan") ∈ lw_all := lw_g (lw_at lw_m1 132 rfl) rfl
theorem q223 : (Jvm.Cond.lays "TreesBeforeMen$Voyage" "TreesBeforeMen$Voyage" "forTree" "I") ∈ lw_all := lw_g (lw_at lw_m1 133 rfl) rfl
theorem q224 : (Jvm.Cond.soleField "TreesBeforeMen$Voyage" "forTree") ∈ lw_all := lw_g (lw_at lw_m1 134 rfl) rfl
theorem q225 : (Jvm.Cond.lays "TreesBeforeMen$Voyage" "TreesBeforeMen$Voyage" "day" "I") ∈ lw_all := lw_g (lw_at lw_m1 135 rfl) rfl
theorem q226 : (Jvm.Cond.soleField "TreesBeforeMen$Voyage" "day") ∈ lw_all := lw_g (lw_at lw_m1 136 rfl) rfl
theorem q227 : (Jvm.Cond.superclass "TreesBeforeMen$Voyage" "java/lang/Object") ∈ lw_all := lw_g (lw_at lw_m1 137 rfl) rfl
theorem q710 : (Jvm.Cond.instanceMethod ({ cls := "TreesBeforeMen$Voyage", name := "be", desc := "(LTreesBeforeMen$Voyage;)V" } : Jvm.MethodName)) ∈ lw_all := lw_g (lw_at lw_m3 140 rfl) rfl
theorem q711 : (Jvm.Cond.selects "TreesBeforeMen$Voyage" ({ cls := "TreesBeforeMen$Voyage", name := "be", desc := "(LTreesBeforeMen$Voyage;)V" } : Jvm.MethodName) ({ cls := "TreesBeforeMen$Voyage", name := "be", desc := "(LTreesBeforeMen$Voyage;)V" } : Jvm.MethodName)) ∈ lw_all := lw_g (lw_at lw_m3 141 rfl) rfl
theorem q712 : (Jvm.Cond.code ({ cls := "TreesBeforeMen$Voyage", name := "be", desc := "(LTreesBeforeMen$Voyage;)V" } : Jvm.MethodName) prog_12_method_2_code (2 : Nat) (Option.none : Option Jvm.ClassFile.FieldType)) ∈ lw_all := lw_g (lw_at lw_m3 142 rfl) rfl
theorem q713 : (Jvm.Cond.methodLink "TreesBeforeMen$Voyage" (31 : Nat) ({ cls := "java/lang/System", name := "arraycopy", desc := "(Ljava/lang/Object;ILjava/lang/Object;II)V" } : Jvm.MethodName)) ∈ lw_all := lw_g (lw_at lw_m3 143 rfl) rfl
theorem q776 : (Jvm.Cond.instanceMethod ({ cls := "TreesBeforeMen$Voyage", name := "gives", desc := "(I)Z" } : Jvm.MethodName)) ∈ lw_all := lw_g (lw_at lw_m3 206 rfl) rfl
theorem q777 : (Jvm.Cond.selects "TreesBeforeMen$Voyage" ({ cls := "TreesBeforeMen$Voyage", name := "gives", desc := "(I)Z" } : Jvm.MethodName) ({ cls := "TreesBeforeMen$Voyage", name := "gives", desc := "(I)Z" } : Jvm.MethodName)) ∈ lw_all := lw_g (lw_at lw_m3 207 rfl) rfl
theorem q778 : (Jvm.Cond.code ({ cls := "TreesBeforeMen$Voyage", name := "gives", desc := "(I)Z" } : Jvm.MethodName) prog_12_method_6_code (3 : Nat) (Option.some Jvm.ClassFile.FieldType.boolean)) ∈ lw_all := lw_g (lw_at lw_m3 208 rfl) rfl
theorem q779 : (Jvm.Cond.methodLink "TreesBeforeMen$Voyage" (49 : Nat) ({ cls := "TreesBeforeMen$Voyage", name := "those", desc := "(II)I" } : Jvm.MethodName)) ∈ lw_all := lw_g (lw_at lw_m3 209 rfl) rfl
theorem q780 : (Jvm.Cond.instanceMethod ({ cls := "TreesBeforeMen$Voyage", name := "those", desc := "(II)I" } : Jvm.MethodName)) ∈ lw_all := lw_g (lw_at lw_m3 210 rfl) rfl
theorem q781 : (Jvm.Cond.selects "TreesBeforeMen$Voyage" ({ cls := "TreesBeforeMen$Voyage", name := "those", desc := "(II)I" } : Jvm.MethodName) ({ cls := "TreesBeforeMen$Voyage", name := "those", desc := "(II)I" } : Jvm.MethodName)) ∈ lw_all := lw_g (lw_at lw_m3 211 rfl) rfl
theorem q782 : (Jvm.Cond.code ({ cls := "TreesBeforeMen$Voyage", name := "those", desc := "(II)I" } : Jvm.MethodName) prog_12_method_3_code (5 : Nat) (Option.some Jvm.ClassFile.FieldType.int)) ∈ lw_all := lw_g (lw_at lw_m3 212 rfl) rfl
theorem q783 : (Jvm.Cond.methodLink "TreesBeforeMen$Voyage" (52 : Nat) ({ cls := "java/lang/Integer", name := "bitCount", desc := "(I)I" } : Jvm.MethodName)) ∈ lw_all := lw_g (lw_at lw_m3 213 rfl) rfl
theorem q800 : (Jvm.Cond.instanceMethod ({ cls := "TreesBeforeMen$Voyage", name := "angers", desc := "(II)V" } : Jvm.MethodName)) ∈ lw_all := lw_g (lw_at lw_m3 230 rfl) rfl
theorem q801 : (Jvm.Cond.selects "TreesBeforeMen$Voyage" ({ cls := "TreesBeforeMen$Voyage", name := "angers", desc := "(II)V" } : Jvm.MethodName) ({ cls := "TreesBeforeMen$Voyage", name := "angers", desc := "(II)V" } : Jvm.MethodName)) ∈ lw_all := lw_g (lw_at lw_m3 231 rfl) rfl
theorem q802 : (Jvm.Cond.code ({ cls := "TreesBeforeMen$Voyage", name := "angers", desc := "(II)V" } : Jvm.MethodName) prog_12_method_4_code (3 : Nat) (Option.none : Option Jvm.ClassFile.FieldType)) ∈ lw_all := lw_g (lw_at lw_m3 232 rfl) rfl
theorem q803 : (Jvm.Cond.methodLink "TreesBeforeMen$Voyage" (40 : Nat) ({ cls := "java/lang/Math", name := "min", desc := "(II)I" } : Jvm.MethodName)) ∈ lw_all := lw_g (lw_at lw_m3 233 rfl) rfl
theorem q804 : (Jvm.Cond.methodLink "TreesBeforeMen$Voyage" (46 : Nat) ({ cls := "java/lang/Math", name := "max", desc := "(II)I" } : Jvm.MethodName)) ∈ lw_all := lw_g (lw_at lw_m3 234 rfl) rfl
theorem q806 : (Jvm.Cond.instanceMethod ({ cls := "TreesBeforeMen$Voyage", name := "fill", desc := "(I)I" } : Jvm.MethodName)) ∈ lw_all := lw_g (lw_at lw_m3 236 rfl) rfl
theorem q807 : (Jvm.Cond.selects "TreesBeforeMen$Voyage" ({ cls := "TreesBeforeMen$Voyage", name := "fill", desc := "(I)I" } : Jvm.MethodName) ({ cls := "TreesBeforeMen$Voyage", name := "fill", desc := "(I)I" } : Jvm.MethodName)) ∈ lw_all := lw_g (lw_at lw_m3 237 rfl) rfl
theorem q808 : (Jvm.Cond.code ({ cls := "TreesBeforeMen$Voyage", name := "fill", desc := "(I)I" } : Jvm.MethodName) prog_12_method_5_code (2 : Nat) (Option.some Jvm.ClassFile.FieldType.int)) ∈ lw_all := lw_g (lw_at lw_m3 238 rfl) rfl
theorem q1886 : (Jvm.Cond.castable "TreesBeforeMen$Voyage" "java/lang/Object") ∈ lw_tbl := lw_at lw_m8 116 rfl
theorem in_X8 : ∀ w ∈ wsX80, w ∈ lw_all := lw_in wsX80 [213, 215, 217, 219, 221, 223, 225] (by decide +kernel) (by decide +kernel)
/-! TreesBeforeMen$Words -/
set_option maxRecDepth 100000
def RX10 : String := "TreesBeforeMen$Words"
def TX10 : u_T := fun k => match k with
  | 0 => ("TreesBeforeMen$Words", "of", "[B", true)
  | 1 => ("TreesBeforeMen$Words", "size", "I", true)
  | 2 => ("TreesBeforeMen$Words", "end", "I", true)
  | _ => ("TreesBeforeMen$Words", "at", "I", false)
def tyX10 : Nat → FieldType := fun k => match k with
  | 0 => .array .byte
  | 1 => .int
  | 2 => .int
  | _ => .int
abbrev wsX100 : List Cond := u_ws RX10 TX10 4
theorem nmX10 : ∀ a, a < 4 → ∀ b, b < 4 → a ≠ b → (TX10 a).2.1 ≠ (TX10 b).2.1 := by decide +kernel
theorem tyX10_ok : ∀ k, k < 4 → parseFieldDescriptor (TX10 k).2.2.1 = some (tyX10 k) := by decide +kernel
abbrev cX10_init : ByteArray := prog_13_method_1_code
def yX10_init : MethodName := ⟨RX10, "<init>", "([BII)V"⟩
def dkwX10_init_0 : List UInt8 := [42, 183, 0, 3, 42, 43, 181, 0, 9, 42, 28, 181, 0, 15, 42, 28, 29, 184, 0, 19, 181, 0, 25, 177]
abbrev dktX10_init_0 : List UInt8 := dkwX10_init_0 ++ []
theorem dksX10_init_0 : cX10_init.data.toList.drop 0 = dktX10_init_0 := by decide +kernel
theorem dX10_init_0 : decode cX10_init 0 = .ok (.aload_n 0, 1) := dk_42 (dk_at dksX10_init_0 0 rfl rfl)
theorem dX10_init_1 : decode cX10_init 1 = .ok (.invokespecial 3, 3) := dk_183 0 3 (dk_at dksX10_init_0 1 rfl rfl)
theorem dX10_init_4 : decode cX10_init 4 = .ok (.aload_n 0, 1) := dk_42 (dk_at dksX10_init_0 4 rfl rfl)
theorem dX10_init_5 : decode cX10_init 5 = .ok (.aload_n 1, 1) := dk_43 (dk_at dksX10_init_0 5 rfl rfl)
theorem dX10_init_6 : decode cX10_init 6 = .ok (.putfield 9, 3) := dk_181 0 9 (dk_at dksX10_init_0 6 rfl rfl)
theorem dX10_init_9 : decode cX10_init 9 = .ok (.aload_n 0, 1) := dk_42 (dk_at dksX10_init_0 9 rfl rfl)
theorem dX10_init_10 : decode cX10_init 10 = .ok (.iload_n 2, 1) := dk_28 (dk_at dksX10_init_0 10 rfl rfl)
theorem dX10_init_11 : decode cX10_init 11 = .ok (.putfield 15, 3) := dk_181 0 15 (dk_at dksX10_init_0 11 rfl rfl)
theorem dX10_init_14 : decode cX10_init 14 = .ok (.aload_n 0, 1) := dk_42 (dk_at dksX10_init_0 14 rfl rfl)
theorem dX10_init_15 : decode cX10_init 15 = .ok (.iload_n 2, 1) := dk_28 (dk_at dksX10_init_0 15 rfl rfl)
theorem dX10_init_16 : decode cX10_init 16 = .ok (.iload_n 3, 1) := dk_29 (dk_at dksX10_init_0 16 rfl rfl)
theorem dX10_init_17 : decode cX10_init 17 = .ok (.invokestatic 19, 3) := dk_184 0 19 (dk_at dksX10_init_0 17 rfl rfl)
theorem dX10_init_20 : decode cX10_init 20 = .ok (.putfield 25, 3) := dk_181 0 25 (dk_at dksX10_init_0 20 rfl rfl)
theorem dX10_init_23 : decode cX10_init 23 = .ok (.return_, 1) := dk_177 (dk_at dksX10_init_0 23 rfl rfl)
abbrev cX10_need : ByteArray := prog_13_method_3_code
def yX10_need : MethodName := ⟨RX10, "need", "(Z)V"⟩
def dkwX10_need_0 : List UInt8 := [27, 154, 0, 15, 187, 0, 31, 89, 42, 180, 0, 28, 183, 0, 33, 191, 177]
abbrev dktX10_need_0 : List UInt8 := dkwX10_need_0 ++ []
theorem dksX10_need_0 : cX10_need.data.toList.drop 0 = dktX10_need_0 := by decide +kernel
theorem dX10_need_0 : decode cX10_need 0 = .ok (.iload_n 1, 1) := dk_27 (dk_at dksX10_need_0 0 rfl rfl)
theorem dX10_need_1 : decode cX10_need 1 = .ok (.ifCond .ne 15, 3) := dk_154 0 15 (dk_at dksX10_need_0 1 rfl rfl)
theorem dX10_need_4 : decode cX10_need 4 = .ok (.new 31, 3) := dk_187 0 31 (dk_at dksX10_need_0 4 rfl rfl)
theorem dX10_need_7 : decode cX10_need 7 = .ok (.dup, 1) := dk_89 (dk_at dksX10_need_0 7 rfl rfl)
theorem dX10_need_8 : decode cX10_need 8 = .ok (.aload_n 0, 1) := dk_42 (dk_at dksX10_need_0 8 rfl rfl)
theorem dX10_need_9 : decode cX10_need 9 = .ok (.getfield 28, 3) := dk_180 0 28 (dk_at dksX10_need_0 9 rfl rfl)
theorem dX10_need_12 : decode cX10_need 12 = .ok (.invokespecial 33, 3) := dk_183 0 33 (dk_at dksX10_need_0 12 rfl rfl)
theorem dX10_need_15 : decode cX10_need 15 = .ok (.athrow, 1) := dk_191 (dk_at dksX10_need_0 15 rfl rfl)
theorem dX10_need_16 : decode cX10_need 16 = .ok (.return_, 1) := dk_177 (dk_at dksX10_need_0 16 rfl rfl)
abbrev cX10_one : ByteArray := prog_13_method_6_code
def yX10_one : MethodName := ⟨RX10, "one", "(CI)I"⟩
def dkwX10_one_1 : List UInt8 := [180, 0, 28, 4, 96, 181, 0, 28, 42, 180, 0, 9, 42, 180, 0, 28, 4, 100, 51, 27, 100, 172]
abbrev dktX10_one_1 : List UInt8 := dkwX10_one_1 ++ []
def dkwX10_one_0 : List UInt8 := [42, 42, 182, 0, 40, 133, 27, 133, 27, 28, 96, 4, 100, 133, 184, 0, 44, 182, 0, 36, 42, 89]
abbrev dktX10_one_0 : List UInt8 := dkwX10_one_0 ++ dktX10_one_1
theorem dksX10_one_0 : cX10_one.data.toList.drop 0 = dktX10_one_0 := by decide +kernel
theorem dksX10_one_1 : cX10_one.data.toList.drop 22 = dktX10_one_1 := dk_seg dksX10_one_0 22 rfl rfl
theorem dX10_one_0 : decode cX10_one 0 = .ok (.aload_n 0, 1) := dk_42 (dk_at dksX10_one_0 0 rfl rfl)
theorem dX10_one_1 : decode cX10_one 1 = .ok (.aload_n 0, 1) := dk_42 (dk_at dksX10_one_0 1 rfl rfl)
theorem dX10_one_2 : decode cX10_one 2 = .ok (.invokevirtual 40, 3) := dk_182 0 40 (dk_at dksX10_one_0 2 rfl rfl)
theorem dX10_one_5 : decode cX10_one 5 = .ok (.i2l, 1) := dk_133 (dk_at dksX10_one_0 5 rfl rfl)
theorem dX10_one_6 : decode cX10_one 6 = .ok (.iload_n 1, 1) := dk_27 (dk_at dksX10_one_0 6 rfl rfl)
theorem dX10_one_7 : decode cX10_one 7 = .ok (.i2l, 1) := dk_133 (dk_at dksX10_one_0 7 rfl rfl)
theorem dX10_one_8 : decode cX10_one 8 = .ok (.iload_n 1, 1) := dk_27 (dk_at dksX10_one_0 8 rfl rfl)
theorem dX10_one_9 : decode cX10_one 9 = .ok (.iload_n 2, 1) := dk_28 (dk_at dksX10_one_0 9 rfl rfl)
theorem dX10_one_10 : decode cX10_one 10 = .ok (.iadd, 1) := dk_96 (dk_at dksX10_one_0 10 rfl rfl)
theorem dX10_one_11 : decode cX10_one 11 = .ok (.iconst 1, 1) := dk_4 (dk_at dksX10_one_0 11 rfl rfl)
theorem dX10_one_12 : decode cX10_one 12 = .ok (.isub, 1) := dk_100 (dk_at dksX10_one_0 12 rfl rfl)
theorem dX10_one_13 : decode cX10_one 13 = .ok (.i2l, 1) := dk_133 (dk_at dksX10_one_0 13 rfl rfl)
theorem dX10_one_14 : decode cX10_one 14 = .ok (.invokestatic 44, 3) := dk_184 0 44 (dk_at dksX10_one_0 14 rfl rfl)
theorem dX10_one_17 : decode cX10_one 17 = .ok (.invokevirtual 36, 3) := dk_182 0 36 (dk_at dksX10_one_0 17 rfl rfl)
theorem dX10_one_20 : decode cX10_one 20 = .ok (.aload_n 0, 1) := dk_42 (dk_at dksX10_one_0 20 rfl rfl)
theorem dX10_one_21 : decode cX10_one 21 = .ok (.dup, 1) := dk_89 (dk_at dksX10_one_0 21 rfl rfl)
theorem dX10_one_22 : decode cX10_one 22 = .ok (.getfield 28, 3) := dk_180 0 28 (dk_at dksX10_one_1 0 rfl rfl)
theorem dX10_one_25 : decode cX10_one 25 = .ok (.iconst 1, 1) := dk_4 (dk_at dksX10_one_1 3 rfl rfl)
theorem dX10_one_26 : decode cX10_one 26 = .ok (.iadd, 1) := dk_96 (dk_at dksX10_one_1 4 rfl rfl)
theorem dX10_one_27 : decode cX10_one 27 = .ok (.putfield 28, 3) := dk_181 0 28 (dk_at dksX10_one_1 5 rfl rfl)
theorem dX10_one_30 : decode cX10_one 30 = .ok (.aload_n 0, 1) := dk_42 (dk_at dksX10_one_1 8 rfl rfl)
theorem dX10_one_31 : decode cX10_one 31 = .ok (.getfield 9, 3) := dk_180 0 9 (dk_at dksX10_one_1 9 rfl rfl)
theorem dX10_one_34 : decode cX10_one 34 = .ok (.aload_n 0, 1) := dk_42 (dk_at dksX10_one_1 12 rfl rfl)
theorem dX10_one_35 : decode cX10_one 35 = .ok (.getfield 28, 3) := dk_180 0 28 (dk_at dksX10_one_1 13 rfl rfl)
theorem dX10_one_38 : decode cX10_one 38 = .ok (.iconst 1, 1) := dk_4 (dk_at dksX10_one_1 16 rfl rfl)
theorem dX10_one_39 : decode cX10_one 39 = .ok (.isub, 1) := dk_100 (dk_at dksX10_one_1 17 rfl rfl)
theorem dX10_one_40 : decode cX10_one 40 = .ok (.baload, 1) := dk_51 (dk_at dksX10_one_1 18 rfl rfl)
theorem dX10_one_41 : decode cX10_one 41 = .ok (.iload_n 1, 1) := dk_27 (dk_at dksX10_one_1 19 rfl rfl)
theorem dX10_one_42 : decode cX10_one 42 = .ok (.isub, 1) := dk_100 (dk_at dksX10_one_1 20 rfl rfl)
theorem dX10_one_43 : decode cX10_one 43 = .ok (.ireturn, 1) := dk_172 (dk_at dksX10_one_1 21 rfl rfl)
abbrev cX10_here : ByteArray := prog_13_method_2_code
def yX10_here : MethodName := ⟨RX10, "here", "()I"⟩
def dkwX10_here_1 : List UInt8 := [167, 0, 4, 2, 172]
abbrev dktX10_here_1 : List UInt8 := dkwX10_here_1 ++ []
def dkwX10_here_0 : List UInt8 := [42, 180, 0, 28, 42, 180, 0, 25, 162, 0, 19, 42, 180, 0, 9, 42, 180, 0, 28, 51, 17, 0, 255, 126]
abbrev dktX10_here_0 : List UInt8 := dkwX10_here_0 ++ dktX10_here_1
theorem dksX10_here_0 : cX10_here.data.toList.drop 0 = dktX10_here_0 := by decide +kernel
theorem dksX10_here_1 : cX10_here.data.toList.drop 24 = dktX10_here_1 := dk_seg dksX10_here_0 24 rfl rfl
theorem dX10_here_0 : decode cX10_here 0 = .ok (.aload_n 0, 1) := dk_42 (dk_at dksX10_here_0 0 rfl rfl)
theorem dX10_here_1 : decode cX10_here 1 = .ok (.getfield 28, 3) := dk_180 0 28 (dk_at dksX10_here_0 1 rfl rfl)
theorem dX10_here_4 : decode cX10_here 4 = .ok (.aload_n 0, 1) := dk_42 (dk_at dksX10_here_0 4 rfl rfl)
theorem dX10_here_5 : decode cX10_here 5 = .ok (.getfield 25, 3) := dk_180 0 25 (dk_at dksX10_here_0 5 rfl rfl)
theorem dX10_here_8 : decode cX10_here 8 = .ok (.if_icmp .ge 19, 3) := dk_162 0 19 (dk_at dksX10_here_0 8 rfl rfl)
theorem dX10_here_11 : decode cX10_here 11 = .ok (.aload_n 0, 1) := dk_42 (dk_at dksX10_here_0 11 rfl rfl)
theorem dX10_here_12 : decode cX10_here 12 = .ok (.getfield 9, 3) := dk_180 0 9 (dk_at dksX10_here_0 12 rfl rfl)
theorem dX10_here_15 : decode cX10_here 15 = .ok (.aload_n 0, 1) := dk_42 (dk_at dksX10_here_0 15 rfl rfl)
theorem dX10_here_16 : decode cX10_here 16 = .ok (.getfield 28, 3) := dk_180 0 28 (dk_at dksX10_here_0 16 rfl rfl)
theorem dX10_here_19 : decode cX10_here 19 = .ok (.baload, 1) := dk_51 (dk_at dksX10_here_0 19 rfl rfl)
theorem dX10_here_20 : decode cX10_here 20 = .ok (.sipush 255, 3) := dk_17 0 255 (dk_at dksX10_here_0 20 rfl rfl)
theorem dX10_here_23 : decode cX10_here 23 = .ok (.iand, 1) := dk_126 (dk_at dksX10_here_0 23 rfl rfl)
theorem dX10_here_24 : decode cX10_here 24 = .ok (.goto 4, 3) := dk_167 0 4 (dk_at dksX10_here_1 0 rfl rfl)
theorem dX10_here_27 : decode cX10_here 27 = .ok (.iconst (-1), 1) := dk_2 (dk_at dksX10_here_1 3 rfl rfl)
theorem dX10_here_28 : decode cX10_here 28 = .ok (.ireturn, 1) := dk_172 (dk_at dksX10_here_1 4 rfl rfl)
abbrev cX10_passes : ByteArray := prog_13_method_5_code
def yX10_passes : MethodName := ⟨RX10, "passes", "(C)Z"⟩
def dkwX10_passes_0 : List UInt8 := [42, 182, 0, 40, 27, 159, 0, 5, 3, 172, 42, 89, 180, 0, 28, 4, 96, 181, 0, 28, 4, 172]
abbrev dktX10_passes_0 : List UInt8 := dkwX10_passes_0 ++ []
theorem dksX10_passes_0 : cX10_passes.data.toList.drop 0 = dktX10_passes_0 := by decide +kernel
theorem dX10_passes_0 : decode cX10_passes 0 = .ok (.aload_n 0, 1) := dk_42 (dk_at dksX10_passes_0 0 rfl rfl)
theorem dX10_passes_1 : decode cX10_passes 1 = .ok (.invokevirtual 40, 3) := dk_182 0 40 (dk_at dksX10_passes_0 1 rfl rfl)
theorem dX10_passes_4 : decode cX10_passes 4 = .ok (.iload_n 1, 1) := dk_27 (dk_at dksX10_passes_0 4 rfl rfl)
theorem dX10_passes_5 : decode cX10_passes 5 = .ok (.if_icmp .eq 5, 3) := dk_159 0 5 (dk_at dksX10_passes_0 5 rfl rfl)
theorem dX10_passes_8 : decode cX10_passes 8 = .ok (.iconst 0, 1) := dk_3 (dk_at dksX10_passes_0 8 rfl rfl)
theorem dX10_passes_9 : decode cX10_passes 9 = .ok (.ireturn, 1) := dk_172 (dk_at dksX10_passes_0 9 rfl rfl)
theorem dX10_passes_10 : decode cX10_passes 10 = .ok (.aload_n 0, 1) := dk_42 (dk_at dksX10_passes_0 10 rfl rfl)
theorem dX10_passes_11 : decode cX10_passes 11 = .ok (.dup, 1) := dk_89 (dk_at dksX10_passes_0 11 rfl rfl)
theorem dX10_passes_12 : decode cX10_passes 12 = .ok (.getfield 28, 3) := dk_180 0 28 (dk_at dksX10_passes_0 12 rfl rfl)
theorem dX10_passes_15 : decode cX10_passes 15 = .ok (.iconst 1, 1) := dk_4 (dk_at dksX10_passes_0 15 rfl rfl)
theorem dX10_passes_16 : decode cX10_passes 16 = .ok (.iadd, 1) := dk_96 (dk_at dksX10_passes_0 16 rfl rfl)
theorem dX10_passes_17 : decode cX10_passes 17 = .ok (.putfield 28, 3) := dk_181 0 28 (dk_at dksX10_passes_0 17 rfl rfl)
theorem dX10_passes_20 : decode cX10_passes 20 = .ok (.iconst 1, 1) := dk_4 (dk_at dksX10_passes_0 20 rfl rfl)
theorem dX10_passes_21 : decode cX10_passes 21 = .ok (.ireturn, 1) := dk_172 (dk_at dksX10_passes_0 21 rfl rfl)
abbrev cX10_needEnd : ByteArray := prog_13_method_4_code
def yX10_needEnd : MethodName := ⟨RX10, "needEnd", "()V"⟩
def dkwX10_needEnd_0 : List UInt8 := [42, 42, 180, 0, 28, 42, 180, 0, 15, 160, 0, 7, 4, 167, 0, 4, 3, 182, 0, 36, 177]
abbrev dktX10_needEnd_0 : List UInt8 := dkwX10_needEnd_0 ++ []
theorem dksX10_needEnd_0 : cX10_needEnd.data.toList.drop 0 = dktX10_needEnd_0 := by decide +kernel
theorem dX10_needEnd_0 : decode cX10_needEnd 0 = .ok (.aload_n 0, 1) := dk_42 (dk_at dksX10_needEnd_0 0 rfl rfl)
theorem dX10_needEnd_1 : decode cX10_needEnd 1 = .ok (.aload_n 0, 1) := dk_42 (dk_at dksX10_needEnd_0 1 rfl rfl)
theorem dX10_needEnd_2 : decode cX10_needEnd 2 = .ok (.getfield 28, 3) := dk_180 0 28 (dk_at dksX10_needEnd_0 2 rfl rfl)
theorem dX10_needEnd_5 : decode cX10_needEnd 5 = .ok (.aload_n 0, 1) := dk_42 (dk_at dksX10_needEnd_0 5 rfl rfl)
theorem dX10_needEnd_6 : decode cX10_needEnd 6 = .ok (.getfield 15, 3) := dk_180 0 15 (dk_at dksX10_needEnd_0 6 rfl rfl)
theorem dX10_needEnd_9 : decode cX10_needEnd 9 = .ok (.if_icmp .ne 7, 3) := dk_160 0 7 (dk_at dksX10_needEnd_0 9 rfl rfl)
theorem dX10_needEnd_12 : decode cX10_needEnd 12 = .ok (.iconst 1, 1) := dk_4 (dk_at dksX10_needEnd_0 12 rfl rfl)
theorem dX10_needEnd_13 : decode cX10_needEnd 13 = .ok (.goto 4, 3) := dk_167 0 4 (dk_at dksX10_needEnd_0 13 rfl rfl)
theorem dX10_needEnd_16 : decode cX10_needEnd 16 = .ok (.iconst 0, 1) := dk_3 (dk_at dksX10_needEnd_0 16 rfl rfl)
theorem dX10_needEnd_17 : decode cX10_needEnd 17 = .ok (.invokevirtual 36, 3) := dk_182 0 36 (dk_at dksX10_needEnd_0 17 rfl rfl)
theorem dX10_needEnd_20 : decode cX10_needEnd 20 = .ok (.return_, 1) := dk_177 (dk_at dksX10_needEnd_0 20 rfl rfl)
abbrev cX10_number : ByteArray := prog_13_method_7_code
def yX10_number : MethodName := ⟨RX10, "number", "(I)I"⟩
def dkwX10_number_2 : List UInt8 := [132, 3, 1, 167, 255, 217, 28, 172]
abbrev dktX10_number_2 : List UInt8 := dkwX10_number_2 ++ []
def dkwX10_number_1 : List UInt8 := [20, 0, 54, 184, 0, 44, 153, 0, 23, 16, 10, 28, 104, 42, 16, 48, 16, 10, 182, 0, 48, 96, 61]
abbrev dktX10_number_1 : List UInt8 := dkwX10_number_1 ++ dktX10_number_2
def dkwX10_number_0 : List UInt8 := [42, 16, 48, 16, 10, 182, 0, 48, 61, 4, 62, 29, 27, 162, 0, 40, 42, 182, 0, 40, 133, 20, 0, 52]
abbrev dktX10_number_0 : List UInt8 := dkwX10_number_0 ++ dktX10_number_1
theorem dksX10_number_0 : cX10_number.data.toList.drop 0 = dktX10_number_0 := by decide +kernel
theorem dksX10_number_1 : cX10_number.data.toList.drop 24 = dktX10_number_1 := dk_seg dksX10_number_0 24 rfl rfl
theorem dksX10_number_2 : cX10_number.data.toList.drop 47 = dktX10_number_2 := dk_seg dksX10_number_1 23 rfl rfl
theorem dX10_number_0 : decode cX10_number 0 = .ok (.aload_n 0, 1) := dk_42 (dk_at dksX10_number_0 0 rfl rfl)
theorem dX10_number_1 : decode cX10_number 1 = .ok (.bipush 48, 2) := dk_16 48 (dk_at dksX10_number_0 1 rfl rfl)
theorem dX10_number_3 : decode cX10_number 3 = .ok (.bipush 10, 2) := dk_16 10 (dk_at dksX10_number_0 3 rfl rfl)
theorem dX10_number_5 : decode cX10_number 5 = .ok (.invokevirtual 48, 3) := dk_182 0 48 (dk_at dksX10_number_0 5 rfl rfl)
theorem dX10_number_8 : decode cX10_number 8 = .ok (.istore_n 2, 1) := dk_61 (dk_at dksX10_number_0 8 rfl rfl)
theorem dX10_number_9 : decode cX10_number 9 = .ok (.iconst 1, 1) := dk_4 (dk_at dksX10_number_0 9 rfl rfl)
theorem dX10_number_10 : decode cX10_number 10 = .ok (.istore_n 3, 1) := dk_62 (dk_at dksX10_number_0 10 rfl rfl)
theorem dX10_number_11 : decode cX10_number 11 = .ok (.iload_n 3, 1) := dk_29 (dk_at dksX10_number_0 11 rfl rfl)
theorem dX10_number_12 : decode cX10_number 12 = .ok (.iload_n 1, 1) := dk_27 (dk_at dksX10_number_0 12 rfl rfl)
theorem dX10_number_13 : decode cX10_number 13 = .ok (.if_icmp .ge 40, 3) := dk_162 0 40 (dk_at dksX10_number_0 13 rfl rfl)
theorem dX10_number_16 : decode cX10_number 16 = .ok (.aload_n 0, 1) := dk_42 (dk_at dksX10_number_0 16 rfl rfl)
theorem dX10_number_17 : decode cX10_number 17 = .ok (.invokevirtual 40, 3) := dk_182 0 40 (dk_at dksX10_number_0 17 rfl rfl)
theorem dX10_number_20 : decode cX10_number 20 = .ok (.i2l, 1) := dk_133 (dk_at dksX10_number_0 20 rfl rfl)
theorem dX10_number_21 : decode cX10_number 21 = .ok (.ldc2_w 52, 3) := dk_20 0 52 (dk_at dksX10_number_0 21 rfl rfl)
theorem dX10_number_24 : decode cX10_number 24 = .ok (.ldc2_w 54, 3) := dk_20 0 54 (dk_at dksX10_number_1 0 rfl rfl)
theorem dX10_number_27 : decode cX10_number 27 = .ok (.invokestatic 44, 3) := dk_184 0 44 (dk_at dksX10_number_1 3 rfl rfl)
theorem dX10_number_30 : decode cX10_number 30 = .ok (.ifCond .eq 23, 3) := dk_153 0 23 (dk_at dksX10_number_1 6 rfl rfl)
theorem dX10_number_33 : decode cX10_number 33 = .ok (.bipush 10, 2) := dk_16 10 (dk_at dksX10_number_1 9 rfl rfl)
theorem dX10_number_35 : decode cX10_number 35 = .ok (.iload_n 2, 1) := dk_28 (dk_at dksX10_number_1 11 rfl rfl)
theorem dX10_number_36 : decode cX10_number 36 = .ok (.imul, 1) := dk_104 (dk_at dksX10_number_1 12 rfl rfl)
theorem dX10_number_37 : decode cX10_number 37 = .ok (.aload_n 0, 1) := dk_42 (dk_at dksX10_number_1 13 rfl rfl)
theorem dX10_number_38 : decode cX10_number 38 = .ok (.bipush 48, 2) := dk_16 48 (dk_at dksX10_number_1 14 rfl rfl)
theorem dX10_number_40 : decode cX10_number 40 = .ok (.bipush 10, 2) := dk_16 10 (dk_at dksX10_number_1 16 rfl rfl)
theorem dX10_number_42 : decode cX10_number 42 = .ok (.invokevirtual 48, 3) := dk_182 0 48 (dk_at dksX10_number_1 18 rfl rfl)
theorem dX10_number_45 : decode cX10_number 45 = .ok (.iadd, 1) := dk_96 (dk_at dksX10_number_1 21 rfl rfl)
theorem dX10_number_46 : decode cX10_number 46 = .ok (.istore_n 2, 1) := dk_61 (dk_at dksX10_number_1 22 rfl rfl)
theorem dX10_number_47 : decode cX10_number 47 = .ok (.iinc 3 1, 3) := dk_132 3 1 (dk_at dksX10_number_2 0 rfl rfl)
theorem dX10_number_50 : decode cX10_number 50 = .ok (.goto (-39), 3) := dk_167 255 217 (dk_at dksX10_number_2 3 rfl rfl)
theorem dX10_number_53 : decode cX10_number 53 = .ok (.iload_n 2, 1) := dk_28 (dk_at dksX10_number_2 6 rfl rfl)
theorem dX10_number_54 : decode cX10_number 54 = .ok (.ireturn, 1) := dk_172 (dk_at dksX10_number_2 7 rfl rfl)
theorem q100 : (Jvm.Cond.initialized "TreesBeforeMen$Words") ∈ lw_all := lw_g (lw_at lw_m1 10 rfl) rfl
theorem q380 : (Jvm.Cond.instantiable "TreesBeforeMen$Words" (4 : Nat)) ∈ lw_all := lw_g (lw_at lw_m2 50 rfl) rfl
theorem q382 : (Jvm.Cond.instanceMethod ({ cls := "TreesBeforeMen$Words", name := "<init>", desc := "([BII)V" } : Jvm.MethodName)) ∈ lw_all := lw_g (lw_at lw_m2 52 rfl) rfl
theorem q383 : (Jvm.Cond.code ({ cls := "TreesBeforeMen$Words", name := "<init>", desc := "([BII)V" } : Jvm.MethodName) prog_13_method_1_code (4 : Nat) (Option.none : Option Jvm.ClassFile.FieldType)) ∈ lw_all := lw_g (lw_at lw_m2 53 rfl) rfl
theorem q384 : (Jvm.Cond.methodLink "TreesBeforeMen$Words" (3 : Nat) ({ cls := "java/lang/Object", name := "<init>", desc := "()V" } : Jvm.MethodName)) ∈ lw_all := lw_g (lw_at lw_m2 54 rfl) rfl
theorem q385 : (Jvm.Cond.methodLink "TreesBeforeMen$Words" (19 : Nat) ({ cls := "java/lang/Math", name := "min", desc := "(II)I" } : Jvm.MethodName)) ∈ lw_all := lw_g (lw_at lw_m2 55 rfl) rfl
theorem q388 : (Jvm.Cond.fieldLink "TreesBeforeMen$Words" (9 : Nat) "TreesBeforeMen$Words" "of" "[B") ∈ lw_all := lw_g (lw_at lw_m2 58 rfl) rfl
theorem q389 : (Jvm.Cond.fieldLink "TreesBeforeMen$Words" (15 : Nat) "TreesBeforeMen$Words" "size" "I") ∈ lw_all := lw_g (lw_at lw_m2 59 rfl) rfl
theorem q391 : (Jvm.Cond.fieldLink "TreesBeforeMen$Words" (25 : Nat) "TreesBeforeMen$Words" "end" "I") ∈ lw_all := lw_g (lw_at lw_m2 61 rfl) rfl
theorem q394 : (Jvm.Cond.fieldLink "TreesBeforeMen$Words" (28 : Nat) "TreesBeforeMen$Words" "at" "I") ∈ lw_all := lw_g (lw_at lw_m2 64 rfl) rfl
theorem q400 : (Jvm.Cond.laysFinal "TreesBeforeMen$Words" "TreesBeforeMen$Words" "of" "[B") ∈ lw_all := lw_g (lw_at lw_m2 70 rfl) rfl
theorem q401 : (Jvm.Cond.soleField "TreesBeforeMen$Words" "of") ∈ lw_all := lw_g (lw_at lw_m2 71 rfl) rfl
theorem q402 : (Jvm.Cond.laysFinal "TreesBeforeMen$Words" "TreesBeforeMen$Words" "size" "I") ∈ lw_all := lw_g (lw_at lw_m2 72 rfl) rfl
theorem q403 : (Jvm.Cond.soleField "TreesBeforeMen$Words" "size") ∈ lw_all := lw_g (lw_at lw_m2 73 rfl) rfl
theorem q404 : (Jvm.Cond.laysFinal "TreesBeforeMen$Words" "TreesBeforeMen$Words" "end" "I") ∈ lw_all := lw_g (lw_at lw_m2 74 rfl) rfl
theorem q405 : (Jvm.Cond.soleField "TreesBeforeMen$Words" "end") ∈ lw_all := lw_g (lw_at lw_m2 75 rfl) rfl
theorem q406 : (Jvm.Cond.lays "TreesBeforeMen$Words" "TreesBeforeMen$Words" "at" "I") ∈ lw_all := lw_g (lw_at lw_m2 76 rfl) rfl
theorem q407 : (Jvm.Cond.soleField "TreesBeforeMen$Words" "at") ∈ lw_all := lw_g (lw_at lw_m2 77 rfl) rfl
theorem q408 : (Jvm.Cond.superclass "TreesBeforeMen$Words" "java/lang/Object") ∈ lw_all := lw_g (lw_at lw_m2 78 rfl) rfl
theorem q412 : (Jvm.Cond.instanceMethod ({ cls := "TreesBeforeMen$Words", name := "need", desc := "(Z)V" } : Jvm.MethodName)) ∈ lw_all := lw_g (lw_at lw_m2 82 rfl) rfl
theorem q413 : (Jvm.Cond.selects "TreesBeforeMen$Words" ({ cls := "TreesBeforeMen$Words", name := "need", desc := "(Z)V" } : Jvm.MethodName) ({ cls := "TreesBeforeMen$Words", name := "need", desc := "(Z)V" } : Jvm.MethodName)) ∈ lw_all := lw_g (lw_at lw_m2 83 rfl) rfl
theorem q414 : (Jvm.Cond.sameMethod "TreesBeforeMen$Words" "TreesBeforeMen$Words" "need" "(Z)V") ∈ lw_all := lw_g (lw_at lw_m2 84 rfl) rfl
theorem q417 : (Jvm.Cond.code ({ cls := "TreesBeforeMen$Words", name := "need", desc := "(Z)V" } : Jvm.MethodName) prog_13_method_3_code (2 : Nat) (Option.none : Option Jvm.ClassFile.FieldType)) ∈ lw_all := lw_g (lw_at lw_m2 87 rfl) rfl
theorem q418 : (Jvm.Cond.classLink "TreesBeforeMen$Words" (31 : Nat) "TreesBeforeMen$Fault") ∈ lw_all := lw_g (lw_at lw_m2 88 rfl) rfl
theorem q457 : (Jvm.Cond.methodLink "TreesBeforeMen$Words" (33 : Nat) ({ cls := "TreesBeforeMen$Fault", name := "<init>", desc := "(I)V" } : Jvm.MethodName)) ∈ lw_all := lw_g (lw_at lw_m2 127 rfl) rfl
theorem q482 : (Jvm.Cond.instanceMethod ({ cls := "TreesBeforeMen$Words", name := "one", desc := "(CI)I" } : Jvm.MethodName)) ∈ lw_all := lw_g (lw_at lw_m2 152 rfl) rfl
theorem q483 : (Jvm.Cond.selects "TreesBeforeMen$Words" ({ cls := "TreesBeforeMen$Words", name := "one", desc := "(CI)I" } : Jvm.MethodName) ({ cls := "TreesBeforeMen$Words", name := "one", desc := "(CI)I" } : Jvm.MethodName)) ∈ lw_all := lw_g (lw_at lw_m2 153 rfl) rfl
theorem q484 : (Jvm.Cond.sameMethod "TreesBeforeMen$Words" "TreesBeforeMen$Words" "one" "(CI)I") ∈ lw_all := lw_g (lw_at lw_m2 154 rfl) rfl
theorem q487 : (Jvm.Cond.code ({ cls := "TreesBeforeMen$Words", name := "one", desc := "(CI)I" } : Jvm.MethodName) prog_13_method_6_code (3 : Nat) (Option.some Jvm.ClassFile.FieldType.int)) ∈ lw_all := lw_g (lw_at lw_m2 157 rfl) rfl
theorem q488 : (Jvm.Cond.methodLink "TreesBeforeMen$Words" (40 : Nat) ({ cls := "TreesBeforeMen$Words", name := "here", desc := "()I" } : Jvm.MethodName)) ∈ lw_all := lw_g (lw_at lw_m2 158 rfl) rfl
theorem q489 : (Jvm.Cond.instanceMethod ({ cls := "TreesBeforeMen$Words", name := "here", desc := "()I" } : Jvm.MethodName)) ∈ lw_all := lw_g (lw_at lw_m2 159 rfl) rfl
theorem q490 : (Jvm.Cond.selects "TreesBeforeMen$Words" ({ cls := "TreesBeforeMen$Words", name := "here", desc := "()I" } : Jvm.MethodName) ({ cls := "TreesBeforeMen$Words", name := "here", desc := "()I" } : Jvm.MethodName)) ∈ lw_all := lw_g (lw_at lw_m2 160 rfl) rfl
theorem q491 : (Jvm.Cond.sameMethod "TreesBeforeMen$Words" "TreesBeforeMen$Words" "here" "()I") ∈ lw_all := lw_g (lw_at lw_m2 161 rfl) rfl
theorem q494 : (Jvm.Cond.code ({ cls := "TreesBeforeMen$Words", name := "here", desc := "()I" } : Jvm.MethodName) prog_13_method_2_code (1 : Nat) (Option.some Jvm.ClassFile.FieldType.int)) ∈ lw_all := lw_g (lw_at lw_m2 164 rfl) rfl
theorem q495 : (Jvm.Cond.methodLinkNest "TreesBeforeMen$Words" (44 : Nat) ({ cls := "TreesBeforeMen", name := "in", desc := "(JJJ)Z" } : Jvm.MethodName) "TreesBeforeMen") ∈ lw_tbl := lw_at lw_m2 165 rfl
theorem q496 : (Jvm.Cond.methodLink "TreesBeforeMen$Words" (36 : Nat) ({ cls := "TreesBeforeMen$Words", name := "need", desc := "(Z)V" } : Jvm.MethodName)) ∈ lw_all := lw_g (lw_at lw_m2 166 rfl) rfl
theorem q498 : (Jvm.Cond.instanceMethod ({ cls := "TreesBeforeMen$Words", name := "passes", desc := "(C)Z" } : Jvm.MethodName)) ∈ lw_all := lw_g (lw_at lw_m2 168 rfl) rfl
theorem q499 : (Jvm.Cond.selects "TreesBeforeMen$Words" ({ cls := "TreesBeforeMen$Words", name := "passes", desc := "(C)Z" } : Jvm.MethodName) ({ cls := "TreesBeforeMen$Words", name := "passes", desc := "(C)Z" } : Jvm.MethodName)) ∈ lw_all := lw_g (lw_at lw_m2 169 rfl) rfl
theorem q500 : (Jvm.Cond.sameMethod "TreesBeforeMen$Words" "TreesBeforeMen$Words" "passes" "(C)Z") ∈ lw_all := lw_g (lw_at lw_m2 170 rfl) rfl
theorem q503 : (Jvm.Cond.code ({ cls := "TreesBeforeMen$Words", name := "passes", desc := "(C)Z" } : Jvm.MethodName) prog_13_method_5_code (2 : Nat) (Option.some Jvm.ClassFile.FieldType.boolean)) ∈ lw_all := lw_g (lw_at lw_m2 173 rfl) rfl
theorem q505 : (Jvm.Cond.instanceMethod ({ cls := "TreesBeforeMen$Words", name := "needEnd", desc := "()V" } : Jvm.MethodName)) ∈ lw_all := lw_g (lw_at lw_m2 175 rfl) rfl
theorem q506 : (Jvm.Cond.selects "TreesBeforeMen$Words" ({ cls := "TreesBeforeMen$Words", name := "needEnd", desc := "()V" } : Jvm.MethodName) ({ cls := "TreesBeforeMen$Words", name := "needEnd", desc := "()V" } : Jvm.MethodName)) ∈ lw_all := lw_g (lw_at lw_m2 176 rfl) rfl
theorem q507 : (Jvm.Cond.sameMethod "TreesBeforeMen$Words" "TreesBeforeMen$Words" "needEnd" "()V") ∈ lw_all := lw_g (lw_at lw_m2 177 rfl) rfl
theorem q510 : (Jvm.Cond.code ({ cls := "TreesBeforeMen$Words", name := "needEnd", desc := "()V" } : Jvm.MethodName) prog_13_method_4_code (1 : Nat) (Option.none : Option Jvm.ClassFile.FieldType)) ∈ lw_all := lw_g (lw_at lw_m2 180 rfl) rfl
theorem q524 : (Jvm.Cond.instanceMethod ({ cls := "TreesBeforeMen$Words", name := "number", desc := "(I)I" } : Jvm.MethodName)) ∈ lw_all := lw_g (lw_at lw_m2 194 rfl) rfl
theorem q525 : (Jvm.Cond.selects "TreesBeforeMen$Words" ({ cls := "TreesBeforeMen$Words", name := "number", desc := "(I)I" } : Jvm.MethodName) ({ cls := "TreesBeforeMen$Words", name := "number", desc := "(I)I" } : Jvm.MethodName)) ∈ lw_all := lw_g (lw_at lw_m2 195 rfl) rfl
theorem q526 : (Jvm.Cond.sameMethod "TreesBeforeMen$Words" "TreesBeforeMen$Words" "number" "(I)I") ∈ lw_all := lw_g (lw_at lw_m2 196 rfl) rfl
theorem q529 : (Jvm.Cond.code ({ cls := "TreesBeforeMen$Words", name := "number", desc := "(I)I" } : Jvm.MethodName) prog_13_method_7_code (4 : Nat) (Option.some Jvm.ClassFile.FieldType.int)) ∈ lw_all := lw_g (lw_at lw_m2 199 rfl) rfl
theorem q530 : (Jvm.Cond.methodLink "TreesBeforeMen$Words" (48 : Nat) ({ cls := "TreesBeforeMen$Words", name := "one", desc := "(CI)I" } : Jvm.MethodName)) ∈ lw_all := lw_g (lw_at lw_m2 200 rfl) rfl
theorem q531 : (Jvm.Cond.constantLong "TreesBeforeMen$Words" (52 : Nat) (48 : Int64)) ∈ lw_all := lw_g (lw_at lw_m2 201 rfl) rfl
theorem q532 : (Jvm.Cond.constantLong "TreesBeforeMen$Words" (54 : Nat) (57 : Int64)) ∈ lw_all := lw_g (lw_at lw_m2 202 rfl) rfl
theorem q586 : (Jvm.Cond.declares ({ cls := "TreesBeforeMen$Words", name := "passes", desc := "(C)Z" } : Jvm.MethodName)) ∈ lw_tbl := lw_at lw_m3 16 rfl
theorem q590 : (Jvm.Cond.declares ({ cls := "TreesBeforeMen$Words", name := "here", desc := "()I" } : Jvm.MethodName)) ∈ lw_tbl := lw_at lw_m3 20 rfl
theorem q594 : (Jvm.Cond.declares ({ cls := "TreesBeforeMen$Words", name := "need", desc := "(Z)V" } : Jvm.MethodName)) ∈ lw_tbl := lw_at lw_m3 24 rfl
theorem q601 : (Jvm.Cond.declares ({ cls := "TreesBeforeMen$Words", name := "number", desc := "(I)I" } : Jvm.MethodName)) ∈ lw_tbl := lw_at lw_m3 31 rfl
theorem q698 : (Jvm.Cond.declares ({ cls := "TreesBeforeMen$Words", name := "needEnd", desc := "()V" } : Jvm.MethodName)) ∈ lw_tbl := lw_at lw_m3 128 rfl
theorem q963 : (Jvm.Cond.declares ({ cls := "TreesBeforeMen$Words", name := "one", desc := "(CI)I" } : Jvm.MethodName)) ∈ lw_tbl := lw_at lw_m4 153 rfl
theorem q1888 : (Jvm.Cond.castable "TreesBeforeMen$Words" "java/lang/Object") ∈ lw_tbl := lw_at lw_m8 118 rfl
theorem in_X10 : ∀ w ∈ wsX100, w ∈ lw_all := lw_in wsX100 [400, 402, 404, 406] (by decide +kernel) (by decide +kernel)
/-! TreesBeforeMen$Fault -/
set_option maxRecDepth 100000
def RX11 : String := "TreesBeforeMen$Fault"
def TX11 : u_T := fun k => match k with
  | 0 => ("java/lang/Throwable", "cause", "Ljava/lang/Throwable;", false)
  | 1 => ("java/lang/Throwable", "stackTrace", "[Ljava/lang/StackTraceElement;", false)
  | 2 => ("java/lang/Throwable", "suppressedExceptions", "Ljava/util/List;", false)
  | 3 => ("java/lang/Throwable", "detailMessage", "Ljava/lang/String;", false)
  | 4 => ("java/lang/Throwable", "backtrace", "Ljava/lang/Object;", false)
  | 5 => ("java/lang/Throwable", "depth", "I", false)
  | _ => ("TreesBeforeMen$Fault", "at", "I", true)
def tyX11 : Nat → FieldType := fun k => match k with
  | 0 => .object "java/lang/Throwable"
  | 1 => .array (.object "java/lang/StackTraceElement")
  | 2 => .object "java/util/List"
  | 3 => .object "java/lang/String"
  | 4 => .object "java/lang/Object"
  | 5 => .int
  | _ => .int
abbrev wsX110 : List Cond := u_ws RX11 TX11 7
theorem nmX11 : ∀ a, a < 7 → ∀ b, b < 7 → a ≠ b → (TX11 a).2.1 ≠ (TX11 b).2.1 := by decide +kernel
theorem tyX11_ok : ∀ k, k < 7 → parseFieldDescriptor (TX11 k).2.2.1 = some (tyX11 k) := by decide +kernel
abbrev cX11_init : ByteArray := prog_4_method_1_code
def yX11_init : MethodName := ⟨RX11, "<init>", "(I)V"⟩
def dkwX11_init_0 : List UInt8 := [42, 183, 0, 1, 42, 27, 181, 0, 7, 177]
abbrev dktX11_init_0 : List UInt8 := dkwX11_init_0 ++ []
theorem dksX11_init_0 : cX11_init.data.toList.drop 0 = dktX11_init_0 := by decide +kernel
theorem dX11_init_0 : decode cX11_init 0 = .ok (.aload_n 0, 1) := dk_42 (dk_at dksX11_init_0 0 rfl rfl)
theorem dX11_init_1 : decode cX11_init 1 = .ok (.invokespecial 1, 3) := dk_183 0 1 (dk_at dksX11_init_0 1 rfl rfl)
theorem dX11_init_4 : decode cX11_init 4 = .ok (.aload_n 0, 1) := dk_42 (dk_at dksX11_init_0 4 rfl rfl)
theorem dX11_init_5 : decode cX11_init 5 = .ok (.iload_n 1, 1) := dk_27 (dk_at dksX11_init_0 5 rfl rfl)
theorem dX11_init_6 : decode cX11_init 6 = .ok (.putfield 7, 3) := dk_181 0 7 (dk_at dksX11_init_0 6 rfl rfl)
theorem dX11_init_9 : decode cX11_init 9 = .ok (.return_, 1) := dk_177 (dk_at dksX11_init_0 9 rfl rfl)
theorem q104 : (Jvm.Cond.initialized "TreesBeforeMen$Fault") ∈ lw_all := lw_g (lw_at lw_m1 14 rfl) rfl
theorem q419 : (Jvm.Cond.instantiable "TreesBeforeMen$Fault" (7 : Nat)) ∈ lw_all := lw_g (lw_at lw_m2 89 rfl) rfl
theorem q420 : (Jvm.Cond.castable "TreesBeforeMen$Fault" "TreesBeforeMen$Fault") ∈ lw_tbl := lw_at lw_m2 90 rfl
theorem q425 : (Jvm.Cond.selects "TreesBeforeMen$Fault" ({ cls := "java/lang/Throwable", name := "fillInStackTrace", desc := "(I)Ljava/lang/Throwable;" } : Jvm.MethodName) ({ cls := "java/lang/Throwable", name := "fillInStackTrace", desc := "(I)Ljava/lang/Throwable;" } : Jvm.MethodName)) ∈ lw_all := lw_g (lw_at lw_m2 95 rfl) rfl
theorem q426 : (Jvm.Cond.selects "TreesBeforeMen$Fault" ({ cls := "java/lang/Throwable", name := "fillInStackTrace", desc := "()Ljava/lang/Throwable;" } : Jvm.MethodName) ({ cls := "java/lang/Throwable", name := "fillInStackTrace", desc := "()Ljava/lang/Throwable;" } : Jvm.MethodName)) ∈ lw_all := lw_g (lw_at lw_m2 96 rfl) rfl
theorem q427 : (Jvm.Cond.lays "TreesBeforeMen$Fault" "java/lang/Throwable" "cause" "Ljava/lang/Throwable;") ∈ lw_all := lw_g (lw_at lw_m2 97 rfl) rfl
theorem q429 : (Jvm.Cond.lays "TreesBeforeMen$Fault" "java/lang/Throwable" "stackTrace" "[Ljava/lang/StackTraceElement;") ∈ lw_all := lw_g (lw_at lw_m2 99 rfl) rfl
theorem q431 : (Jvm.Cond.lays "TreesBeforeMen$Fault" "java/lang/Throwable" "suppressedExceptions" "Ljava/util/List;") ∈ lw_all := lw_g (lw_at lw_m2 101 rfl) rfl
theorem q433 : (Jvm.Cond.lays "TreesBeforeMen$Fault" "java/lang/Throwable" "detailMessage" "Ljava/lang/String;") ∈ lw_all := lw_g (lw_at lw_m2 103 rfl) rfl
theorem q435 : (Jvm.Cond.lays "TreesBeforeMen$Fault" "java/lang/Throwable" "backtrace" "Ljava/lang/Object;") ∈ lw_all := lw_g (lw_at lw_m2 105 rfl) rfl
theorem q458 : (Jvm.Cond.instanceMethod ({ cls := "TreesBeforeMen$Fault", name := "<init>", desc := "(I)V" } : Jvm.MethodName)) ∈ lw_all := lw_g (lw_at lw_m2 128 rfl) rfl
theorem q459 : (Jvm.Cond.code ({ cls := "TreesBeforeMen$Fault", name := "<init>", desc := "(I)V" } : Jvm.MethodName) prog_4_method_1_code (2 : Nat) (Option.none : Option Jvm.ClassFile.FieldType)) ∈ lw_all := lw_g (lw_at lw_m2 129 rfl) rfl
theorem q460 : (Jvm.Cond.methodLink "TreesBeforeMen$Fault" (1 : Nat) ({ cls := "java/lang/Exception", name := "<init>", desc := "()V" } : Jvm.MethodName)) ∈ lw_all := lw_g (lw_at lw_m2 130 rfl) rfl
theorem q464 : (Jvm.Cond.fieldLink "TreesBeforeMen$Fault" (7 : Nat) "TreesBeforeMen$Fault" "at" "I") ∈ lw_all := lw_g (lw_at lw_m2 134 rfl) rfl
theorem q471 : (Jvm.Cond.laysFinal "TreesBeforeMen$Fault" "TreesBeforeMen$Fault" "at" "I") ∈ lw_all := lw_g (lw_at lw_m2 141 rfl) rfl
theorem q472 : (Jvm.Cond.soleField "TreesBeforeMen$Fault" "at") ∈ lw_all := lw_g (lw_at lw_m2 142 rfl) rfl
theorem q477 : (Jvm.Cond.lays "TreesBeforeMen$Fault" "java/lang/Throwable" "depth" "I") ∈ lw_all := lw_g (lw_at lw_m2 147 rfl) rfl
theorem q480 : (Jvm.Cond.superclass "TreesBeforeMen$Fault" "java/lang/Exception") ∈ lw_all := lw_g (lw_at lw_m2 150 rfl) rfl
theorem q1889 : (Jvm.Cond.castable "TreesBeforeMen$Fault" "java/lang/Object") ∈ lw_tbl := lw_at lw_m8 119 rfl
theorem in_X11 : ∀ w ∈ wsX110, w ∈ lw_all := lw_in wsX110 [427, 429, 431, 433, 435, 477, 471] (by decide +kernel) (by decide +kernel)
/-! TreesBeforeMen$Rule -/
set_option maxRecDepth 100000
def RX12 : String := "TreesBeforeMen$Rule"
def TX12 : u_T := fun k => match k with
  | 0 => ("TreesBeforeMen$Words", "of", "[B", true)
  | 1 => ("TreesBeforeMen$Words", "size", "I", true)
  | 2 => ("TreesBeforeMen$Words", "end", "I", true)
  | 3 => ("TreesBeforeMen$Words", "at", "I", false)
  | 4 => ("TreesBeforeMen$Rule", "voyage", "LTreesBeforeMen$Voyage;", false)
  | 5 => ("TreesBeforeMen$Rule", "given", "I", false)
  | _ => ("TreesBeforeMen$Rule", "this$0", "LTreesBeforeMen;", true)
def tyX12 : Nat → FieldType := fun k => match k with
  | 0 => .array .byte
  | 1 => .int
  | 2 => .int
  | 3 => .int
  | 4 => .object "TreesBeforeMen$Voyage"
  | 5 => .int
  | _ => .object "TreesBeforeMen"
abbrev wsX120 : List Cond := u_ws RX12 TX12 7
theorem nmX12 : ∀ a, a < 7 → ∀ b, b < 7 → a ≠ b → (TX12 a).2.1 ≠ (TX12 b).2.1 := by decide +kernel
theorem tyX12_ok : ∀ k, k < 7 → parseFieldDescriptor (TX12 k).2.2.1 = some (tyX12 k) := by decide +kernel
abbrev cX12_init : ByteArray := prog_11_method_1_code
def yX12_init : MethodName := ⟨RX12, "<init>", "(LTreesBeforeMen;[BI)V"⟩
def dkwX12_init_0 : List UInt8 := [42, 43, 181, 0, 3, 42, 44, 29, 16, 40, 183, 0, 9, 177]
abbrev dktX12_init_0 : List UInt8 := dkwX12_init_0 ++ []
theorem dksX12_init_0 : cX12_init.data.toList.drop 0 = dktX12_init_0 := by decide +kernel
theorem dX12_init_0 : decode cX12_init 0 = .ok (.aload_n 0, 1) := dk_42 (dk_at dksX12_init_0 0 rfl rfl)
theorem dX12_init_1 : decode cX12_init 1 = .ok (.aload_n 1, 1) := dk_43 (dk_at dksX12_init_0 1 rfl rfl)
theorem dX12_init_2 : decode cX12_init 2 = .ok (.putfield 3, 3) := dk_181 0 3 (dk_at dksX12_init_0 2 rfl rfl)
theorem dX12_init_5 : decode cX12_init 5 = .ok (.aload_n 0, 1) := dk_42 (dk_at dksX12_init_0 5 rfl rfl)
theorem dX12_init_6 : decode cX12_init 6 = .ok (.aload_n 2, 1) := dk_44 (dk_at dksX12_init_0 6 rfl rfl)
theorem dX12_init_7 : decode cX12_init 7 = .ok (.iload_n 3, 1) := dk_29 (dk_at dksX12_init_0 7 rfl rfl)
theorem dX12_init_8 : decode cX12_init 8 = .ok (.bipush 40, 2) := dk_16 40 (dk_at dksX12_init_0 8 rfl rfl)
theorem dX12_init_10 : decode cX12_init 10 = .ok (.invokespecial 9, 3) := dk_183 0 9 (dk_at dksX12_init_0 10 rfl rfl)
theorem dX12_init_13 : decode cX12_init 13 = .ok (.return_, 1) := dk_177 (dk_at dksX12_init_0 13 rfl rfl)
abbrev cX12_read : ByteArray := prog_11_method_2_code
def yX12_read : MethodName := ⟨RX12, "read", "()LTreesBeforeMen$Rule;"⟩
def dkwX12_read_0 : List UInt8 := [42, 3, 182, 0, 15, 87, 42, 182, 0, 19, 42, 176]
abbrev dktX12_read_0 : List UInt8 := dkwX12_read_0 ++ []
theorem dksX12_read_0 : cX12_read.data.toList.drop 0 = dktX12_read_0 := by decide +kernel
theorem dX12_read_0 : decode cX12_read 0 = .ok (.aload_n 0, 1) := dk_42 (dk_at dksX12_read_0 0 rfl rfl)
theorem dX12_read_1 : decode cX12_read 1 = .ok (.iconst 0, 1) := dk_3 (dk_at dksX12_read_0 1 rfl rfl)
theorem dX12_read_2 : decode cX12_read 2 = .ok (.invokevirtual 15, 3) := dk_182 0 15 (dk_at dksX12_read_0 2 rfl rfl)
theorem dX12_read_5 : decode cX12_read 5 = .ok (.pop, 1) := dk_87 (dk_at dksX12_read_0 5 rfl rfl)
theorem dX12_read_6 : decode cX12_read 6 = .ok (.aload_n 0, 1) := dk_42 (dk_at dksX12_read_0 6 rfl rfl)
theorem dX12_read_7 : decode cX12_read 7 = .ok (.invokevirtual 19, 3) := dk_182 0 19 (dk_at dksX12_read_0 7 rfl rfl)
theorem dX12_read_10 : decode cX12_read 10 = .ok (.aload_n 0, 1) := dk_42 (dk_at dksX12_read_0 10 rfl rfl)
theorem dX12_read_11 : decode cX12_read 11 = .ok (.areturn, 1) := dk_176 (dk_at dksX12_read_0 11 rfl rfl)
abbrev cX12_held : ByteArray := prog_11_method_4_code
def yX12_held : MethodName := ⟨RX12, "held", "(I)I"⟩
def dkwX12_held_3 : List UInt8 := [4, 167, 0, 4, 3, 172, 28, 172]
abbrev dktX12_held_3 : List UInt8 := dkwX12_held_3 ++ []
def dkwX12_held_2 : List UInt8 := [4, 167, 0, 4, 3, 172, 42, 16, 61, 182, 0, 39, 153, 0, 18, 28, 42, 27, 182, 0, 36, 160, 0, 7]
abbrev dktX12_held_2 : List UInt8 := dkwX12_held_2 ++ dktX12_held_3
def dkwX12_held_1 : List UInt8 := [4, 167, 0, 4, 3, 172, 42, 16, 62, 182, 0, 39, 153, 0, 18, 28, 42, 27, 182, 0, 36, 164, 0, 7]
abbrev dktX12_held_1 : List UInt8 := dkwX12_held_1 ++ dktX12_held_2
def dkwX12_held_0 : List UInt8 := [42, 27, 182, 0, 36, 61, 42, 16, 60, 182, 0, 39, 153, 0, 18, 28, 42, 27, 182, 0, 36, 162, 0, 7]
abbrev dktX12_held_0 : List UInt8 := dkwX12_held_0 ++ dktX12_held_1
theorem dksX12_held_0 : cX12_held.data.toList.drop 0 = dktX12_held_0 := by decide +kernel
theorem dksX12_held_1 : cX12_held.data.toList.drop 24 = dktX12_held_1 := dk_seg dksX12_held_0 24 rfl rfl
theorem dksX12_held_2 : cX12_held.data.toList.drop 48 = dktX12_held_2 := dk_seg dksX12_held_1 24 rfl rfl
theorem dksX12_held_3 : cX12_held.data.toList.drop 72 = dktX12_held_3 := dk_seg dksX12_held_2 24 rfl rfl
theorem dX12_held_0 : decode cX12_held 0 = .ok (.aload_n 0, 1) := dk_42 (dk_at dksX12_held_0 0 rfl rfl)
theorem dX12_held_1 : decode cX12_held 1 = .ok (.iload_n 1, 1) := dk_27 (dk_at dksX12_held_0 1 rfl rfl)
theorem dX12_held_2 : decode cX12_held 2 = .ok (.invokevirtual 36, 3) := dk_182 0 36 (dk_at dksX12_held_0 2 rfl rfl)
theorem dX12_held_5 : decode cX12_held 5 = .ok (.istore_n 2, 1) := dk_61 (dk_at dksX12_held_0 5 rfl rfl)
theorem dX12_held_6 : decode cX12_held 6 = .ok (.aload_n 0, 1) := dk_42 (dk_at dksX12_held_0 6 rfl rfl)
theorem dX12_held_7 : decode cX12_held 7 = .ok (.bipush 60, 2) := dk_16 60 (dk_at dksX12_held_0 7 rfl rfl)
theorem dX12_held_9 : decode cX12_held 9 = .ok (.invokevirtual 39, 3) := dk_182 0 39 (dk_at dksX12_held_0 9 rfl rfl)
theorem dX12_held_12 : decode cX12_held 12 = .ok (.ifCond .eq 18, 3) := dk_153 0 18 (dk_at dksX12_held_0 12 rfl rfl)
theorem dX12_held_15 : decode cX12_held 15 = .ok (.iload_n 2, 1) := dk_28 (dk_at dksX12_held_0 15 rfl rfl)
theorem dX12_held_16 : decode cX12_held 16 = .ok (.aload_n 0, 1) := dk_42 (dk_at dksX12_held_0 16 rfl rfl)
theorem dX12_held_17 : decode cX12_held 17 = .ok (.iload_n 1, 1) := dk_27 (dk_at dksX12_held_0 17 rfl rfl)
theorem dX12_held_18 : decode cX12_held 18 = .ok (.invokevirtual 36, 3) := dk_182 0 36 (dk_at dksX12_held_0 18 rfl rfl)
theorem dX12_held_21 : decode cX12_held 21 = .ok (.if_icmp .ge 7, 3) := dk_162 0 7 (dk_at dksX12_held_0 21 rfl rfl)
theorem dX12_held_24 : decode cX12_held 24 = .ok (.iconst 1, 1) := dk_4 (dk_at dksX12_held_1 0 rfl rfl)
theorem dX12_held_25 : decode cX12_held 25 = .ok (.goto 4, 3) := dk_167 0 4 (dk_at dksX12_held_1 1 rfl rfl)
theorem dX12_held_28 : decode cX12_held 28 = .ok (.iconst 0, 1) := dk_3 (dk_at dksX12_held_1 4 rfl rfl)
theorem dX12_held_29 : decode cX12_held 29 = .ok (.ireturn, 1) := dk_172 (dk_at dksX12_held_1 5 rfl rfl)
theorem dX12_held_30 : decode cX12_held 30 = .ok (.aload_n 0, 1) := dk_42 (dk_at dksX12_held_1 6 rfl rfl)
theorem dX12_held_31 : decode cX12_held 31 = .ok (.bipush 62, 2) := dk_16 62 (dk_at dksX12_held_1 7 rfl rfl)
theorem dX12_held_33 : decode cX12_held 33 = .ok (.invokevirtual 39, 3) := dk_182 0 39 (dk_at dksX12_held_1 9 rfl rfl)
theorem dX12_held_36 : decode cX12_held 36 = .ok (.ifCond .eq 18, 3) := dk_153 0 18 (dk_at dksX12_held_1 12 rfl rfl)
theorem dX12_held_39 : decode cX12_held 39 = .ok (.iload_n 2, 1) := dk_28 (dk_at dksX12_held_1 15 rfl rfl)
theorem dX12_held_40 : decode cX12_held 40 = .ok (.aload_n 0, 1) := dk_42 (dk_at dksX12_held_1 16 rfl rfl)
theorem dX12_held_41 : decode cX12_held 41 = .ok (.iload_n 1, 1) := dk_27 (dk_at dksX12_held_1 17 rfl rfl)
theorem dX12_held_42 : decode cX12_held 42 = .ok (.invokevirtual 36, 3) := dk_182 0 36 (dk_at dksX12_held_1 18 rfl rfl)
theorem dX12_held_45 : decode cX12_held 45 = .ok (.if_icmp .le 7, 3) := dk_164 0 7 (dk_at dksX12_held_1 21 rfl rfl)
theorem dX12_held_48 : decode cX12_held 48 = .ok (.iconst 1, 1) := dk_4 (dk_at dksX12_held_2 0 rfl rfl)
theorem dX12_held_49 : decode cX12_held 49 = .ok (.goto 4, 3) := dk_167 0 4 (dk_at dksX12_held_2 1 rfl rfl)
theorem dX12_held_52 : decode cX12_held 52 = .ok (.iconst 0, 1) := dk_3 (dk_at dksX12_held_2 4 rfl rfl)
theorem dX12_held_53 : decode cX12_held 53 = .ok (.ireturn, 1) := dk_172 (dk_at dksX12_held_2 5 rfl rfl)
theorem dX12_held_54 : decode cX12_held 54 = .ok (.aload_n 0, 1) := dk_42 (dk_at dksX12_held_2 6 rfl rfl)
theorem dX12_held_55 : decode cX12_held 55 = .ok (.bipush 61, 2) := dk_16 61 (dk_at dksX12_held_2 7 rfl rfl)
theorem dX12_held_57 : decode cX12_held 57 = .ok (.invokevirtual 39, 3) := dk_182 0 39 (dk_at dksX12_held_2 9 rfl rfl)
theorem dX12_held_60 : decode cX12_held 60 = .ok (.ifCond .eq 18, 3) := dk_153 0 18 (dk_at dksX12_held_2 12 rfl rfl)
theorem dX12_held_63 : decode cX12_held 63 = .ok (.iload_n 2, 1) := dk_28 (dk_at dksX12_held_2 15 rfl rfl)
theorem dX12_held_64 : decode cX12_held 64 = .ok (.aload_n 0, 1) := dk_42 (dk_at dksX12_held_2 16 rfl rfl)
theorem dX12_held_65 : decode cX12_held 65 = .ok (.iload_n 1, 1) := dk_27 (dk_at dksX12_held_2 17 rfl rfl)
theorem dX12_held_66 : decode cX12_held 66 = .ok (.invokevirtual 36, 3) := dk_182 0 36 (dk_at dksX12_held_2 18 rfl rfl)
theorem dX12_held_69 : decode cX12_held 69 = .ok (.if_icmp .ne 7, 3) := dk_160 0 7 (dk_at dksX12_held_2 21 rfl rfl)
theorem dX12_held_72 : decode cX12_held 72 = .ok (.iconst 1, 1) := dk_4 (dk_at dksX12_held_3 0 rfl rfl)
theorem dX12_held_73 : decode cX12_held 73 = .ok (.goto 4, 3) := dk_167 0 4 (dk_at dksX12_held_3 1 rfl rfl)
theorem dX12_held_76 : decode cX12_held 76 = .ok (.iconst 0, 1) := dk_3 (dk_at dksX12_held_3 4 rfl rfl)
theorem dX12_held_77 : decode cX12_held 77 = .ok (.ireturn, 1) := dk_172 (dk_at dksX12_held_3 5 rfl rfl)
theorem dX12_held_78 : decode cX12_held 78 = .ok (.iload_n 2, 1) := dk_28 (dk_at dksX12_held_3 6 rfl rfl)
theorem dX12_held_79 : decode cX12_held 79 = .ok (.ireturn, 1) := dk_172 (dk_at dksX12_held_3 7 rfl rfl)
abbrev cX12_sum : ByteArray := prog_11_method_5_code
def yX12_sum : MethodName := ⟨RX12, "sum", "(I)I"⟩
def dkwX12_sum_3 : List UInt8 := [100, 61, 167, 255, 190, 28, 172]
abbrev dktX12_sum_3 : List UInt8 := dkwX12_sum_3 ++ []
def dkwX12_sum_2 : List UInt8 := [181, 0, 31, 42, 27, 182, 0, 43, 54, 4, 29, 153, 0, 10, 28, 21, 4, 96, 167, 0, 7, 28, 21, 4]
abbrev dktX12_sum_2 : List UInt8 := dkwX12_sum_2 ++ dktX12_sum_3
def dkwX12_sum_1 : List UInt8 := [42, 182, 0, 46, 16, 43, 160, 0, 7, 4, 167, 0, 4, 3, 62, 42, 89, 180, 0, 31, 4, 96]
abbrev dktX12_sum_1 : List UInt8 := dkwX12_sum_1 ++ dktX12_sum_2
def dkwX12_sum_0 : List UInt8 := [42, 27, 182, 0, 43, 61, 42, 182, 0, 46, 16, 43, 159, 0, 12, 42, 182, 0, 46, 16, 45, 160, 0, 54]
abbrev dktX12_sum_0 : List UInt8 := dkwX12_sum_0 ++ dktX12_sum_1
theorem dksX12_sum_0 : cX12_sum.data.toList.drop 0 = dktX12_sum_0 := by decide +kernel
theorem dksX12_sum_1 : cX12_sum.data.toList.drop 24 = dktX12_sum_1 := dk_seg dksX12_sum_0 24 rfl rfl
theorem dksX12_sum_2 : cX12_sum.data.toList.drop 46 = dktX12_sum_2 := dk_seg dksX12_sum_1 22 rfl rfl
theorem dksX12_sum_3 : cX12_sum.data.toList.drop 70 = dktX12_sum_3 := dk_seg dksX12_sum_2 24 rfl rfl
theorem dX12_sum_0 : decode cX12_sum 0 = .ok (.aload_n 0, 1) := dk_42 (dk_at dksX12_sum_0 0 rfl rfl)
theorem dX12_sum_1 : decode cX12_sum 1 = .ok (.iload_n 1, 1) := dk_27 (dk_at dksX12_sum_0 1 rfl rfl)
theorem dX12_sum_2 : decode cX12_sum 2 = .ok (.invokevirtual 43, 3) := dk_182 0 43 (dk_at dksX12_sum_0 2 rfl rfl)
theorem dX12_sum_5 : decode cX12_sum 5 = .ok (.istore_n 2, 1) := dk_61 (dk_at dksX12_sum_0 5 rfl rfl)
theorem dX12_sum_6 : decode cX12_sum 6 = .ok (.aload_n 0, 1) := dk_42 (dk_at dksX12_sum_0 6 rfl rfl)
theorem dX12_sum_7 : decode cX12_sum 7 = .ok (.invokevirtual 46, 3) := dk_182 0 46 (dk_at dksX12_sum_0 7 rfl rfl)
theorem dX12_sum_10 : decode cX12_sum 10 = .ok (.bipush 43, 2) := dk_16 43 (dk_at dksX12_sum_0 10 rfl rfl)
theorem dX12_sum_12 : decode cX12_sum 12 = .ok (.if_icmp .eq 12, 3) := dk_159 0 12 (dk_at dksX12_sum_0 12 rfl rfl)
theorem dX12_sum_15 : decode cX12_sum 15 = .ok (.aload_n 0, 1) := dk_42 (dk_at dksX12_sum_0 15 rfl rfl)
theorem dX12_sum_16 : decode cX12_sum 16 = .ok (.invokevirtual 46, 3) := dk_182 0 46 (dk_at dksX12_sum_0 16 rfl rfl)
theorem dX12_sum_19 : decode cX12_sum 19 = .ok (.bipush 45, 2) := dk_16 45 (dk_at dksX12_sum_0 19 rfl rfl)
theorem dX12_sum_21 : decode cX12_sum 21 = .ok (.if_icmp .ne 54, 3) := dk_160 0 54 (dk_at dksX12_sum_0 21 rfl rfl)
theorem dX12_sum_24 : decode cX12_sum 24 = .ok (.aload_n 0, 1) := dk_42 (dk_at dksX12_sum_1 0 rfl rfl)
theorem dX12_sum_25 : decode cX12_sum 25 = .ok (.invokevirtual 46, 3) := dk_182 0 46 (dk_at dksX12_sum_1 1 rfl rfl)
theorem dX12_sum_28 : decode cX12_sum 28 = .ok (.bipush 43, 2) := dk_16 43 (dk_at dksX12_sum_1 4 rfl rfl)
theorem dX12_sum_30 : decode cX12_sum 30 = .ok (.if_icmp .ne 7, 3) := dk_160 0 7 (dk_at dksX12_sum_1 6 rfl rfl)
theorem dX12_sum_33 : decode cX12_sum 33 = .ok (.iconst 1, 1) := dk_4 (dk_at dksX12_sum_1 9 rfl rfl)
theorem dX12_sum_34 : decode cX12_sum 34 = .ok (.goto 4, 3) := dk_167 0 4 (dk_at dksX12_sum_1 10 rfl rfl)
theorem dX12_sum_37 : decode cX12_sum 37 = .ok (.iconst 0, 1) := dk_3 (dk_at dksX12_sum_1 13 rfl rfl)
theorem dX12_sum_38 : decode cX12_sum 38 = .ok (.istore_n 3, 1) := dk_62 (dk_at dksX12_sum_1 14 rfl rfl)
theorem dX12_sum_39 : decode cX12_sum 39 = .ok (.aload_n 0, 1) := dk_42 (dk_at dksX12_sum_1 15 rfl rfl)
theorem dX12_sum_40 : decode cX12_sum 40 = .ok (.dup, 1) := dk_89 (dk_at dksX12_sum_1 16 rfl rfl)
theorem dX12_sum_41 : decode cX12_sum 41 = .ok (.getfield 31, 3) := dk_180 0 31 (dk_at dksX12_sum_1 17 rfl rfl)
theorem dX12_sum_44 : decode cX12_sum 44 = .ok (.iconst 1, 1) := dk_4 (dk_at dksX12_sum_1 20 rfl rfl)
theorem dX12_sum_45 : decode cX12_sum 45 = .ok (.iadd, 1) := dk_96 (dk_at dksX12_sum_1 21 rfl rfl)
theorem dX12_sum_46 : decode cX12_sum 46 = .ok (.putfield 31, 3) := dk_181 0 31 (dk_at dksX12_sum_2 0 rfl rfl)
theorem dX12_sum_49 : decode cX12_sum 49 = .ok (.aload_n 0, 1) := dk_42 (dk_at dksX12_sum_2 3 rfl rfl)
theorem dX12_sum_50 : decode cX12_sum 50 = .ok (.iload_n 1, 1) := dk_27 (dk_at dksX12_sum_2 4 rfl rfl)
theorem dX12_sum_51 : decode cX12_sum 51 = .ok (.invokevirtual 43, 3) := dk_182 0 43 (dk_at dksX12_sum_2 5 rfl rfl)
theorem dX12_sum_54 : decode cX12_sum 54 = .ok (.istore 4, 2) := dk_54 4 (dk_at dksX12_sum_2 8 rfl rfl)
theorem dX12_sum_56 : decode cX12_sum 56 = .ok (.iload_n 3, 1) := dk_29 (dk_at dksX12_sum_2 10 rfl rfl)
theorem dX12_sum_57 : decode cX12_sum 57 = .ok (.ifCond .eq 10, 3) := dk_153 0 10 (dk_at dksX12_sum_2 11 rfl rfl)
theorem dX12_sum_60 : decode cX12_sum 60 = .ok (.iload_n 2, 1) := dk_28 (dk_at dksX12_sum_2 14 rfl rfl)
theorem dX12_sum_61 : decode cX12_sum 61 = .ok (.iload 4, 2) := dk_21 4 (dk_at dksX12_sum_2 15 rfl rfl)
theorem dX12_sum_63 : decode cX12_sum 63 = .ok (.iadd, 1) := dk_96 (dk_at dksX12_sum_2 17 rfl rfl)
theorem dX12_sum_64 : decode cX12_sum 64 = .ok (.goto 7, 3) := dk_167 0 7 (dk_at dksX12_sum_2 18 rfl rfl)
theorem dX12_sum_67 : decode cX12_sum 67 = .ok (.iload_n 2, 1) := dk_28 (dk_at dksX12_sum_2 21 rfl rfl)
theorem dX12_sum_68 : decode cX12_sum 68 = .ok (.iload 4, 2) := dk_21 4 (dk_at dksX12_sum_2 22 rfl rfl)
theorem dX12_sum_70 : decode cX12_sum 70 = .ok (.isub, 1) := dk_100 (dk_at dksX12_sum_3 0 rfl rfl)
theorem dX12_sum_71 : decode cX12_sum 71 = .ok (.istore_n 2, 1) := dk_61 (dk_at dksX12_sum_3 1 rfl rfl)
theorem dX12_sum_72 : decode cX12_sum 72 = .ok (.goto (-66), 3) := dk_167 255 190 (dk_at dksX12_sum_3 2 rfl rfl)
theorem dX12_sum_75 : decode cX12_sum 75 = .ok (.iload_n 2, 1) := dk_28 (dk_at dksX12_sum_3 5 rfl rfl)
theorem dX12_sum_76 : decode cX12_sum 76 = .ok (.ireturn, 1) := dk_172 (dk_at dksX12_sum_3 6 rfl rfl)
abbrev cX12_product : ByteArray := prog_11_method_6_code
def yX12_product : MethodName := ⟨RX12, "product", "(I)I"⟩
def dkwX12_product_3 : List UInt8 := [154, 0, 7, 3, 167, 0, 7, 28, 21, 4, 108, 61, 167, 255, 181, 28, 172]
abbrev dktX12_product_3 : List UInt8 := dkwX12_product_3 ++ []
def dkwX12_product_2 : List UInt8 := [181, 0, 31, 42, 27, 182, 0, 50, 54, 4, 29, 153, 0, 10, 28, 21, 4, 104, 167, 0, 16, 21, 4]
abbrev dktX12_product_2 : List UInt8 := dkwX12_product_2 ++ dktX12_product_3
def dkwX12_product_1 : List UInt8 := [42, 182, 0, 46, 16, 42, 160, 0, 7, 4, 167, 0, 4, 3, 62, 42, 89, 180, 0, 31, 4, 96]
abbrev dktX12_product_1 : List UInt8 := dkwX12_product_1 ++ dktX12_product_2
def dkwX12_product_0 : List UInt8 := [42, 27, 182, 0, 50, 61, 42, 182, 0, 46, 16, 42, 159, 0, 12, 42, 182, 0, 46, 16, 47, 160, 0, 63]
abbrev dktX12_product_0 : List UInt8 := dkwX12_product_0 ++ dktX12_product_1
theorem dksX12_product_0 : cX12_product.data.toList.drop 0 = dktX12_product_0 := by decide +kernel
theorem dksX12_product_1 : cX12_product.data.toList.drop 24 = dktX12_product_1 := dk_seg dksX12_product_0 24 rfl rfl
theorem dksX12_product_2 : cX12_product.data.toList.drop 46 = dktX12_product_2 := dk_seg dksX12_product_1 22 rfl rfl
theorem dksX12_product_3 : cX12_product.data.toList.drop 69 = dktX12_product_3 := dk_seg dksX12_product_2 23 rfl rfl
theorem dX12_product_0 : decode cX12_product 0 = .ok (.aload_n 0, 1) := dk_42 (dk_at dksX12_product_0 0 rfl rfl)
theorem dX12_product_1 : decode cX12_product 1 = .ok (.iload_n 1, 1) := dk_27 (dk_at dksX12_product_0 1 rfl rfl)
theorem dX12_product_2 : decode cX12_product 2 = .ok (.invokevirtual 50, 3) := dk_182 0 50 (dk_at dksX12_product_0 2 rfl rfl)
theorem dX12_product_5 : decode cX12_product 5 = .ok (.istore_n 2, 1) := dk_61 (dk_at dksX12_product_0 5 rfl rfl)
theorem dX12_product_6 : decode cX12_product 6 = .ok (.aload_n 0, 1) := dk_42 (dk_at dksX12_product_0 6 rfl rfl)
theorem dX12_product_7 : decode cX12_product 7 = .ok (.invokevirtual 46, 3) := dk_182 0 46 (dk_at dksX12_product_0 7 rfl rfl)
theorem dX12_product_10 : decode cX12_product 10 = .ok (.bipush 42, 2) := dk_16 42 (dk_at dksX12_product_0 10 rfl rfl)
theorem dX12_product_12 : decode cX12_product 12 = .ok (.if_icmp .eq 12, 3) := dk_159 0 12 (dk_at dksX12_product_0 12 rfl rfl)
theorem dX12_product_15 : decode cX12_product 15 = .ok (.aload_n 0, 1) := dk_42 (dk_at dksX12_product_0 15 rfl rfl)
theorem dX12_product_16 : decode cX12_product 16 = .ok (.invokevirtual 46, 3) := dk_182 0 46 (dk_at dksX12_product_0 16 rfl rfl)
theorem dX12_product_19 : decode cX12_product 19 = .ok (.bipush 47, 2) := dk_16 47 (dk_at dksX12_product_0 19 rfl rfl)
theorem dX12_product_21 : decode cX12_product 21 = .ok (.if_icmp .ne 63, 3) := dk_160 0 63 (dk_at dksX12_product_0 21 rfl rfl)
theorem dX12_product_24 : decode cX12_product 24 = .ok (.aload_n 0, 1) := dk_42 (dk_at dksX12_product_1 0 rfl rfl)
theorem dX12_product_25 : decode cX12_product 25 = .ok (.invokevirtual 46, 3) := dk_182 0 46 (dk_at dksX12_product_1 1 rfl rfl)
theorem dX12_product_28 : decode cX12_product 28 = .ok (.bipush 42, 2) := dk_16 42 (dk_at dksX12_product_1 4 rfl rfl)
theorem dX12_product_30 : decode cX12_product 30 = .ok (.if_icmp .ne 7, 3) := dk_160 0 7 (dk_at dksX12_product_1 6 rfl rfl)
theorem dX12_product_33 : decode cX12_product 33 = .ok (.iconst 1, 1) := dk_4 (dk_at dksX12_product_1 9 rfl rfl)
theorem dX12_product_34 : decode cX12_product 34 = .ok (.goto 4, 3) := dk_167 0 4 (dk_at dksX12_product_1 10 rfl rfl)
theorem dX12_product_37 : decode cX12_product 37 = .ok (.iconst 0, 1) := dk_3 (dk_at dksX12_product_1 13 rfl rfl)
theorem dX12_product_38 : decode cX12_product 38 = .ok (.istore_n 3, 1) := dk_62 (dk_at dksX12_product_1 14 rfl rfl)
theorem dX12_product_39 : decode cX12_product 39 = .ok (.aload_n 0, 1) := dk_42 (dk_at dksX12_product_1 15 rfl rfl)
theorem dX12_product_40 : decode cX12_product 40 = .ok (.dup, 1) := dk_89 (dk_at dksX12_product_1 16 rfl rfl)
theorem dX12_product_41 : decode cX12_product 41 = .ok (.getfield 31, 3) := dk_180 0 31 (dk_at dksX12_product_1 17 rfl rfl)
theorem dX12_product_44 : decode cX12_product 44 = .ok (.iconst 1, 1) := dk_4 (dk_at dksX12_product_1 20 rfl rfl)
theorem dX12_product_45 : decode cX12_product 45 = .ok (.iadd, 1) := dk_96 (dk_at dksX12_product_1 21 rfl rfl)
theorem dX12_product_46 : decode cX12_product 46 = .ok (.putfield 31, 3) := dk_181 0 31 (dk_at dksX12_product_2 0 rfl rfl)
theorem dX12_product_49 : decode cX12_product 49 = .ok (.aload_n 0, 1) := dk_42 (dk_at dksX12_product_2 3 rfl rfl)
theorem dX12_product_50 : decode cX12_product 50 = .ok (.iload_n 1, 1) := dk_27 (dk_at dksX12_product_2 4 rfl rfl)
theorem dX12_product_51 : decode cX12_product 51 = .ok (.invokevirtual 50, 3) := dk_182 0 50 (dk_at dksX12_product_2 5 rfl rfl)
theorem dX12_product_54 : decode cX12_product 54 = .ok (.istore 4, 2) := dk_54 4 (dk_at dksX12_product_2 8 rfl rfl)
theorem dX12_product_56 : decode cX12_product 56 = .ok (.iload_n 3, 1) := dk_29 (dk_at dksX12_product_2 10 rfl rfl)
theorem dX12_product_57 : decode cX12_product 57 = .ok (.ifCond .eq 10, 3) := dk_153 0 10 (dk_at dksX12_product_2 11 rfl rfl)
theorem dX12_product_60 : decode cX12_product 60 = .ok (.iload_n 2, 1) := dk_28 (dk_at dksX12_product_2 14 rfl rfl)
theorem dX12_product_61 : decode cX12_product 61 = .ok (.iload 4, 2) := dk_21 4 (dk_at dksX12_product_2 15 rfl rfl)
theorem dX12_product_63 : decode cX12_product 63 = .ok (.imul, 1) := dk_104 (dk_at dksX12_product_2 17 rfl rfl)
theorem dX12_product_64 : decode cX12_product 64 = .ok (.goto 16, 3) := dk_167 0 16 (dk_at dksX12_product_2 18 rfl rfl)
theorem dX12_product_67 : decode cX12_product 67 = .ok (.iload 4, 2) := dk_21 4 (dk_at dksX12_product_2 21 rfl rfl)
theorem dX12_product_69 : decode cX12_product 69 = .ok (.ifCond .ne 7, 3) := dk_154 0 7 (dk_at dksX12_product_3 0 rfl rfl)
theorem dX12_product_72 : decode cX12_product 72 = .ok (.iconst 0, 1) := dk_3 (dk_at dksX12_product_3 3 rfl rfl)
theorem dX12_product_73 : decode cX12_product 73 = .ok (.goto 7, 3) := dk_167 0 7 (dk_at dksX12_product_3 4 rfl rfl)
theorem dX12_product_76 : decode cX12_product 76 = .ok (.iload_n 2, 1) := dk_28 (dk_at dksX12_product_3 7 rfl rfl)
theorem dX12_product_77 : decode cX12_product 77 = .ok (.iload 4, 2) := dk_21 4 (dk_at dksX12_product_3 8 rfl rfl)
theorem dX12_product_79 : decode cX12_product 79 = .ok (.idiv, 1) := dk_108 (dk_at dksX12_product_3 10 rfl rfl)
theorem dX12_product_80 : decode cX12_product 80 = .ok (.istore_n 2, 1) := dk_61 (dk_at dksX12_product_3 11 rfl rfl)
theorem dX12_product_81 : decode cX12_product 81 = .ok (.goto (-75), 3) := dk_167 255 181 (dk_at dksX12_product_3 12 rfl rfl)
theorem dX12_product_84 : decode cX12_product 84 = .ok (.iload_n 2, 1) := dk_28 (dk_at dksX12_product_3 15 rfl rfl)
theorem dX12_product_85 : decode cX12_product 85 = .ok (.ireturn, 1) := dk_172 (dk_at dksX12_product_3 16 rfl rfl)
abbrev cX12_thing : ByteArray := prog_11_method_7_code
def yX12_thing : MethodName := ⟨RX12, "thing", "(I)I"⟩
def dkwX12_thing_6 : List UInt8 := [42, 28, 182, 0, 75, 172]
abbrev dktX12_thing_6 : List UInt8 := dkwX12_thing_6 ++ []
def dkwX12_thing_5 : List UInt8 := [182, 0, 53, 42, 89, 180, 0, 31, 4, 96, 181, 0, 31, 42, 180, 0, 23, 199, 0, 7, 3, 167, 0, 8]
abbrev dktX12_thing_5 : List UInt8 := dkwX12_thing_5 ++ dktX12_thing_6
def dkwX12_thing_4 : List UInt8 := [182, 0, 46, 61, 42, 28, 2, 159, 0, 16, 18, 68, 28, 182, 0, 70, 155, 0, 7, 4, 167, 0, 4, 3]
abbrev dktX12_thing_4 : List UInt8 := dkwX12_thing_4 ++ dktX12_thing_5
def dkwX12_thing_3 : List UInt8 := [182, 0, 46, 133, 20, 0, 57, 20, 0, 59, 184, 0, 61, 153, 0, 9, 42, 6, 182, 0, 65, 172, 42]
abbrev dktX12_thing_3 : List UInt8 := dkwX12_thing_3 ++ dktX12_thing_4
def dkwX12_thing_2 : List UInt8 := [181, 0, 31, 42, 27, 4, 96, 182, 0, 15, 61, 42, 42, 16, 41, 182, 0, 39, 182, 0, 53, 28, 172, 42]
abbrev dktX12_thing_2 : List UInt8 := dkwX12_thing_2 ++ dktX12_thing_3
def dkwX12_thing_1 : List UInt8 := [160, 0, 47, 42, 27, 7, 162, 0, 7, 4, 167, 0, 4, 3, 182, 0, 53, 42, 89, 180, 0, 31, 4, 96]
abbrev dktX12_thing_1 : List UInt8 := dkwX12_thing_1 ++ dktX12_thing_2
def dkwX12_thing_0 : List UInt8 := [42, 16, 45, 182, 0, 39, 153, 0, 10, 42, 27, 182, 0, 50, 116, 172, 42, 182, 0, 46, 16, 40]
abbrev dktX12_thing_0 : List UInt8 := dkwX12_thing_0 ++ dktX12_thing_1
theorem dksX12_thing_0 : cX12_thing.data.toList.drop 0 = dktX12_thing_0 := by decide +kernel
theorem dksX12_thing_1 : cX12_thing.data.toList.drop 22 = dktX12_thing_1 := dk_seg dksX12_thing_0 22 rfl rfl
theorem dksX12_thing_2 : cX12_thing.data.toList.drop 46 = dktX12_thing_2 := dk_seg dksX12_thing_1 24 rfl rfl
theorem dksX12_thing_3 : cX12_thing.data.toList.drop 70 = dktX12_thing_3 := dk_seg dksX12_thing_2 24 rfl rfl
theorem dksX12_thing_4 : cX12_thing.data.toList.drop 93 = dktX12_thing_4 := dk_seg dksX12_thing_3 23 rfl rfl
theorem dksX12_thing_5 : cX12_thing.data.toList.drop 117 = dktX12_thing_5 := dk_seg dksX12_thing_4 24 rfl rfl
theorem dksX12_thing_6 : cX12_thing.data.toList.drop 141 = dktX12_thing_6 := dk_seg dksX12_thing_5 24 rfl rfl
theorem dX12_thing_0 : decode cX12_thing 0 = .ok (.aload_n 0, 1) := dk_42 (dk_at dksX12_thing_0 0 rfl rfl)
theorem dX12_thing_1 : decode cX12_thing 1 = .ok (.bipush 45, 2) := dk_16 45 (dk_at dksX12_thing_0 1 rfl rfl)
theorem dX12_thing_3 : decode cX12_thing 3 = .ok (.invokevirtual 39, 3) := dk_182 0 39 (dk_at dksX12_thing_0 3 rfl rfl)
theorem dX12_thing_6 : decode cX12_thing 6 = .ok (.ifCond .eq 10, 3) := dk_153 0 10 (dk_at dksX12_thing_0 6 rfl rfl)
theorem dX12_thing_9 : decode cX12_thing 9 = .ok (.aload_n 0, 1) := dk_42 (dk_at dksX12_thing_0 9 rfl rfl)
theorem dX12_thing_10 : decode cX12_thing 10 = .ok (.iload_n 1, 1) := dk_27 (dk_at dksX12_thing_0 10 rfl rfl)
theorem dX12_thing_11 : decode cX12_thing 11 = .ok (.invokevirtual 50, 3) := dk_182 0 50 (dk_at dksX12_thing_0 11 rfl rfl)
theorem dX12_thing_14 : decode cX12_thing 14 = .ok (.ineg, 1) := dk_116 (dk_at dksX12_thing_0 14 rfl rfl)
theorem dX12_thing_15 : decode cX12_thing 15 = .ok (.ireturn, 1) := dk_172 (dk_at dksX12_thing_0 15 rfl rfl)
theorem dX12_thing_16 : decode cX12_thing 16 = .ok (.aload_n 0, 1) := dk_42 (dk_at dksX12_thing_0 16 rfl rfl)
theorem dX12_thing_17 : decode cX12_thing 17 = .ok (.invokevirtual 46, 3) := dk_182 0 46 (dk_at dksX12_thing_0 17 rfl rfl)
theorem dX12_thing_20 : decode cX12_thing 20 = .ok (.bipush 40, 2) := dk_16 40 (dk_at dksX12_thing_0 20 rfl rfl)
theorem dX12_thing_22 : decode cX12_thing 22 = .ok (.if_icmp .ne 47, 3) := dk_160 0 47 (dk_at dksX12_thing_1 0 rfl rfl)
theorem dX12_thing_25 : decode cX12_thing 25 = .ok (.aload_n 0, 1) := dk_42 (dk_at dksX12_thing_1 3 rfl rfl)
theorem dX12_thing_26 : decode cX12_thing 26 = .ok (.iload_n 1, 1) := dk_27 (dk_at dksX12_thing_1 4 rfl rfl)
theorem dX12_thing_27 : decode cX12_thing 27 = .ok (.iconst 4, 1) := dk_7 (dk_at dksX12_thing_1 5 rfl rfl)
theorem dX12_thing_28 : decode cX12_thing 28 = .ok (.if_icmp .ge 7, 3) := dk_162 0 7 (dk_at dksX12_thing_1 6 rfl rfl)
theorem dX12_thing_31 : decode cX12_thing 31 = .ok (.iconst 1, 1) := dk_4 (dk_at dksX12_thing_1 9 rfl rfl)
theorem dX12_thing_32 : decode cX12_thing 32 = .ok (.goto 4, 3) := dk_167 0 4 (dk_at dksX12_thing_1 10 rfl rfl)
theorem dX12_thing_35 : decode cX12_thing 35 = .ok (.iconst 0, 1) := dk_3 (dk_at dksX12_thing_1 13 rfl rfl)
theorem dX12_thing_36 : decode cX12_thing 36 = .ok (.invokevirtual 53, 3) := dk_182 0 53 (dk_at dksX12_thing_1 14 rfl rfl)
theorem dX12_thing_39 : decode cX12_thing 39 = .ok (.aload_n 0, 1) := dk_42 (dk_at dksX12_thing_1 17 rfl rfl)
theorem dX12_thing_40 : decode cX12_thing 40 = .ok (.dup, 1) := dk_89 (dk_at dksX12_thing_1 18 rfl rfl)
theorem dX12_thing_41 : decode cX12_thing 41 = .ok (.getfield 31, 3) := dk_180 0 31 (dk_at dksX12_thing_1 19 rfl rfl)
theorem dX12_thing_44 : decode cX12_thing 44 = .ok (.iconst 1, 1) := dk_4 (dk_at dksX12_thing_1 22 rfl rfl)
theorem dX12_thing_45 : decode cX12_thing 45 = .ok (.iadd, 1) := dk_96 (dk_at dksX12_thing_1 23 rfl rfl)
theorem dX12_thing_46 : decode cX12_thing 46 = .ok (.putfield 31, 3) := dk_181 0 31 (dk_at dksX12_thing_2 0 rfl rfl)
theorem dX12_thing_49 : decode cX12_thing 49 = .ok (.aload_n 0, 1) := dk_42 (dk_at dksX12_thing_2 3 rfl rfl)
theorem dX12_thing_50 : decode cX12_thing 50 = .ok (.iload_n 1, 1) := dk_27 (dk_at dksX12_thing_2 4 rfl rfl)
theorem dX12_thing_51 : decode cX12_thing 51 = .ok (.iconst 1, 1) := dk_4 (dk_at dksX12_thing_2 5 rfl rfl)
theorem dX12_thing_52 : decode cX12_thing 52 = .ok (.iadd, 1) := dk_96 (dk_at dksX12_thing_2 6 rfl rfl)
theorem dX12_thing_53 : decode cX12_thing 53 = .ok (.invokevirtual 15, 3) := dk_182 0 15 (dk_at dksX12_thing_2 7 rfl rfl)
theorem dX12_thing_56 : decode cX12_thing 56 = .ok (.istore_n 2, 1) := dk_61 (dk_at dksX12_thing_2 10 rfl rfl)
theorem dX12_thing_57 : decode cX12_thing 57 = .ok (.aload_n 0, 1) := dk_42 (dk_at dksX12_thing_2 11 rfl rfl)
theorem dX12_thing_58 : decode cX12_thing 58 = .ok (.aload_n 0, 1) := dk_42 (dk_at dksX12_thing_2 12 rfl rfl)
theorem dX12_thing_59 : decode cX12_thing 59 = .ok (.bipush 41, 2) := dk_16 41 (dk_at dksX12_thing_2 13 rfl rfl)
theorem dX12_thing_61 : decode cX12_thing 61 = .ok (.invokevirtual 39, 3) := dk_182 0 39 (dk_at dksX12_thing_2 15 rfl rfl)
theorem dX12_thing_64 : decode cX12_thing 64 = .ok (.invokevirtual 53, 3) := dk_182 0 53 (dk_at dksX12_thing_2 18 rfl rfl)
theorem dX12_thing_67 : decode cX12_thing 67 = .ok (.iload_n 2, 1) := dk_28 (dk_at dksX12_thing_2 21 rfl rfl)
theorem dX12_thing_68 : decode cX12_thing 68 = .ok (.ireturn, 1) := dk_172 (dk_at dksX12_thing_2 22 rfl rfl)
theorem dX12_thing_69 : decode cX12_thing 69 = .ok (.aload_n 0, 1) := dk_42 (dk_at dksX12_thing_2 23 rfl rfl)
theorem dX12_thing_70 : decode cX12_thing 70 = .ok (.invokevirtual 46, 3) := dk_182 0 46 (dk_at dksX12_thing_3 0 rfl rfl)
theorem dX12_thing_73 : decode cX12_thing 73 = .ok (.i2l, 1) := dk_133 (dk_at dksX12_thing_3 3 rfl rfl)
theorem dX12_thing_74 : decode cX12_thing 74 = .ok (.ldc2_w 57, 3) := dk_20 0 57 (dk_at dksX12_thing_3 4 rfl rfl)
theorem dX12_thing_77 : decode cX12_thing 77 = .ok (.ldc2_w 59, 3) := dk_20 0 59 (dk_at dksX12_thing_3 7 rfl rfl)
theorem dX12_thing_80 : decode cX12_thing 80 = .ok (.invokestatic 61, 3) := dk_184 0 61 (dk_at dksX12_thing_3 10 rfl rfl)
theorem dX12_thing_83 : decode cX12_thing 83 = .ok (.ifCond .eq 9, 3) := dk_153 0 9 (dk_at dksX12_thing_3 13 rfl rfl)
theorem dX12_thing_86 : decode cX12_thing 86 = .ok (.aload_n 0, 1) := dk_42 (dk_at dksX12_thing_3 16 rfl rfl)
theorem dX12_thing_87 : decode cX12_thing 87 = .ok (.iconst 3, 1) := dk_6 (dk_at dksX12_thing_3 17 rfl rfl)
theorem dX12_thing_88 : decode cX12_thing 88 = .ok (.invokevirtual 65, 3) := dk_182 0 65 (dk_at dksX12_thing_3 18 rfl rfl)
theorem dX12_thing_91 : decode cX12_thing 91 = .ok (.ireturn, 1) := dk_172 (dk_at dksX12_thing_3 21 rfl rfl)
theorem dX12_thing_92 : decode cX12_thing 92 = .ok (.aload_n 0, 1) := dk_42 (dk_at dksX12_thing_3 22 rfl rfl)
theorem dX12_thing_93 : decode cX12_thing 93 = .ok (.invokevirtual 46, 3) := dk_182 0 46 (dk_at dksX12_thing_4 0 rfl rfl)
theorem dX12_thing_96 : decode cX12_thing 96 = .ok (.istore_n 2, 1) := dk_61 (dk_at dksX12_thing_4 3 rfl rfl)
theorem dX12_thing_97 : decode cX12_thing 97 = .ok (.aload_n 0, 1) := dk_42 (dk_at dksX12_thing_4 4 rfl rfl)
theorem dX12_thing_98 : decode cX12_thing 98 = .ok (.iload_n 2, 1) := dk_28 (dk_at dksX12_thing_4 5 rfl rfl)
theorem dX12_thing_99 : decode cX12_thing 99 = .ok (.iconst (-1), 1) := dk_2 (dk_at dksX12_thing_4 6 rfl rfl)
theorem dX12_thing_100 : decode cX12_thing 100 = .ok (.if_icmp .eq 16, 3) := dk_159 0 16 (dk_at dksX12_thing_4 7 rfl rfl)
theorem dX12_thing_103 : decode cX12_thing 103 = .ok (.ldc 68, 2) := dk_18 68 (dk_at dksX12_thing_4 10 rfl rfl)
theorem dX12_thing_105 : decode cX12_thing 105 = .ok (.iload_n 2, 1) := dk_28 (dk_at dksX12_thing_4 12 rfl rfl)
theorem dX12_thing_106 : decode cX12_thing 106 = .ok (.invokevirtual 70, 3) := dk_182 0 70 (dk_at dksX12_thing_4 13 rfl rfl)
theorem dX12_thing_109 : decode cX12_thing 109 = .ok (.ifCond .lt 7, 3) := dk_155 0 7 (dk_at dksX12_thing_4 16 rfl rfl)
theorem dX12_thing_112 : decode cX12_thing 112 = .ok (.iconst 1, 1) := dk_4 (dk_at dksX12_thing_4 19 rfl rfl)
theorem dX12_thing_113 : decode cX12_thing 113 = .ok (.goto 4, 3) := dk_167 0 4 (dk_at dksX12_thing_4 20 rfl rfl)
theorem dX12_thing_116 : decode cX12_thing 116 = .ok (.iconst 0, 1) := dk_3 (dk_at dksX12_thing_4 23 rfl rfl)
theorem dX12_thing_117 : decode cX12_thing 117 = .ok (.invokevirtual 53, 3) := dk_182 0 53 (dk_at dksX12_thing_5 0 rfl rfl)
theorem dX12_thing_120 : decode cX12_thing 120 = .ok (.aload_n 0, 1) := dk_42 (dk_at dksX12_thing_5 3 rfl rfl)
theorem dX12_thing_121 : decode cX12_thing 121 = .ok (.dup, 1) := dk_89 (dk_at dksX12_thing_5 4 rfl rfl)
theorem dX12_thing_122 : decode cX12_thing 122 = .ok (.getfield 31, 3) := dk_180 0 31 (dk_at dksX12_thing_5 5 rfl rfl)
theorem dX12_thing_125 : decode cX12_thing 125 = .ok (.iconst 1, 1) := dk_4 (dk_at dksX12_thing_5 8 rfl rfl)
theorem dX12_thing_126 : decode cX12_thing 126 = .ok (.iadd, 1) := dk_96 (dk_at dksX12_thing_5 9 rfl rfl)
theorem dX12_thing_127 : decode cX12_thing 127 = .ok (.putfield 31, 3) := dk_181 0 31 (dk_at dksX12_thing_5 10 rfl rfl)
theorem dX12_thing_130 : decode cX12_thing 130 = .ok (.aload_n 0, 1) := dk_42 (dk_at dksX12_thing_5 13 rfl rfl)
theorem dX12_thing_131 : decode cX12_thing 131 = .ok (.getfield 23, 3) := dk_180 0 23 (dk_at dksX12_thing_5 14 rfl rfl)
theorem dX12_thing_134 : decode cX12_thing 134 = .ok (.ifnonnull 7, 3) := dk_199 0 7 (dk_at dksX12_thing_5 17 rfl rfl)
theorem dX12_thing_137 : decode cX12_thing 137 = .ok (.iconst 0, 1) := dk_3 (dk_at dksX12_thing_5 20 rfl rfl)
theorem dX12_thing_138 : decode cX12_thing 138 = .ok (.goto 8, 3) := dk_167 0 8 (dk_at dksX12_thing_5 21 rfl rfl)
theorem dX12_thing_141 : decode cX12_thing 141 = .ok (.aload_n 0, 1) := dk_42 (dk_at dksX12_thing_6 0 rfl rfl)
theorem dX12_thing_142 : decode cX12_thing 142 = .ok (.iload_n 2, 1) := dk_28 (dk_at dksX12_thing_6 1 rfl rfl)
theorem dX12_thing_143 : decode cX12_thing 143 = .ok (.invokevirtual 75, 3) := dk_182 0 75 (dk_at dksX12_thing_6 2 rfl rfl)
theorem dX12_thing_146 : decode cX12_thing 146 = .ok (.ireturn, 1) := dk_172 (dk_at dksX12_thing_6 5 rfl rfl)
abbrev cX12_value : ByteArray := prog_11_method_8_code
def yX12_value : MethodName := ⟨RX12, "value", "(I)I"⟩
def dkwX12_value_5 : List UInt8 := [16, 10, 112, 172]
abbrev dktX12_value_5 : List UInt8 := dkwX12_value_5 ++ []
def dkwX12_value_4 : List UInt8 := [180, 0, 83, 182, 0, 86, 16, 115, 160, 0, 7, 4, 167, 0, 4, 3, 172, 42, 180, 0, 23, 180, 0, 83]
abbrev dktX12_value_4 : List UInt8 := dkwX12_value_4 ++ dktX12_value_5
def dkwX12_value_3 : List UInt8 := [182, 0, 86, 16, 104, 160, 0, 7, 4, 167, 0, 4, 3, 172, 42, 180, 0, 3, 42, 180, 0, 23]
abbrev dktX12_value_3 : List UInt8 := dkwX12_value_3 ++ dktX12_value_4
def dkwX12_value_2 : List UInt8 := [42, 180, 0, 23, 180, 0, 78, 172, 42, 180, 0, 27, 172, 42, 180, 0, 3, 42, 180, 0, 23, 180, 0, 83]
abbrev dktX12_value_2 : List UInt8 := dkwX12_value_2 ++ dktX12_value_3
def dkwX12_value_1 : List UInt8 := [171, 0, 0, 0, 0, 0, 106, 0, 0, 0, 4, 0, 0, 0, 98, 0, 0, 0, 51, 0, 0, 0, 104, 0, 0, 0, 56, 0, 0, 0, 115, 0, 0, 0, 81, 0, 0, 0, 116, 0, 0, 0, 43]
abbrev dktX12_value_1 : List UInt8 := dkwX12_value_1 ++ dktX12_value_2
def dkwX12_value_0 : List UInt8 := [27]
abbrev dktX12_value_0 : List UInt8 := dkwX12_value_0 ++ dktX12_value_1
theorem dksX12_value_0 : cX12_value.data.toList.drop 0 = dktX12_value_0 := by decide +kernel
theorem dksX12_value_1 : cX12_value.data.toList.drop 1 = dktX12_value_1 := dk_seg dksX12_value_0 1 rfl rfl
theorem dksX12_value_2 : cX12_value.data.toList.drop 44 = dktX12_value_2 := dk_seg dksX12_value_1 43 rfl rfl
theorem dksX12_value_3 : cX12_value.data.toList.drop 68 = dktX12_value_3 := dk_seg dksX12_value_2 24 rfl rfl
theorem dksX12_value_4 : cX12_value.data.toList.drop 90 = dktX12_value_4 := dk_seg dksX12_value_3 22 rfl rfl
theorem dksX12_value_5 : cX12_value.data.toList.drop 114 = dktX12_value_5 := dk_seg dksX12_value_4 24 rfl rfl
theorem dX12_value_0 : decode cX12_value 0 = .ok (.iload_n 1, 1) := dk_27 (dk_at dksX12_value_0 0 rfl rfl)
theorem dX12_value_1 : decode cX12_value 1 = .ok (.lookupswitch 106 #[(98, 51), (104, 56), (115, 81), (116, 43)], 43) := by decide +kernel
theorem dX12_value_44 : decode cX12_value 44 = .ok (.aload_n 0, 1) := dk_42 (dk_at dksX12_value_2 0 rfl rfl)
theorem dX12_value_45 : decode cX12_value 45 = .ok (.getfield 23, 3) := dk_180 0 23 (dk_at dksX12_value_2 1 rfl rfl)
theorem dX12_value_48 : decode cX12_value 48 = .ok (.getfield 78, 3) := dk_180 0 78 (dk_at dksX12_value_2 4 rfl rfl)
theorem dX12_value_51 : decode cX12_value 51 = .ok (.ireturn, 1) := dk_172 (dk_at dksX12_value_2 7 rfl rfl)
theorem dX12_value_52 : decode cX12_value 52 = .ok (.aload_n 0, 1) := dk_42 (dk_at dksX12_value_2 8 rfl rfl)
theorem dX12_value_53 : decode cX12_value 53 = .ok (.getfield 27, 3) := dk_180 0 27 (dk_at dksX12_value_2 9 rfl rfl)
theorem dX12_value_56 : decode cX12_value 56 = .ok (.ireturn, 1) := dk_172 (dk_at dksX12_value_2 12 rfl rfl)
theorem dX12_value_57 : decode cX12_value 57 = .ok (.aload_n 0, 1) := dk_42 (dk_at dksX12_value_2 13 rfl rfl)
theorem dX12_value_58 : decode cX12_value 58 = .ok (.getfield 3, 3) := dk_180 0 3 (dk_at dksX12_value_2 14 rfl rfl)
theorem dX12_value_61 : decode cX12_value 61 = .ok (.aload_n 0, 1) := dk_42 (dk_at dksX12_value_2 17 rfl rfl)
theorem dX12_value_62 : decode cX12_value 62 = .ok (.getfield 23, 3) := dk_180 0 23 (dk_at dksX12_value_2 18 rfl rfl)
theorem dX12_value_65 : decode cX12_value 65 = .ok (.getfield 83, 3) := dk_180 0 83 (dk_at dksX12_value_2 21 rfl rfl)
theorem dX12_value_68 : decode cX12_value 68 = .ok (.invokevirtual 86, 3) := dk_182 0 86 (dk_at dksX12_value_3 0 rfl rfl)
theorem dX12_value_71 : decode cX12_value 71 = .ok (.bipush 104, 2) := dk_16 104 (dk_at dksX12_value_3 3 rfl rfl)
theorem dX12_value_73 : decode cX12_value 73 = .ok (.if_icmp .ne 7, 3) := dk_160 0 7 (dk_at dksX12_value_3 5 rfl rfl)
theorem dX12_value_76 : decode cX12_value 76 = .ok (.iconst 1, 1) := dk_4 (dk_at dksX12_value_3 8 rfl rfl)
theorem dX12_value_77 : decode cX12_value 77 = .ok (.goto 4, 3) := dk_167 0 4 (dk_at dksX12_value_3 9 rfl rfl)
theorem dX12_value_80 : decode cX12_value 80 = .ok (.iconst 0, 1) := dk_3 (dk_at dksX12_value_3 12 rfl rfl)
theorem dX12_value_81 : decode cX12_value 81 = .ok (.ireturn, 1) := dk_172 (dk_at dksX12_value_3 13 rfl rfl)
theorem dX12_value_82 : decode cX12_value 82 = .ok (.aload_n 0, 1) := dk_42 (dk_at dksX12_value_3 14 rfl rfl)
theorem dX12_value_83 : decode cX12_value 83 = .ok (.getfield 3, 3) := dk_180 0 3 (dk_at dksX12_value_3 15 rfl rfl)
theorem dX12_value_86 : decode cX12_value 86 = .ok (.aload_n 0, 1) := dk_42 (dk_at dksX12_value_3 18 rfl rfl)
theorem dX12_value_87 : decode cX12_value 87 = .ok (.getfield 23, 3) := dk_180 0 23 (dk_at dksX12_value_3 19 rfl rfl)
theorem dX12_value_90 : decode cX12_value 90 = .ok (.getfield 83, 3) := dk_180 0 83 (dk_at dksX12_value_4 0 rfl rfl)
theorem dX12_value_93 : decode cX12_value 93 = .ok (.invokevirtual 86, 3) := dk_182 0 86 (dk_at dksX12_value_4 3 rfl rfl)
theorem dX12_value_96 : decode cX12_value 96 = .ok (.bipush 115, 2) := dk_16 115 (dk_at dksX12_value_4 6 rfl rfl)
theorem dX12_value_98 : decode cX12_value 98 = .ok (.if_icmp .ne 7, 3) := dk_160 0 7 (dk_at dksX12_value_4 8 rfl rfl)
theorem dX12_value_101 : decode cX12_value 101 = .ok (.iconst 1, 1) := dk_4 (dk_at dksX12_value_4 11 rfl rfl)
theorem dX12_value_102 : decode cX12_value 102 = .ok (.goto 4, 3) := dk_167 0 4 (dk_at dksX12_value_4 12 rfl rfl)
theorem dX12_value_105 : decode cX12_value 105 = .ok (.iconst 0, 1) := dk_3 (dk_at dksX12_value_4 15 rfl rfl)
theorem dX12_value_106 : decode cX12_value 106 = .ok (.ireturn, 1) := dk_172 (dk_at dksX12_value_4 16 rfl rfl)
theorem dX12_value_107 : decode cX12_value 107 = .ok (.aload_n 0, 1) := dk_42 (dk_at dksX12_value_4 17 rfl rfl)
theorem dX12_value_108 : decode cX12_value 108 = .ok (.getfield 23, 3) := dk_180 0 23 (dk_at dksX12_value_4 18 rfl rfl)
theorem dX12_value_111 : decode cX12_value 111 = .ok (.getfield 83, 3) := dk_180 0 83 (dk_at dksX12_value_4 21 rfl rfl)
theorem dX12_value_114 : decode cX12_value 114 = .ok (.bipush 10, 2) := dk_16 10 (dk_at dksX12_value_5 0 rfl rfl)
theorem dX12_value_116 : decode cX12_value 116 = .ok (.irem, 1) := dk_112 (dk_at dksX12_value_5 2 rfl rfl)
theorem dX12_value_117 : decode cX12_value 117 = .ok (.ireturn, 1) := dk_172 (dk_at dksX12_value_5 3 rfl rfl)
abbrev cX12_of : ByteArray := prog_11_method_3_code
def yX12_of : MethodName := ⟨RX12, "of", "(LTreesBeforeMen$Voyage;I)I"⟩
def dkwX12_of_2 : List UInt8 := [25, 5, 191]
abbrev dktX12_of_2 : List UInt8 := dkwX12_of_2 ++ []
def dkwX12_of_1 : List UInt8 := [181, 0, 23, 29, 172, 78, 3, 54, 4, 42, 1, 181, 0, 23, 21, 4, 172, 58, 5, 42, 1, 181, 0, 23]
abbrev dktX12_of_1 : List UInt8 := dkwX12_of_1 ++ dktX12_of_2
def dkwX12_of_0 : List UInt8 := [42, 43, 181, 0, 23, 42, 28, 181, 0, 27, 42, 3, 181, 0, 31, 42, 3, 182, 0, 15, 62, 42, 1]
abbrev dktX12_of_0 : List UInt8 := dkwX12_of_0 ++ dktX12_of_1
theorem dksX12_of_0 : cX12_of.data.toList.drop 0 = dktX12_of_0 := by decide +kernel
theorem dksX12_of_1 : cX12_of.data.toList.drop 23 = dktX12_of_1 := dk_seg dksX12_of_0 23 rfl rfl
theorem dksX12_of_2 : cX12_of.data.toList.drop 47 = dktX12_of_2 := dk_seg dksX12_of_1 24 rfl rfl
theorem dX12_of_0 : decode cX12_of 0 = .ok (.aload_n 0, 1) := dk_42 (dk_at dksX12_of_0 0 rfl rfl)
theorem dX12_of_1 : decode cX12_of 1 = .ok (.aload_n 1, 1) := dk_43 (dk_at dksX12_of_0 1 rfl rfl)
theorem dX12_of_2 : decode cX12_of 2 = .ok (.putfield 23, 3) := dk_181 0 23 (dk_at dksX12_of_0 2 rfl rfl)
theorem dX12_of_5 : decode cX12_of 5 = .ok (.aload_n 0, 1) := dk_42 (dk_at dksX12_of_0 5 rfl rfl)
theorem dX12_of_6 : decode cX12_of 6 = .ok (.iload_n 2, 1) := dk_28 (dk_at dksX12_of_0 6 rfl rfl)
theorem dX12_of_7 : decode cX12_of 7 = .ok (.putfield 27, 3) := dk_181 0 27 (dk_at dksX12_of_0 7 rfl rfl)
theorem dX12_of_10 : decode cX12_of 10 = .ok (.aload_n 0, 1) := dk_42 (dk_at dksX12_of_0 10 rfl rfl)
theorem dX12_of_11 : decode cX12_of 11 = .ok (.iconst 0, 1) := dk_3 (dk_at dksX12_of_0 11 rfl rfl)
theorem dX12_of_12 : decode cX12_of 12 = .ok (.putfield 31, 3) := dk_181 0 31 (dk_at dksX12_of_0 12 rfl rfl)
theorem dX12_of_15 : decode cX12_of 15 = .ok (.aload_n 0, 1) := dk_42 (dk_at dksX12_of_0 15 rfl rfl)
theorem dX12_of_16 : decode cX12_of 16 = .ok (.iconst 0, 1) := dk_3 (dk_at dksX12_of_0 16 rfl rfl)
theorem dX12_of_17 : decode cX12_of 17 = .ok (.invokevirtual 15, 3) := dk_182 0 15 (dk_at dksX12_of_0 17 rfl rfl)
theorem dX12_of_20 : decode cX12_of 20 = .ok (.istore_n 3, 1) := dk_62 (dk_at dksX12_of_0 20 rfl rfl)
theorem dX12_of_21 : decode cX12_of 21 = .ok (.aload_n 0, 1) := dk_42 (dk_at dksX12_of_0 21 rfl rfl)
theorem dX12_of_22 : decode cX12_of 22 = .ok (.aconst_null, 1) := dk_1 (dk_at dksX12_of_0 22 rfl rfl)
theorem dX12_of_23 : decode cX12_of 23 = .ok (.putfield 23, 3) := dk_181 0 23 (dk_at dksX12_of_1 0 rfl rfl)
theorem dX12_of_26 : decode cX12_of 26 = .ok (.iload_n 3, 1) := dk_29 (dk_at dksX12_of_1 3 rfl rfl)
theorem dX12_of_27 : decode cX12_of 27 = .ok (.ireturn, 1) := dk_172 (dk_at dksX12_of_1 4 rfl rfl)
theorem dX12_of_28 : decode cX12_of 28 = .ok (.astore_n 3, 1) := dk_78 (dk_at dksX12_of_1 5 rfl rfl)
theorem dX12_of_29 : decode cX12_of 29 = .ok (.iconst 0, 1) := dk_3 (dk_at dksX12_of_1 6 rfl rfl)
theorem dX12_of_30 : decode cX12_of 30 = .ok (.istore 4, 2) := dk_54 4 (dk_at dksX12_of_1 7 rfl rfl)
theorem dX12_of_32 : decode cX12_of 32 = .ok (.aload_n 0, 1) := dk_42 (dk_at dksX12_of_1 9 rfl rfl)
theorem dX12_of_33 : decode cX12_of 33 = .ok (.aconst_null, 1) := dk_1 (dk_at dksX12_of_1 10 rfl rfl)
theorem dX12_of_34 : decode cX12_of 34 = .ok (.putfield 23, 3) := dk_181 0 23 (dk_at dksX12_of_1 11 rfl rfl)
theorem dX12_of_37 : decode cX12_of 37 = .ok (.iload 4, 2) := dk_21 4 (dk_at dksX12_of_1 14 rfl rfl)
theorem dX12_of_39 : decode cX12_of 39 = .ok (.ireturn, 1) := dk_172 (dk_at dksX12_of_1 16 rfl rfl)
theorem dX12_of_40 : decode cX12_of 40 = .ok (.astore 5, 2) := dk_58 5 (dk_at dksX12_of_1 17 rfl rfl)
theorem dX12_of_42 : decode cX12_of 42 = .ok (.aload_n 0, 1) := dk_42 (dk_at dksX12_of_1 19 rfl rfl)
theorem dX12_of_43 : decode cX12_of 43 = .ok (.aconst_null, 1) := dk_1 (dk_at dksX12_of_1 20 rfl rfl)
theorem dX12_of_44 : decode cX12_of 44 = .ok (.putfield 23, 3) := dk_181 0 23 (dk_at dksX12_of_1 21 rfl rfl)
theorem dX12_of_47 : decode cX12_of 47 = .ok (.aload 5, 2) := dk_25 5 (dk_at dksX12_of_2 0 rfl rfl)
theorem dX12_of_49 : decode cX12_of 49 = .ok (.athrow, 1) := dk_191 (dk_at dksX12_of_2 2 rfl rfl)
theorem q110 : (Jvm.Cond.initialized "TreesBeforeMen$Rule") ∈ lw_all := lw_g (lw_at lw_m1 20 rfl) rfl
theorem q204 : (Jvm.Cond.fieldLink "TreesBeforeMen$Rule" (78 : Nat) "TreesBeforeMen$Voyage" "trees" "I") ∈ lw_all := lw_g (lw_at lw_m1 114 rfl) rfl
theorem q211 : (Jvm.Cond.fieldLink "TreesBeforeMen$Rule" (83 : Nat) "TreesBeforeMen$Voyage" "day" "I") ∈ lw_all := lw_g (lw_at lw_m1 121 rfl) rfl
theorem q397 : (Jvm.Cond.fieldLink "TreesBeforeMen$Rule" (31 : Nat) "TreesBeforeMen$Rule" "at" "I") ∈ lw_all := lw_g (lw_at lw_m2 67 rfl) rfl
theorem q398 : (Jvm.Cond.sameField "TreesBeforeMen$Rule" "TreesBeforeMen$Words" "at" "I") ∈ lw_all := lw_g (lw_at lw_m2 68 rfl) rfl
theorem q416 : (Jvm.Cond.selects "TreesBeforeMen$Rule" ({ cls := "TreesBeforeMen$Words", name := "need", desc := "(Z)V" } : Jvm.MethodName) ({ cls := "TreesBeforeMen$Words", name := "need", desc := "(Z)V" } : Jvm.MethodName)) ∈ lw_all := lw_g (lw_at lw_m2 86 rfl) rfl
theorem q486 : (Jvm.Cond.selects "TreesBeforeMen$Rule" ({ cls := "TreesBeforeMen$Words", name := "one", desc := "(CI)I" } : Jvm.MethodName) ({ cls := "TreesBeforeMen$Words", name := "one", desc := "(CI)I" } : Jvm.MethodName)) ∈ lw_all := lw_g (lw_at lw_m2 156 rfl) rfl
theorem q493 : (Jvm.Cond.selects "TreesBeforeMen$Rule" ({ cls := "TreesBeforeMen$Words", name := "here", desc := "()I" } : Jvm.MethodName) ({ cls := "TreesBeforeMen$Words", name := "here", desc := "()I" } : Jvm.MethodName)) ∈ lw_all := lw_g (lw_at lw_m2 163 rfl) rfl
theorem q502 : (Jvm.Cond.selects "TreesBeforeMen$Rule" ({ cls := "TreesBeforeMen$Words", name := "passes", desc := "(C)Z" } : Jvm.MethodName) ({ cls := "TreesBeforeMen$Words", name := "passes", desc := "(C)Z" } : Jvm.MethodName)) ∈ lw_all := lw_g (lw_at lw_m2 172 rfl) rfl
theorem q509 : (Jvm.Cond.selects "TreesBeforeMen$Rule" ({ cls := "TreesBeforeMen$Words", name := "needEnd", desc := "()V" } : Jvm.MethodName) ({ cls := "TreesBeforeMen$Words", name := "needEnd", desc := "()V" } : Jvm.MethodName)) ∈ lw_all := lw_g (lw_at lw_m2 179 rfl) rfl
theorem q528 : (Jvm.Cond.selects "TreesBeforeMen$Rule" ({ cls := "TreesBeforeMen$Words", name := "number", desc := "(I)I" } : Jvm.MethodName) ({ cls := "TreesBeforeMen$Words", name := "number", desc := "(I)I" } : Jvm.MethodName)) ∈ lw_all := lw_g (lw_at lw_m2 198 rfl) rfl
theorem q545 : (Jvm.Cond.instantiable "TreesBeforeMen$Rule" (7 : Nat)) ∈ lw_all := lw_g (lw_at lw_m2 215 rfl) rfl
theorem q547 : (Jvm.Cond.instanceMethod ({ cls := "TreesBeforeMen$Rule", name := "<init>", desc := "(LTreesBeforeMen;[BI)V" } : Jvm.MethodName)) ∈ lw_all := lw_g (lw_at lw_m2 217 rfl) rfl
theorem q548 : (Jvm.Cond.code ({ cls := "TreesBeforeMen$Rule", name := "<init>", desc := "(LTreesBeforeMen;[BI)V" } : Jvm.MethodName) prog_11_method_1_code (4 : Nat) (Option.none : Option Jvm.ClassFile.FieldType)) ∈ lw_all := lw_g (lw_at lw_m2 218 rfl) rfl
theorem q549 : (Jvm.Cond.methodLink "TreesBeforeMen$Rule" (9 : Nat) ({ cls := "TreesBeforeMen$Words", name := "<init>", desc := "([BII)V" } : Jvm.MethodName)) ∈ lw_all := lw_g (lw_at lw_m2 219 rfl) rfl
theorem q550 : (Jvm.Cond.fieldLink "TreesBeforeMen$Rule" (23 : Nat) "TreesBeforeMen$Rule" "voyage" "LTreesBeforeMen$Voyage;") ∈ lw_all := lw_g (lw_at lw_m2 220 rfl) rfl
theorem q551 : (Jvm.Cond.fieldLink "TreesBeforeMen$Rule" (27 : Nat) "TreesBeforeMen$Rule" "given" "I") ∈ lw_all := lw_g (lw_at lw_m2 221 rfl) rfl
theorem q552 : (Jvm.Cond.fieldLink "TreesBeforeMen$Rule" (3 : Nat) "TreesBeforeMen$Rule" "this$0" "LTreesBeforeMen;") ∈ lw_all := lw_g (lw_at lw_m2 222 rfl) rfl
theorem q553 : (Jvm.Cond.lays "TreesBeforeMen$Rule" "TreesBeforeMen$Rule" "voyage" "LTreesBeforeMen$Voyage;") ∈ lw_all := lw_g (lw_at lw_m2 223 rfl) rfl
theorem q554 : (Jvm.Cond.soleField "TreesBeforeMen$Rule" "voyage") ∈ lw_all := lw_g (lw_at lw_m2 224 rfl) rfl
theorem q555 : (Jvm.Cond.lays "TreesBeforeMen$Rule" "TreesBeforeMen$Rule" "given" "I") ∈ lw_all := lw_g (lw_at lw_m2 225 rfl) rfl
theorem q556 : (Jvm.Cond.soleField "TreesBeforeMen$Rule" "given") ∈ lw_all := lw_g (lw_at lw_m2 226 rfl) rfl
theorem q557 : (Jvm.Cond.laysFinal "TreesBeforeMen$Rule" "TreesBeforeMen$Rule" "this$0" "LTreesBeforeMen;") ∈ lw_all := lw_g (lw_at lw_m2 227 rfl) rfl
theorem q558 : (Jvm.Cond.soleField "TreesBeforeMen$Rule" "this$0") ∈ lw_all := lw_g (lw_at lw_m2 228 rfl) rfl
theorem q559 : (Jvm.Cond.laysFinal "TreesBeforeMen$Rule" "TreesBeforeMen$Words" "of" "[B") ∈ lw_all := lw_g (lw_at lw_m2 229 rfl) rfl
theorem q560 : (Jvm.Cond.laysFinal "TreesBeforeMen$Rule" "TreesBeforeMen$Words" "size" "I") ∈ lw_all := lw_g (lw_at lw_m2 230 rfl) rfl
theorem q561 : (Jvm.Cond.laysFinal "TreesBeforeMen$Rule" "TreesBeforeMen$Words" "end" "I") ∈ lw_all := lw_g (lw_at lw_m2 231 rfl) rfl
theorem q562 : (Jvm.Cond.lays "TreesBeforeMen$Rule" "TreesBeforeMen$Words" "at" "I") ∈ lw_all := lw_g (lw_at lw_m2 232 rfl) rfl
theorem q563 : (Jvm.Cond.superclass "TreesBeforeMen$Rule" "TreesBeforeMen$Words") ∈ lw_all := lw_g (lw_at lw_m2 233 rfl) rfl
theorem q565 : (Jvm.Cond.instanceMethod ({ cls := "TreesBeforeMen$Rule", name := "read", desc := "()LTreesBeforeMen$Rule;" } : Jvm.MethodName)) ∈ lw_all := lw_g (lw_at lw_m2 235 rfl) rfl
theorem q566 : (Jvm.Cond.selects "TreesBeforeMen$Rule" ({ cls := "TreesBeforeMen$Rule", name := "read", desc := "()LTreesBeforeMen$Rule;" } : Jvm.MethodName) ({ cls := "TreesBeforeMen$Rule", name := "read", desc := "()LTreesBeforeMen$Rule;" } : Jvm.MethodName)) ∈ lw_all := lw_g (lw_at lw_m2 236 rfl) rfl
theorem q567 : (Jvm.Cond.code ({ cls := "TreesBeforeMen$Rule", name := "read", desc := "()LTreesBeforeMen$Rule;" } : Jvm.MethodName) prog_11_method_2_code (1 : Nat) (Option.some (Jvm.ClassFile.FieldType.object "TreesBeforeMen$Rule"))) ∈ lw_all := lw_g (lw_at lw_m2 237 rfl) rfl
theorem q568 : (Jvm.Cond.methodLink "TreesBeforeMen$Rule" (15 : Nat) ({ cls := "TreesBeforeMen$Rule", name := "held", desc := "(I)I" } : Jvm.MethodName)) ∈ lw_all := lw_g (lw_at lw_m2 238 rfl) rfl
theorem q569 : (Jvm.Cond.privateMethod ({ cls := "TreesBeforeMen$Rule", name := "held", desc := "(I)I" } : Jvm.MethodName)) ∈ lw_tbl := lw_at lw_m2 239 rfl
theorem q570 : (Jvm.Cond.instanceMethod ({ cls := "TreesBeforeMen$Rule", name := "held", desc := "(I)I" } : Jvm.MethodName)) ∈ lw_all := lw_g (lw_at lw_m3 0 rfl) rfl
theorem q571 : (Jvm.Cond.code ({ cls := "TreesBeforeMen$Rule", name := "held", desc := "(I)I" } : Jvm.MethodName) prog_11_method_4_code (3 : Nat) (Option.some Jvm.ClassFile.FieldType.int)) ∈ lw_all := lw_g (lw_at lw_m3 1 rfl) rfl
theorem q572 : (Jvm.Cond.methodLink "TreesBeforeMen$Rule" (36 : Nat) ({ cls := "TreesBeforeMen$Rule", name := "sum", desc := "(I)I" } : Jvm.MethodName)) ∈ lw_all := lw_g (lw_at lw_m3 2 rfl) rfl
theorem q573 : (Jvm.Cond.privateMethod ({ cls := "TreesBeforeMen$Rule", name := "sum", desc := "(I)I" } : Jvm.MethodName)) ∈ lw_tbl := lw_at lw_m3 3 rfl
theorem q574 : (Jvm.Cond.instanceMethod ({ cls := "TreesBeforeMen$Rule", name := "sum", desc := "(I)I" } : Jvm.MethodName)) ∈ lw_all := lw_g (lw_at lw_m3 4 rfl) rfl
theorem q575 : (Jvm.Cond.code ({ cls := "TreesBeforeMen$Rule", name := "sum", desc := "(I)I" } : Jvm.MethodName) prog_11_method_5_code (5 : Nat) (Option.some Jvm.ClassFile.FieldType.int)) ∈ lw_all := lw_g (lw_at lw_m3 5 rfl) rfl
theorem q576 : (Jvm.Cond.methodLink "TreesBeforeMen$Rule" (43 : Nat) ({ cls := "TreesBeforeMen$Rule", name := "product", desc := "(I)I" } : Jvm.MethodName)) ∈ lw_all := lw_g (lw_at lw_m3 6 rfl) rfl
theorem q577 : (Jvm.Cond.privateMethod ({ cls := "TreesBeforeMen$Rule", name := "product", desc := "(I)I" } : Jvm.MethodName)) ∈ lw_tbl := lw_at lw_m3 7 rfl
theorem q578 : (Jvm.Cond.instanceMethod ({ cls := "TreesBeforeMen$Rule", name := "product", desc := "(I)I" } : Jvm.MethodName)) ∈ lw_all := lw_g (lw_at lw_m3 8 rfl) rfl
theorem q579 : (Jvm.Cond.code ({ cls := "TreesBeforeMen$Rule", name := "product", desc := "(I)I" } : Jvm.MethodName) prog_11_method_6_code (5 : Nat) (Option.some Jvm.ClassFile.FieldType.int)) ∈ lw_all := lw_g (lw_at lw_m3 9 rfl) rfl
theorem q580 : (Jvm.Cond.methodLink "TreesBeforeMen$Rule" (50 : Nat) ({ cls := "TreesBeforeMen$Rule", name := "thing", desc := "(I)I" } : Jvm.MethodName)) ∈ lw_all := lw_g (lw_at lw_m3 10 rfl) rfl
theorem q581 : (Jvm.Cond.privateMethod ({ cls := "TreesBeforeMen$Rule", name := "thing", desc := "(I)I" } : Jvm.MethodName)) ∈ lw_tbl := lw_at lw_m3 11 rfl
theorem q582 : (Jvm.Cond.instanceMethod ({ cls := "TreesBeforeMen$Rule", name := "thing", desc := "(I)I" } : Jvm.MethodName)) ∈ lw_all := lw_g (lw_at lw_m3 12 rfl) rfl
theorem q583 : (Jvm.Cond.code ({ cls := "TreesBeforeMen$Rule", name := "thing", desc := "(I)I" } : Jvm.MethodName) prog_11_method_7_code (3 : Nat) (Option.some Jvm.ClassFile.FieldType.int)) ∈ lw_all := lw_g (lw_at lw_m3 13 rfl) rfl
theorem q584 : (Jvm.Cond.methodLink "TreesBeforeMen$Rule" (39 : Nat) ({ cls := "TreesBeforeMen$Rule", name := "passes", desc := "(C)Z" } : Jvm.MethodName)) ∈ lw_all := lw_g (lw_at lw_m3 14 rfl) rfl
theorem q585 : (Jvm.Cond.sameMethod "TreesBeforeMen$Rule" "TreesBeforeMen$Words" "passes" "(C)Z") ∈ lw_all := lw_g (lw_at lw_m3 15 rfl) rfl
theorem q587 : (Jvm.Cond.selects "TreesBeforeMen$Rule" ({ cls := "TreesBeforeMen$Rule", name := "passes", desc := "(C)Z" } : Jvm.MethodName) ({ cls := "TreesBeforeMen$Words", name := "passes", desc := "(C)Z" } : Jvm.MethodName)) ∈ lw_all := lw_g (lw_at lw_m3 17 rfl) rfl
theorem q588 : (Jvm.Cond.methodLink "TreesBeforeMen$Rule" (46 : Nat) ({ cls := "TreesBeforeMen$Rule", name := "here", desc := "()I" } : Jvm.MethodName)) ∈ lw_all := lw_g (lw_at lw_m3 18 rfl) rfl
theorem q589 : (Jvm.Cond.sameMethod "TreesBeforeMen$Rule" "TreesBeforeMen$Words" "here" "()I") ∈ lw_all := lw_g (lw_at lw_m3 19 rfl) rfl
theorem q591 : (Jvm.Cond.selects "TreesBeforeMen$Rule" ({ cls := "TreesBeforeMen$Rule", name := "here", desc := "()I" } : Jvm.MethodName) ({ cls := "TreesBeforeMen$Words", name := "here", desc := "()I" } : Jvm.MethodName)) ∈ lw_all := lw_g (lw_at lw_m3 21 rfl) rfl
theorem q592 : (Jvm.Cond.methodLink "TreesBeforeMen$Rule" (53 : Nat) ({ cls := "TreesBeforeMen$Rule", name := "need", desc := "(Z)V" } : Jvm.MethodName)) ∈ lw_all := lw_g (lw_at lw_m3 22 rfl) rfl
theorem q593 : (Jvm.Cond.sameMethod "TreesBeforeMen$Rule" "TreesBeforeMen$Words" "need" "(Z)V") ∈ lw_all := lw_g (lw_at lw_m3 23 rfl) rfl
theorem q595 : (Jvm.Cond.selects "TreesBeforeMen$Rule" ({ cls := "TreesBeforeMen$Rule", name := "need", desc := "(Z)V" } : Jvm.MethodName) ({ cls := "TreesBeforeMen$Words", name := "need", desc := "(Z)V" } : Jvm.MethodName)) ∈ lw_all := lw_g (lw_at lw_m3 25 rfl) rfl
theorem q596 : (Jvm.Cond.constantLong "TreesBeforeMen$Rule" (57 : Nat) (48 : Int64)) ∈ lw_all := lw_g (lw_at lw_m3 26 rfl) rfl
theorem q597 : (Jvm.Cond.constantLong "TreesBeforeMen$Rule" (59 : Nat) (57 : Int64)) ∈ lw_all := lw_g (lw_at lw_m3 27 rfl) rfl
theorem q598 : (Jvm.Cond.methodLinkNest "TreesBeforeMen$Rule" (61 : Nat) ({ cls := "TreesBeforeMen", name := "in", desc := "(JJJ)Z" } : Jvm.MethodName) "TreesBeforeMen") ∈ lw_tbl := lw_at lw_m3 28 rfl
theorem q599 : (Jvm.Cond.methodLink "TreesBeforeMen$Rule" (65 : Nat) ({ cls := "TreesBeforeMen$Rule", name := "number", desc := "(I)I" } : Jvm.MethodName)) ∈ lw_all := lw_g (lw_at lw_m3 29 rfl) rfl
theorem q600 : (Jvm.Cond.sameMethod "TreesBeforeMen$Rule" "TreesBeforeMen$Words" "number" "(I)I") ∈ lw_all := lw_g (lw_at lw_m3 30 rfl) rfl
theorem q602 : (Jvm.Cond.selects "TreesBeforeMen$Rule" ({ cls := "TreesBeforeMen$Rule", name := "number", desc := "(I)I" } : Jvm.MethodName) ({ cls := "TreesBeforeMen$Words", name := "number", desc := "(I)I" } : Jvm.MethodName)) ∈ lw_all := lw_g (lw_at lw_m3 32 rfl) rfl
theorem q603 : (Jvm.Cond.stringRef "TreesBeforeMen$Rule" (68 : Nat) "tbhsd") ∈ lw_tbl := lw_at lw_m3 33 rfl
theorem q604 : (Jvm.Cond.methodLink "TreesBeforeMen$Rule" (70 : Nat) ({ cls := "java/lang/String", name := "indexOf", desc := "(I)I" } : Jvm.MethodName)) ∈ lw_all := lw_g (lw_at lw_m3 34 rfl) rfl
theorem q688 : (Jvm.Cond.methodLink "TreesBeforeMen$Rule" (75 : Nat) ({ cls := "TreesBeforeMen$Rule", name := "value", desc := "(I)I" } : Jvm.MethodName)) ∈ lw_all := lw_g (lw_at lw_m3 118 rfl) rfl
theorem q689 : (Jvm.Cond.privateMethod ({ cls := "TreesBeforeMen$Rule", name := "value", desc := "(I)I" } : Jvm.MethodName)) ∈ lw_tbl := lw_at lw_m3 119 rfl
theorem q690 : (Jvm.Cond.instanceMethod ({ cls := "TreesBeforeMen$Rule", name := "value", desc := "(I)I" } : Jvm.MethodName)) ∈ lw_all := lw_g (lw_at lw_m3 120 rfl) rfl
theorem q691 : (Jvm.Cond.code ({ cls := "TreesBeforeMen$Rule", name := "value", desc := "(I)I" } : Jvm.MethodName) prog_11_method_8_code (2 : Nat) (Option.some Jvm.ClassFile.FieldType.int)) ∈ lw_all := lw_g (lw_at lw_m3 121 rfl) rfl
theorem q692 : (Jvm.Cond.methodLinkNest "TreesBeforeMen$Rule" (86 : Nat) ({ cls := "TreesBeforeMen", name := "skyOf", desc := "(I)I" } : Jvm.MethodName) "TreesBeforeMen") ∈ lw_tbl := lw_at lw_m3 122 rfl
theorem q696 : (Jvm.Cond.methodLink "TreesBeforeMen$Rule" (19 : Nat) ({ cls := "TreesBeforeMen$Rule", name := "needEnd", desc := "()V" } : Jvm.MethodName)) ∈ lw_all := lw_g (lw_at lw_m3 126 rfl) rfl
theorem q697 : (Jvm.Cond.sameMethod "TreesBeforeMen$Rule" "TreesBeforeMen$Words" "needEnd" "()V") ∈ lw_all := lw_g (lw_at lw_m3 127 rfl) rfl
theorem q699 : (Jvm.Cond.selects "TreesBeforeMen$Rule" ({ cls := "TreesBeforeMen$Rule", name := "needEnd", desc := "()V" } : Jvm.MethodName) ({ cls := "TreesBeforeMen$Words", name := "needEnd", desc := "()V" } : Jvm.MethodName)) ∈ lw_all := lw_g (lw_at lw_m3 129 rfl) rfl
theorem q795 : (Jvm.Cond.instanceMethod ({ cls := "TreesBeforeMen$Rule", name := "of", desc := "(LTreesBeforeMen$Voyage;I)I" } : Jvm.MethodName)) ∈ lw_all := lw_g (lw_at lw_m3 225 rfl) rfl
theorem q796 : (Jvm.Cond.selects "TreesBeforeMen$Rule" ({ cls := "TreesBeforeMen$Rule", name := "of", desc := "(LTreesBeforeMen$Voyage;I)I" } : Jvm.MethodName) ({ cls := "TreesBeforeMen$Rule", name := "of", desc := "(LTreesBeforeMen$Voyage;I)I" } : Jvm.MethodName)) ∈ lw_all := lw_g (lw_at lw_m3 226 rfl) rfl
theorem q797 : (Jvm.Cond.codeWith ({ cls := "TreesBeforeMen$Rule", name := "of", desc := "(LTreesBeforeMen$Voyage;I)I" } : Jvm.MethodName) prog_11_method_3_code (6 : Nat) (Option.some Jvm.ClassFile.FieldType.int) [((15 : Nat), (21 : Nat), (28 : Nat), (34 : Nat)), ((15 : Nat), (21 : Nat), (40 : Nat), (0 : Nat)), ((28 : Nat), (32 : Nat), (40 : Nat), (0 : Nat)), ((40 : Nat), (42 : Nat), (40 : Nat), (0 : Nat))]) ∈ lw_all := lw_g (lw_at lw_m3 227 rfl) rfl
theorem q798 : (Jvm.Cond.classLink "TreesBeforeMen$Rule" (34 : Nat) "TreesBeforeMen$Fault") ∈ lw_all := lw_g (lw_at lw_m3 228 rfl) rfl
theorem q1890 : (Jvm.Cond.castable "TreesBeforeMen$Rule" "java/lang/Object") ∈ lw_tbl := lw_at lw_m8 120 rfl
theorem in_X12 : ∀ w ∈ wsX120, w ∈ lw_all := lw_in wsX120 [559, 560, 561, 562, 553, 555, 557] (by decide +kernel) (by decide +kernel)
/-! TreesBeforeMen$Order -/
set_option maxRecDepth 100000
def RX13 : String := "TreesBeforeMen$Order"
def TX13 : u_T := fun k => match k with
  | 0 => ("TreesBeforeMen$Words", "of", "[B", true)
  | 1 => ("TreesBeforeMen$Words", "size", "I", true)
  | 2 => ("TreesBeforeMen$Words", "end", "I", true)
  | 3 => ("TreesBeforeMen$Words", "at", "I", false)
  | 4 => ("TreesBeforeMen$Order", "acts", "[C", true)
  | 5 => ("TreesBeforeMen$Order", "first", "[I", true)
  | 6 => ("TreesBeforeMen$Order", "second", "[I", true)
  | _ => ("TreesBeforeMen$Order", "many", "I", false)
def tyX13 : Nat → FieldType := fun k => match k with
  | 0 => .array .byte
  | 1 => .int
  | 2 => .int
  | 3 => .int
  | 4 => .array .char
  | 5 => .array .int
  | 6 => .array .int
  | _ => .int
abbrev wsX130 : List Cond := u_ws RX13 TX13 8
theorem nmX13 : ∀ a, a < 8 → ∀ b, b < 8 → a ≠ b → (TX13 a).2.1 ≠ (TX13 b).2.1 := by decide +kernel
theorem tyX13_ok : ∀ k, k < 8 → parseFieldDescriptor (TX13 k).2.2.1 = some (tyX13 k) := by decide +kernel
abbrev cX13_init : ByteArray := prog_8_method_1_code
def yX13_init : MethodName := ⟨RX13, "<init>", "([BI)V"⟩
def dkwX13_init_1 : List UInt8 := [42, 16, 60, 188, 10, 181, 0, 19, 177]
abbrev dktX13_init_1 : List UInt8 := dkwX13_init_1 ++ []
def dkwX13_init_0 : List UInt8 := [42, 43, 28, 16, 60, 183, 0, 3, 42, 16, 60, 188, 5, 181, 0, 9, 42, 16, 60, 188, 10, 181, 0, 15]
abbrev dktX13_init_0 : List UInt8 := dkwX13_init_0 ++ dktX13_init_1
theorem dksX13_init_0 : cX13_init.data.toList.drop 0 = dktX13_init_0 := by decide +kernel
theorem dksX13_init_1 : cX13_init.data.toList.drop 24 = dktX13_init_1 := dk_seg dksX13_init_0 24 rfl rfl
theorem dX13_init_0 : decode cX13_init 0 = .ok (.aload_n 0, 1) := dk_42 (dk_at dksX13_init_0 0 rfl rfl)
theorem dX13_init_1 : decode cX13_init 1 = .ok (.aload_n 1, 1) := dk_43 (dk_at dksX13_init_0 1 rfl rfl)
theorem dX13_init_2 : decode cX13_init 2 = .ok (.iload_n 2, 1) := dk_28 (dk_at dksX13_init_0 2 rfl rfl)
theorem dX13_init_3 : decode cX13_init 3 = .ok (.bipush 60, 2) := dk_16 60 (dk_at dksX13_init_0 3 rfl rfl)
theorem dX13_init_5 : decode cX13_init 5 = .ok (.invokespecial 3, 3) := dk_183 0 3 (dk_at dksX13_init_0 5 rfl rfl)
theorem dX13_init_8 : decode cX13_init 8 = .ok (.aload_n 0, 1) := dk_42 (dk_at dksX13_init_0 8 rfl rfl)
theorem dX13_init_9 : decode cX13_init 9 = .ok (.bipush 60, 2) := dk_16 60 (dk_at dksX13_init_0 9 rfl rfl)
theorem dX13_init_11 : decode cX13_init 11 = .ok (.newarray .char, 2) := dk_188_5 (dk_at dksX13_init_0 11 rfl rfl)
theorem dX13_init_13 : decode cX13_init 13 = .ok (.putfield 9, 3) := dk_181 0 9 (dk_at dksX13_init_0 13 rfl rfl)
theorem dX13_init_16 : decode cX13_init 16 = .ok (.aload_n 0, 1) := dk_42 (dk_at dksX13_init_0 16 rfl rfl)
theorem dX13_init_17 : decode cX13_init 17 = .ok (.bipush 60, 2) := dk_16 60 (dk_at dksX13_init_0 17 rfl rfl)
theorem dX13_init_19 : decode cX13_init 19 = .ok (.newarray .int, 2) := dk_188_10 (dk_at dksX13_init_0 19 rfl rfl)
theorem dX13_init_21 : decode cX13_init 21 = .ok (.putfield 15, 3) := dk_181 0 15 (dk_at dksX13_init_0 21 rfl rfl)
theorem dX13_init_24 : decode cX13_init 24 = .ok (.aload_n 0, 1) := dk_42 (dk_at dksX13_init_1 0 rfl rfl)
theorem dX13_init_25 : decode cX13_init 25 = .ok (.bipush 60, 2) := dk_16 60 (dk_at dksX13_init_1 1 rfl rfl)
theorem dX13_init_27 : decode cX13_init 27 = .ok (.newarray .int, 2) := dk_188_10 (dk_at dksX13_init_1 3 rfl rfl)
theorem dX13_init_29 : decode cX13_init 29 = .ok (.putfield 19, 3) := dk_181 0 19 (dk_at dksX13_init_1 5 rfl rfl)
theorem dX13_init_32 : decode cX13_init 32 = .ok (.return_, 1) := dk_177 (dk_at dksX13_init_1 8 rfl rfl)
abbrev cX13_read : ByteArray := prog_8_method_2_code
def yX13_read : MethodName := ⟨RX13, "read", "()V"⟩
def dkwX13_read_1 : List UInt8 := [181, 0, 33, 167, 255, 231, 42, 182, 0, 36, 177]
abbrev dktX13_read_1 : List UInt8 := dkwX13_read_1 ++ []
def dkwX13_read_0 : List UInt8 := [42, 180, 0, 22, 42, 180, 0, 26, 162, 0, 20, 42, 182, 0, 29, 42, 89, 180, 0, 33, 4, 96]
abbrev dktX13_read_0 : List UInt8 := dkwX13_read_0 ++ dktX13_read_1
theorem dksX13_read_0 : cX13_read.data.toList.drop 0 = dktX13_read_0 := by decide +kernel
theorem dksX13_read_1 : cX13_read.data.toList.drop 22 = dktX13_read_1 := dk_seg dksX13_read_0 22 rfl rfl
theorem dX13_read_0 : decode cX13_read 0 = .ok (.aload_n 0, 1) := dk_42 (dk_at dksX13_read_0 0 rfl rfl)
theorem dX13_read_1 : decode cX13_read 1 = .ok (.getfield 22, 3) := dk_180 0 22 (dk_at dksX13_read_0 1 rfl rfl)
theorem dX13_read_4 : decode cX13_read 4 = .ok (.aload_n 0, 1) := dk_42 (dk_at dksX13_read_0 4 rfl rfl)
theorem dX13_read_5 : decode cX13_read 5 = .ok (.getfield 26, 3) := dk_180 0 26 (dk_at dksX13_read_0 5 rfl rfl)
theorem dX13_read_8 : decode cX13_read 8 = .ok (.if_icmp .ge 20, 3) := dk_162 0 20 (dk_at dksX13_read_0 8 rfl rfl)
theorem dX13_read_11 : decode cX13_read 11 = .ok (.aload_n 0, 1) := dk_42 (dk_at dksX13_read_0 11 rfl rfl)
theorem dX13_read_12 : decode cX13_read 12 = .ok (.invokevirtual 29, 3) := dk_182 0 29 (dk_at dksX13_read_0 12 rfl rfl)
theorem dX13_read_15 : decode cX13_read 15 = .ok (.aload_n 0, 1) := dk_42 (dk_at dksX13_read_0 15 rfl rfl)
theorem dX13_read_16 : decode cX13_read 16 = .ok (.dup, 1) := dk_89 (dk_at dksX13_read_0 16 rfl rfl)
theorem dX13_read_17 : decode cX13_read 17 = .ok (.getfield 33, 3) := dk_180 0 33 (dk_at dksX13_read_0 17 rfl rfl)
theorem dX13_read_20 : decode cX13_read 20 = .ok (.iconst 1, 1) := dk_4 (dk_at dksX13_read_0 20 rfl rfl)
theorem dX13_read_21 : decode cX13_read 21 = .ok (.iadd, 1) := dk_96 (dk_at dksX13_read_0 21 rfl rfl)
theorem dX13_read_22 : decode cX13_read 22 = .ok (.putfield 33, 3) := dk_181 0 33 (dk_at dksX13_read_1 0 rfl rfl)
theorem dX13_read_25 : decode cX13_read 25 = .ok (.goto (-25), 3) := dk_167 255 231 (dk_at dksX13_read_1 3 rfl rfl)
theorem dX13_read_28 : decode cX13_read 28 = .ok (.aload_n 0, 1) := dk_42 (dk_at dksX13_read_1 6 rfl rfl)
theorem dX13_read_29 : decode cX13_read 29 = .ok (.invokevirtual 36, 3) := dk_182 0 36 (dk_at dksX13_read_1 7 rfl rfl)
theorem dX13_read_32 : decode cX13_read 32 = .ok (.return_, 1) := dk_177 (dk_at dksX13_read_1 10 rfl rfl)
abbrev cX13_act : ByteArray := prog_8_method_3_code
def yX13_act : MethodName := ⟨RX13, "act", "()V"⟩
def dkwX13_act_7 : List UInt8 := [42, 16, 49, 16, 9, 182, 0, 55, 4, 96, 104, 79, 177]
abbrev dktX13_act_7 : List UInt8 := dkwX13_act_7 ++ []
def dkwX13_act_6 : List UInt8 := [16, 48, 16, 10, 182, 0, 55, 79, 27, 16, 119, 160, 0, 25, 42, 180, 0, 15, 42, 180, 0, 33, 16, 10]
abbrev dktX13_act_6 : List UInt8 := dkwX13_act_6 ++ dktX13_act_7
def dkwX13_act_5 : List UInt8 := [159, 0, 15, 27, 16, 97, 159, 0, 9, 27, 16, 98, 160, 0, 20, 42, 180, 0, 15, 42, 180, 0, 33, 42]
abbrev dktX13_act_5 : List UInt8 := dkwX13_act_5 ++ dktX13_act_6
def dkwX13_act_4 : List UInt8 := [42, 180, 0, 19, 42, 180, 0, 33, 42, 16, 49, 16, 9, 182, 0, 55, 4, 96, 79, 27, 16, 100]
abbrev dktX13_act_4 : List UInt8 := dkwX13_act_4 ++ dktX13_act_5
def dkwX13_act_3 : List UInt8 := [180, 0, 33, 42, 16, 97, 16, 8, 182, 0, 55, 79, 27, 16, 99, 159, 0, 9, 27, 16, 107, 160, 0, 22]
abbrev dktX13_act_3 : List UInt8 := dkwX13_act_3 ++ dktX13_act_4
def dkwX13_act_2 : List UInt8 := [85, 27, 16, 99, 159, 0, 15, 27, 16, 107, 159, 0, 9, 27, 16, 114, 160, 0, 20, 42, 180, 0, 15, 42]
abbrev dktX13_act_2 : List UInt8 := dkwX13_act_2 ++ dktX13_act_3
def dkwX13_act_1 : List UInt8 := [3, 182, 0, 51, 42, 89, 180, 0, 22, 4, 96, 181, 0, 22, 42, 180, 0, 9, 42, 180, 0, 33, 27, 146]
abbrev dktX13_act_1 : List UInt8 := dkwX13_act_1 ++ dktX13_act_2
def dkwX13_act_0 : List UInt8 := [42, 182, 0, 39, 60, 42, 27, 2, 159, 0, 16, 18, 43, 27, 182, 0, 45, 155, 0, 7, 4, 167, 0, 4]
abbrev dktX13_act_0 : List UInt8 := dkwX13_act_0 ++ dktX13_act_1
theorem dksX13_act_0 : cX13_act.data.toList.drop 0 = dktX13_act_0 := by decide +kernel
theorem dksX13_act_1 : cX13_act.data.toList.drop 24 = dktX13_act_1 := dk_seg dksX13_act_0 24 rfl rfl
theorem dksX13_act_2 : cX13_act.data.toList.drop 48 = dktX13_act_2 := dk_seg dksX13_act_1 24 rfl rfl
theorem dksX13_act_3 : cX13_act.data.toList.drop 72 = dktX13_act_3 := dk_seg dksX13_act_2 24 rfl rfl
theorem dksX13_act_4 : cX13_act.data.toList.drop 96 = dktX13_act_4 := dk_seg dksX13_act_3 24 rfl rfl
theorem dksX13_act_5 : cX13_act.data.toList.drop 118 = dktX13_act_5 := dk_seg dksX13_act_4 22 rfl rfl
theorem dksX13_act_6 : cX13_act.data.toList.drop 142 = dktX13_act_6 := dk_seg dksX13_act_5 24 rfl rfl
theorem dksX13_act_7 : cX13_act.data.toList.drop 166 = dktX13_act_7 := dk_seg dksX13_act_6 24 rfl rfl
theorem dX13_act_0 : decode cX13_act 0 = .ok (.aload_n 0, 1) := dk_42 (dk_at dksX13_act_0 0 rfl rfl)
theorem dX13_act_1 : decode cX13_act 1 = .ok (.invokevirtual 39, 3) := dk_182 0 39 (dk_at dksX13_act_0 1 rfl rfl)
theorem dX13_act_4 : decode cX13_act 4 = .ok (.istore_n 1, 1) := dk_60 (dk_at dksX13_act_0 4 rfl rfl)
theorem dX13_act_5 : decode cX13_act 5 = .ok (.aload_n 0, 1) := dk_42 (dk_at dksX13_act_0 5 rfl rfl)
theorem dX13_act_6 : decode cX13_act 6 = .ok (.iload_n 1, 1) := dk_27 (dk_at dksX13_act_0 6 rfl rfl)
theorem dX13_act_7 : decode cX13_act 7 = .ok (.iconst (-1), 1) := dk_2 (dk_at dksX13_act_0 7 rfl rfl)
theorem dX13_act_8 : decode cX13_act 8 = .ok (.if_icmp .eq 16, 3) := dk_159 0 16 (dk_at dksX13_act_0 8 rfl rfl)
theorem dX13_act_11 : decode cX13_act 11 = .ok (.ldc 43, 2) := dk_18 43 (dk_at dksX13_act_0 11 rfl rfl)
theorem dX13_act_13 : decode cX13_act 13 = .ok (.iload_n 1, 1) := dk_27 (dk_at dksX13_act_0 13 rfl rfl)
theorem dX13_act_14 : decode cX13_act 14 = .ok (.invokevirtual 45, 3) := dk_182 0 45 (dk_at dksX13_act_0 14 rfl rfl)
theorem dX13_act_17 : decode cX13_act 17 = .ok (.ifCond .lt 7, 3) := dk_155 0 7 (dk_at dksX13_act_0 17 rfl rfl)
theorem dX13_act_20 : decode cX13_act 20 = .ok (.iconst 1, 1) := dk_4 (dk_at dksX13_act_0 20 rfl rfl)
theorem dX13_act_21 : decode cX13_act 21 = .ok (.goto 4, 3) := dk_167 0 4 (dk_at dksX13_act_0 21 rfl rfl)
theorem dX13_act_24 : decode cX13_act 24 = .ok (.iconst 0, 1) := dk_3 (dk_at dksX13_act_1 0 rfl rfl)
theorem dX13_act_25 : decode cX13_act 25 = .ok (.invokevirtual 51, 3) := dk_182 0 51 (dk_at dksX13_act_1 1 rfl rfl)
theorem dX13_act_28 : decode cX13_act 28 = .ok (.aload_n 0, 1) := dk_42 (dk_at dksX13_act_1 4 rfl rfl)
theorem dX13_act_29 : decode cX13_act 29 = .ok (.dup, 1) := dk_89 (dk_at dksX13_act_1 5 rfl rfl)
theorem dX13_act_30 : decode cX13_act 30 = .ok (.getfield 22, 3) := dk_180 0 22 (dk_at dksX13_act_1 6 rfl rfl)
theorem dX13_act_33 : decode cX13_act 33 = .ok (.iconst 1, 1) := dk_4 (dk_at dksX13_act_1 9 rfl rfl)
theorem dX13_act_34 : decode cX13_act 34 = .ok (.iadd, 1) := dk_96 (dk_at dksX13_act_1 10 rfl rfl)
theorem dX13_act_35 : decode cX13_act 35 = .ok (.putfield 22, 3) := dk_181 0 22 (dk_at dksX13_act_1 11 rfl rfl)
theorem dX13_act_38 : decode cX13_act 38 = .ok (.aload_n 0, 1) := dk_42 (dk_at dksX13_act_1 14 rfl rfl)
theorem dX13_act_39 : decode cX13_act 39 = .ok (.getfield 9, 3) := dk_180 0 9 (dk_at dksX13_act_1 15 rfl rfl)
theorem dX13_act_42 : decode cX13_act 42 = .ok (.aload_n 0, 1) := dk_42 (dk_at dksX13_act_1 18 rfl rfl)
theorem dX13_act_43 : decode cX13_act 43 = .ok (.getfield 33, 3) := dk_180 0 33 (dk_at dksX13_act_1 19 rfl rfl)
theorem dX13_act_46 : decode cX13_act 46 = .ok (.iload_n 1, 1) := dk_27 (dk_at dksX13_act_1 22 rfl rfl)
theorem dX13_act_47 : decode cX13_act 47 = .ok (.i2c, 1) := dk_146 (dk_at dksX13_act_1 23 rfl rfl)
theorem dX13_act_48 : decode cX13_act 48 = .ok (.castore, 1) := dk_85 (dk_at dksX13_act_2 0 rfl rfl)
theorem dX13_act_49 : decode cX13_act 49 = .ok (.iload_n 1, 1) := dk_27 (dk_at dksX13_act_2 1 rfl rfl)
theorem dX13_act_50 : decode cX13_act 50 = .ok (.bipush 99, 2) := dk_16 99 (dk_at dksX13_act_2 2 rfl rfl)
theorem dX13_act_52 : decode cX13_act 52 = .ok (.if_icmp .eq 15, 3) := dk_159 0 15 (dk_at dksX13_act_2 4 rfl rfl)
theorem dX13_act_55 : decode cX13_act 55 = .ok (.iload_n 1, 1) := dk_27 (dk_at dksX13_act_2 7 rfl rfl)
theorem dX13_act_56 : decode cX13_act 56 = .ok (.bipush 107, 2) := dk_16 107 (dk_at dksX13_act_2 8 rfl rfl)
theorem dX13_act_58 : decode cX13_act 58 = .ok (.if_icmp .eq 9, 3) := dk_159 0 9 (dk_at dksX13_act_2 10 rfl rfl)
theorem dX13_act_61 : decode cX13_act 61 = .ok (.iload_n 1, 1) := dk_27 (dk_at dksX13_act_2 13 rfl rfl)
theorem dX13_act_62 : decode cX13_act 62 = .ok (.bipush 114, 2) := dk_16 114 (dk_at dksX13_act_2 14 rfl rfl)
theorem dX13_act_64 : decode cX13_act 64 = .ok (.if_icmp .ne 20, 3) := dk_160 0 20 (dk_at dksX13_act_2 16 rfl rfl)
theorem dX13_act_67 : decode cX13_act 67 = .ok (.aload_n 0, 1) := dk_42 (dk_at dksX13_act_2 19 rfl rfl)
theorem dX13_act_68 : decode cX13_act 68 = .ok (.getfield 15, 3) := dk_180 0 15 (dk_at dksX13_act_2 20 rfl rfl)
theorem dX13_act_71 : decode cX13_act 71 = .ok (.aload_n 0, 1) := dk_42 (dk_at dksX13_act_2 23 rfl rfl)
theorem dX13_act_72 : decode cX13_act 72 = .ok (.getfield 33, 3) := dk_180 0 33 (dk_at dksX13_act_3 0 rfl rfl)
theorem dX13_act_75 : decode cX13_act 75 = .ok (.aload_n 0, 1) := dk_42 (dk_at dksX13_act_3 3 rfl rfl)
theorem dX13_act_76 : decode cX13_act 76 = .ok (.bipush 97, 2) := dk_16 97 (dk_at dksX13_act_3 4 rfl rfl)
theorem dX13_act_78 : decode cX13_act 78 = .ok (.bipush 8, 2) := dk_16 8 (dk_at dksX13_act_3 6 rfl rfl)
theorem dX13_act_80 : decode cX13_act 80 = .ok (.invokevirtual 55, 3) := dk_182 0 55 (dk_at dksX13_act_3 8 rfl rfl)
theorem dX13_act_83 : decode cX13_act 83 = .ok (.iastore, 1) := dk_79 (dk_at dksX13_act_3 11 rfl rfl)
theorem dX13_act_84 : decode cX13_act 84 = .ok (.iload_n 1, 1) := dk_27 (dk_at dksX13_act_3 12 rfl rfl)
theorem dX13_act_85 : decode cX13_act 85 = .ok (.bipush 99, 2) := dk_16 99 (dk_at dksX13_act_3 13 rfl rfl)
theorem dX13_act_87 : decode cX13_act 87 = .ok (.if_icmp .eq 9, 3) := dk_159 0 9 (dk_at dksX13_act_3 15 rfl rfl)
theorem dX13_act_90 : decode cX13_act 90 = .ok (.iload_n 1, 1) := dk_27 (dk_at dksX13_act_3 18 rfl rfl)
theorem dX13_act_91 : decode cX13_act 91 = .ok (.bipush 107, 2) := dk_16 107 (dk_at dksX13_act_3 19 rfl rfl)
theorem dX13_act_93 : decode cX13_act 93 = .ok (.if_icmp .ne 22, 3) := dk_160 0 22 (dk_at dksX13_act_3 21 rfl rfl)
theorem dX13_act_96 : decode cX13_act 96 = .ok (.aload_n 0, 1) := dk_42 (dk_at dksX13_act_4 0 rfl rfl)
theorem dX13_act_97 : decode cX13_act 97 = .ok (.getfield 19, 3) := dk_180 0 19 (dk_at dksX13_act_4 1 rfl rfl)
theorem dX13_act_100 : decode cX13_act 100 = .ok (.aload_n 0, 1) := dk_42 (dk_at dksX13_act_4 4 rfl rfl)
theorem dX13_act_101 : decode cX13_act 101 = .ok (.getfield 33, 3) := dk_180 0 33 (dk_at dksX13_act_4 5 rfl rfl)
theorem dX13_act_104 : decode cX13_act 104 = .ok (.aload_n 0, 1) := dk_42 (dk_at dksX13_act_4 8 rfl rfl)
theorem dX13_act_105 : decode cX13_act 105 = .ok (.bipush 49, 2) := dk_16 49 (dk_at dksX13_act_4 9 rfl rfl)
theorem dX13_act_107 : decode cX13_act 107 = .ok (.bipush 9, 2) := dk_16 9 (dk_at dksX13_act_4 11 rfl rfl)
theorem dX13_act_109 : decode cX13_act 109 = .ok (.invokevirtual 55, 3) := dk_182 0 55 (dk_at dksX13_act_4 13 rfl rfl)
theorem dX13_act_112 : decode cX13_act 112 = .ok (.iconst 1, 1) := dk_4 (dk_at dksX13_act_4 16 rfl rfl)
theorem dX13_act_113 : decode cX13_act 113 = .ok (.iadd, 1) := dk_96 (dk_at dksX13_act_4 17 rfl rfl)
theorem dX13_act_114 : decode cX13_act 114 = .ok (.iastore, 1) := dk_79 (dk_at dksX13_act_4 18 rfl rfl)
theorem dX13_act_115 : decode cX13_act 115 = .ok (.iload_n 1, 1) := dk_27 (dk_at dksX13_act_4 19 rfl rfl)
theorem dX13_act_116 : decode cX13_act 116 = .ok (.bipush 100, 2) := dk_16 100 (dk_at dksX13_act_4 20 rfl rfl)
theorem dX13_act_118 : decode cX13_act 118 = .ok (.if_icmp .eq 15, 3) := dk_159 0 15 (dk_at dksX13_act_5 0 rfl rfl)
theorem dX13_act_121 : decode cX13_act 121 = .ok (.iload_n 1, 1) := dk_27 (dk_at dksX13_act_5 3 rfl rfl)
theorem dX13_act_122 : decode cX13_act 122 = .ok (.bipush 97, 2) := dk_16 97 (dk_at dksX13_act_5 4 rfl rfl)
theorem dX13_act_124 : decode cX13_act 124 = .ok (.if_icmp .eq 9, 3) := dk_159 0 9 (dk_at dksX13_act_5 6 rfl rfl)
theorem dX13_act_127 : decode cX13_act 127 = .ok (.iload_n 1, 1) := dk_27 (dk_at dksX13_act_5 9 rfl rfl)
theorem dX13_act_128 : decode cX13_act 128 = .ok (.bipush 98, 2) := dk_16 98 (dk_at dksX13_act_5 10 rfl rfl)
theorem dX13_act_130 : decode cX13_act 130 = .ok (.if_icmp .ne 20, 3) := dk_160 0 20 (dk_at dksX13_act_5 12 rfl rfl)
theorem dX13_act_133 : decode cX13_act 133 = .ok (.aload_n 0, 1) := dk_42 (dk_at dksX13_act_5 15 rfl rfl)
theorem dX13_act_134 : decode cX13_act 134 = .ok (.getfield 15, 3) := dk_180 0 15 (dk_at dksX13_act_5 16 rfl rfl)
theorem dX13_act_137 : decode cX13_act 137 = .ok (.aload_n 0, 1) := dk_42 (dk_at dksX13_act_5 19 rfl rfl)
theorem dX13_act_138 : decode cX13_act 138 = .ok (.getfield 33, 3) := dk_180 0 33 (dk_at dksX13_act_5 20 rfl rfl)
theorem dX13_act_141 : decode cX13_act 141 = .ok (.aload_n 0, 1) := dk_42 (dk_at dksX13_act_5 23 rfl rfl)
theorem dX13_act_142 : decode cX13_act 142 = .ok (.bipush 48, 2) := dk_16 48 (dk_at dksX13_act_6 0 rfl rfl)
theorem dX13_act_144 : decode cX13_act 144 = .ok (.bipush 10, 2) := dk_16 10 (dk_at dksX13_act_6 2 rfl rfl)
theorem dX13_act_146 : decode cX13_act 146 = .ok (.invokevirtual 55, 3) := dk_182 0 55 (dk_at dksX13_act_6 4 rfl rfl)
theorem dX13_act_149 : decode cX13_act 149 = .ok (.iastore, 1) := dk_79 (dk_at dksX13_act_6 7 rfl rfl)
theorem dX13_act_150 : decode cX13_act 150 = .ok (.iload_n 1, 1) := dk_27 (dk_at dksX13_act_6 8 rfl rfl)
theorem dX13_act_151 : decode cX13_act 151 = .ok (.bipush 119, 2) := dk_16 119 (dk_at dksX13_act_6 9 rfl rfl)
theorem dX13_act_153 : decode cX13_act 153 = .ok (.if_icmp .ne 25, 3) := dk_160 0 25 (dk_at dksX13_act_6 11 rfl rfl)
theorem dX13_act_156 : decode cX13_act 156 = .ok (.aload_n 0, 1) := dk_42 (dk_at dksX13_act_6 14 rfl rfl)
theorem dX13_act_157 : decode cX13_act 157 = .ok (.getfield 15, 3) := dk_180 0 15 (dk_at dksX13_act_6 15 rfl rfl)
theorem dX13_act_160 : decode cX13_act 160 = .ok (.aload_n 0, 1) := dk_42 (dk_at dksX13_act_6 18 rfl rfl)
theorem dX13_act_161 : decode cX13_act 161 = .ok (.getfield 33, 3) := dk_180 0 33 (dk_at dksX13_act_6 19 rfl rfl)
theorem dX13_act_164 : decode cX13_act 164 = .ok (.bipush 10, 2) := dk_16 10 (dk_at dksX13_act_6 22 rfl rfl)
theorem dX13_act_166 : decode cX13_act 166 = .ok (.aload_n 0, 1) := dk_42 (dk_at dksX13_act_7 0 rfl rfl)
theorem dX13_act_167 : decode cX13_act 167 = .ok (.bipush 49, 2) := dk_16 49 (dk_at dksX13_act_7 1 rfl rfl)
theorem dX13_act_169 : decode cX13_act 169 = .ok (.bipush 9, 2) := dk_16 9 (dk_at dksX13_act_7 3 rfl rfl)
theorem dX13_act_171 : decode cX13_act 171 = .ok (.invokevirtual 55, 3) := dk_182 0 55 (dk_at dksX13_act_7 5 rfl rfl)
theorem dX13_act_174 : decode cX13_act 174 = .ok (.iconst 1, 1) := dk_4 (dk_at dksX13_act_7 8 rfl rfl)
theorem dX13_act_175 : decode cX13_act 175 = .ok (.iadd, 1) := dk_96 (dk_at dksX13_act_7 9 rfl rfl)
theorem dX13_act_176 : decode cX13_act 176 = .ok (.imul, 1) := dk_104 (dk_at dksX13_act_7 10 rfl rfl)
theorem dX13_act_177 : decode cX13_act 177 = .ok (.iastore, 1) := dk_79 (dk_at dksX13_act_7 11 rfl rfl)
theorem dX13_act_178 : decode cX13_act 178 = .ok (.return_, 1) := dk_177 (dk_at dksX13_act_7 12 rfl rfl)
theorem q116 : (Jvm.Cond.initialized "TreesBeforeMen$Order") ∈ lw_all := lw_g (lw_at lw_m1 26 rfl) rfl
theorem q392 : (Jvm.Cond.fieldLink "TreesBeforeMen$Order" (26 : Nat) "TreesBeforeMen$Order" "end" "I") ∈ lw_all := lw_g (lw_at lw_m2 62 rfl) rfl
theorem q393 : (Jvm.Cond.sameField "TreesBeforeMen$Order" "TreesBeforeMen$Words" "end" "I") ∈ lw_all := lw_g (lw_at lw_m2 63 rfl) rfl
theorem q395 : (Jvm.Cond.fieldLink "TreesBeforeMen$Order" (22 : Nat) "TreesBeforeMen$Order" "at" "I") ∈ lw_all := lw_g (lw_at lw_m2 65 rfl) rfl
theorem q396 : (Jvm.Cond.sameField "TreesBeforeMen$Order" "TreesBeforeMen$Words" "at" "I") ∈ lw_all := lw_g (lw_at lw_m2 66 rfl) rfl
theorem q415 : (Jvm.Cond.selects "TreesBeforeMen$Order" ({ cls := "TreesBeforeMen$Words", name := "need", desc := "(Z)V" } : Jvm.MethodName) ({ cls := "TreesBeforeMen$Words", name := "need", desc := "(Z)V" } : Jvm.MethodName)) ∈ lw_all := lw_g (lw_at lw_m2 85 rfl) rfl
theorem q485 : (Jvm.Cond.selects "TreesBeforeMen$Order" ({ cls := "TreesBeforeMen$Words", name := "one", desc := "(CI)I" } : Jvm.MethodName) ({ cls := "TreesBeforeMen$Words", name := "one", desc := "(CI)I" } : Jvm.MethodName)) ∈ lw_all := lw_g (lw_at lw_m2 155 rfl) rfl
theorem q492 : (Jvm.Cond.selects "TreesBeforeMen$Order" ({ cls := "TreesBeforeMen$Words", name := "here", desc := "()I" } : Jvm.MethodName) ({ cls := "TreesBeforeMen$Words", name := "here", desc := "()I" } : Jvm.MethodName)) ∈ lw_all := lw_g (lw_at lw_m2 162 rfl) rfl
theorem q501 : (Jvm.Cond.selects "TreesBeforeMen$Order" ({ cls := "TreesBeforeMen$Words", name := "passes", desc := "(C)Z" } : Jvm.MethodName) ({ cls := "TreesBeforeMen$Words", name := "passes", desc := "(C)Z" } : Jvm.MethodName)) ∈ lw_all := lw_g (lw_at lw_m2 171 rfl) rfl
theorem q508 : (Jvm.Cond.selects "TreesBeforeMen$Order" ({ cls := "TreesBeforeMen$Words", name := "needEnd", desc := "()V" } : Jvm.MethodName) ({ cls := "TreesBeforeMen$Words", name := "needEnd", desc := "()V" } : Jvm.MethodName)) ∈ lw_all := lw_g (lw_at lw_m2 178 rfl) rfl
theorem q527 : (Jvm.Cond.selects "TreesBeforeMen$Order" ({ cls := "TreesBeforeMen$Words", name := "number", desc := "(I)I" } : Jvm.MethodName) ({ cls := "TreesBeforeMen$Words", name := "number", desc := "(I)I" } : Jvm.MethodName)) ∈ lw_all := lw_g (lw_at lw_m2 197 rfl) rfl
theorem q918 : (Jvm.Cond.instantiable "TreesBeforeMen$Order" (8 : Nat)) ∈ lw_all := lw_g (lw_at lw_m4 108 rfl) rfl
theorem q920 : (Jvm.Cond.instanceMethod ({ cls := "TreesBeforeMen$Order", name := "<init>", desc := "([BI)V" } : Jvm.MethodName)) ∈ lw_all := lw_g (lw_at lw_m4 110 rfl) rfl
theorem q921 : (Jvm.Cond.code ({ cls := "TreesBeforeMen$Order", name := "<init>", desc := "([BI)V" } : Jvm.MethodName) prog_8_method_1_code (3 : Nat) (Option.none : Option Jvm.ClassFile.FieldType)) ∈ lw_all := lw_g (lw_at lw_m4 111 rfl) rfl
theorem q922 : (Jvm.Cond.methodLink "TreesBeforeMen$Order" (3 : Nat) ({ cls := "TreesBeforeMen$Words", name := "<init>", desc := "([BII)V" } : Jvm.MethodName)) ∈ lw_all := lw_g (lw_at lw_m4 112 rfl) rfl
theorem q923 : (Jvm.Cond.fieldLink "TreesBeforeMen$Order" (9 : Nat) "TreesBeforeMen$Order" "acts" "[C") ∈ lw_all := lw_g (lw_at lw_m4 113 rfl) rfl
theorem q925 : (Jvm.Cond.fieldLink "TreesBeforeMen$Order" (15 : Nat) "TreesBeforeMen$Order" "first" "[I") ∈ lw_all := lw_g (lw_at lw_m4 115 rfl) rfl
theorem q927 : (Jvm.Cond.fieldLink "TreesBeforeMen$Order" (19 : Nat) "TreesBeforeMen$Order" "second" "[I") ∈ lw_all := lw_g (lw_at lw_m4 117 rfl) rfl
theorem q929 : (Jvm.Cond.fieldLink "TreesBeforeMen$Order" (33 : Nat) "TreesBeforeMen$Order" "many" "I") ∈ lw_all := lw_g (lw_at lw_m4 119 rfl) rfl
theorem q931 : (Jvm.Cond.laysFinal "TreesBeforeMen$Order" "TreesBeforeMen$Order" "acts" "[C") ∈ lw_all := lw_g (lw_at lw_m4 121 rfl) rfl
theorem q932 : (Jvm.Cond.soleField "TreesBeforeMen$Order" "acts") ∈ lw_all := lw_g (lw_at lw_m4 122 rfl) rfl
theorem q933 : (Jvm.Cond.laysFinal "TreesBeforeMen$Order" "TreesBeforeMen$Order" "first" "[I") ∈ lw_all := lw_g (lw_at lw_m4 123 rfl) rfl
theorem q934 : (Jvm.Cond.soleField "TreesBeforeMen$Order" "first") ∈ lw_all := lw_g (lw_at lw_m4 124 rfl) rfl
theorem q935 : (Jvm.Cond.laysFinal "TreesBeforeMen$Order" "TreesBeforeMen$Order" "second" "[I") ∈ lw_all := lw_g (lw_at lw_m4 125 rfl) rfl
theorem q936 : (Jvm.Cond.soleField "TreesBeforeMen$Order" "second") ∈ lw_all := lw_g (lw_at lw_m4 126 rfl) rfl
theorem q937 : (Jvm.Cond.lays "TreesBeforeMen$Order" "TreesBeforeMen$Order" "many" "I") ∈ lw_all := lw_g (lw_at lw_m4 127 rfl) rfl
theorem q938 : (Jvm.Cond.soleField "TreesBeforeMen$Order" "many") ∈ lw_all := lw_g (lw_at lw_m4 128 rfl) rfl
theorem q939 : (Jvm.Cond.laysFinal "TreesBeforeMen$Order" "TreesBeforeMen$Words" "of" "[B") ∈ lw_all := lw_g (lw_at lw_m4 129 rfl) rfl
theorem q940 : (Jvm.Cond.laysFinal "TreesBeforeMen$Order" "TreesBeforeMen$Words" "size" "I") ∈ lw_all := lw_g (lw_at lw_m4 130 rfl) rfl
theorem q941 : (Jvm.Cond.laysFinal "TreesBeforeMen$Order" "TreesBeforeMen$Words" "end" "I") ∈ lw_all := lw_g (lw_at lw_m4 131 rfl) rfl
theorem q942 : (Jvm.Cond.lays "TreesBeforeMen$Order" "TreesBeforeMen$Words" "at" "I") ∈ lw_all := lw_g (lw_at lw_m4 132 rfl) rfl
theorem q943 : (Jvm.Cond.superclass "TreesBeforeMen$Order" "TreesBeforeMen$Words") ∈ lw_all := lw_g (lw_at lw_m4 133 rfl) rfl
theorem q946 : (Jvm.Cond.instanceMethod ({ cls := "TreesBeforeMen$Order", name := "read", desc := "()V" } : Jvm.MethodName)) ∈ lw_all := lw_g (lw_at lw_m4 136 rfl) rfl
theorem q947 : (Jvm.Cond.selects "TreesBeforeMen$Order" ({ cls := "TreesBeforeMen$Order", name := "read", desc := "()V" } : Jvm.MethodName) ({ cls := "TreesBeforeMen$Order", name := "read", desc := "()V" } : Jvm.MethodName)) ∈ lw_all := lw_g (lw_at lw_m4 137 rfl) rfl
theorem q948 : (Jvm.Cond.code ({ cls := "TreesBeforeMen$Order", name := "read", desc := "()V" } : Jvm.MethodName) prog_8_method_2_code (1 : Nat) (Option.none : Option Jvm.ClassFile.FieldType)) ∈ lw_all := lw_g (lw_at lw_m4 138 rfl) rfl
theorem q949 : (Jvm.Cond.methodLink "TreesBeforeMen$Order" (29 : Nat) ({ cls := "TreesBeforeMen$Order", name := "act", desc := "()V" } : Jvm.MethodName)) ∈ lw_all := lw_g (lw_at lw_m4 139 rfl) rfl
theorem q950 : (Jvm.Cond.privateMethod ({ cls := "TreesBeforeMen$Order", name := "act", desc := "()V" } : Jvm.MethodName)) ∈ lw_tbl := lw_at lw_m4 140 rfl
theorem q951 : (Jvm.Cond.instanceMethod ({ cls := "TreesBeforeMen$Order", name := "act", desc := "()V" } : Jvm.MethodName)) ∈ lw_all := lw_g (lw_at lw_m4 141 rfl) rfl
theorem q952 : (Jvm.Cond.code ({ cls := "TreesBeforeMen$Order", name := "act", desc := "()V" } : Jvm.MethodName) prog_8_method_3_code (2 : Nat) (Option.none : Option Jvm.ClassFile.FieldType)) ∈ lw_all := lw_g (lw_at lw_m4 142 rfl) rfl
theorem q953 : (Jvm.Cond.methodLink "TreesBeforeMen$Order" (39 : Nat) ({ cls := "TreesBeforeMen$Order", name := "here", desc := "()I" } : Jvm.MethodName)) ∈ lw_all := lw_g (lw_at lw_m4 143 rfl) rfl
theorem q954 : (Jvm.Cond.sameMethod "TreesBeforeMen$Order" "TreesBeforeMen$Words" "here" "()I") ∈ lw_all := lw_g (lw_at lw_m4 144 rfl) rfl
theorem q955 : (Jvm.Cond.selects "TreesBeforeMen$Order" ({ cls := "TreesBeforeMen$Order", name := "here", desc := "()I" } : Jvm.MethodName) ({ cls := "TreesBeforeMen$Words", name := "here", desc := "()I" } : Jvm.MethodName)) ∈ lw_all := lw_g (lw_at lw_m4 145 rfl) rfl
theorem q956 : (Jvm.Cond.stringRef "TreesBeforeMen$Order" (43 : Nat) "dwckrpab") ∈ lw_tbl := lw_at lw_m4 146 rfl
theorem q957 : (Jvm.Cond.methodLink "TreesBeforeMen$Order" (45 : Nat) ({ cls := "java/lang/String", name := "indexOf", desc := "(I)I" } : Jvm.MethodName)) ∈ lw_all := lw_g (lw_at lw_m4 147 rfl) rfl
theorem q958 : (Jvm.Cond.methodLink "TreesBeforeMen$Order" (51 : Nat) ({ cls := "TreesBeforeMen$Order", name := "need", desc := "(Z)V" } : Jvm.MethodName)) ∈ lw_all := lw_g (lw_at lw_m4 148 rfl) rfl
theorem q959 : (Jvm.Cond.sameMethod "TreesBeforeMen$Order" "TreesBeforeMen$Words" "need" "(Z)V") ∈ lw_all := lw_g (lw_at lw_m4 149 rfl) rfl
theorem q960 : (Jvm.Cond.selects "TreesBeforeMen$Order" ({ cls := "TreesBeforeMen$Order", name := "need", desc := "(Z)V" } : Jvm.MethodName) ({ cls := "TreesBeforeMen$Words", name := "need", desc := "(Z)V" } : Jvm.MethodName)) ∈ lw_all := lw_g (lw_at lw_m4 150 rfl) rfl
theorem q961 : (Jvm.Cond.methodLink "TreesBeforeMen$Order" (55 : Nat) ({ cls := "TreesBeforeMen$Order", name := "one", desc := "(CI)I" } : Jvm.MethodName)) ∈ lw_all := lw_g (lw_at lw_m4 151 rfl) rfl
theorem q962 : (Jvm.Cond.sameMethod "TreesBeforeMen$Order" "TreesBeforeMen$Words" "one" "(CI)I") ∈ lw_all := lw_g (lw_at lw_m4 152 rfl) rfl
theorem q964 : (Jvm.Cond.selects "TreesBeforeMen$Order" ({ cls := "TreesBeforeMen$Order", name := "one", desc := "(CI)I" } : Jvm.MethodName) ({ cls := "TreesBeforeMen$Words", name := "one", desc := "(CI)I" } : Jvm.MethodName)) ∈ lw_all := lw_g (lw_at lw_m4 154 rfl) rfl
theorem q965 : (Jvm.Cond.methodLink "TreesBeforeMen$Order" (36 : Nat) ({ cls := "TreesBeforeMen$Order", name := "needEnd", desc := "()V" } : Jvm.MethodName)) ∈ lw_all := lw_g (lw_at lw_m4 155 rfl) rfl
theorem q966 : (Jvm.Cond.sameMethod "TreesBeforeMen$Order" "TreesBeforeMen$Words" "needEnd" "()V") ∈ lw_all := lw_g (lw_at lw_m4 156 rfl) rfl
theorem q967 : (Jvm.Cond.selects "TreesBeforeMen$Order" ({ cls := "TreesBeforeMen$Order", name := "needEnd", desc := "()V" } : Jvm.MethodName) ({ cls := "TreesBeforeMen$Words", name := "needEnd", desc := "()V" } : Jvm.MethodName)) ∈ lw_all := lw_g (lw_at lw_m4 157 rfl) rfl
theorem q1893 : (Jvm.Cond.castable "TreesBeforeMen$Order" "java/lang/Object") ∈ lw_tbl := lw_at lw_m8 123 rfl
theorem in_X13 : ∀ w ∈ wsX130, w ∈ lw_all := lw_in wsX130 [939, 940, 941, 942, 931, 933, 935, 937] (by decide +kernel) (by decide +kernel)
/-! TreesBeforeMen$Page -/
set_option maxRecDepth 100000
def RX14 : String := "TreesBeforeMen$Page"
def TX14 : u_T := fun k => match k with
  | 0 => ("TreesBeforeMen$Page", "was", "LTreesBeforeMen$Voyage;", true)
  | 1 => ("TreesBeforeMen$Page", "since", "I", true)
  | _ => ("TreesBeforeMen$Page", "this$0", "LTreesBeforeMen;", true)
def tyX14 : Nat → FieldType := fun k => match k with
  | 0 => .object "TreesBeforeMen$Voyage"
  | 1 => .int
  | _ => .object "TreesBeforeMen"
abbrev wsX140 : List Cond := u_ws RX14 TX14 3
theorem nmX14 : ∀ a, a < 3 → ∀ b, b < 3 → a ≠ b → (TX14 a).2.1 ≠ (TX14 b).2.1 := by decide +kernel
theorem tyX14_ok : ∀ k, k < 3 → parseFieldDescriptor (TX14 k).2.2.1 = some (tyX14 k) := by decide +kernel
abbrev cX14_init : ByteArray := prog_9_method_1_code
def yX14_init : MethodName := ⟨RX14, "<init>", "(LTreesBeforeMen;)V"⟩
def dkwX14_init_1 : List UInt8 := [180, 0, 1, 180, 0, 20, 181, 0, 26, 42, 180, 0, 16, 43, 180, 0, 29, 182, 0, 32, 177]
abbrev dktX14_init_1 : List UInt8 := dkwX14_init_1 ++ []
def dkwX14_init_0 : List UInt8 := [42, 43, 181, 0, 1, 42, 183, 0, 7, 42, 187, 0, 13, 89, 183, 0, 15, 181, 0, 16, 42, 42]
abbrev dktX14_init_0 : List UInt8 := dkwX14_init_0 ++ dktX14_init_1
theorem dksX14_init_0 : cX14_init.data.toList.drop 0 = dktX14_init_0 := by decide +kernel
theorem dksX14_init_1 : cX14_init.data.toList.drop 22 = dktX14_init_1 := dk_seg dksX14_init_0 22 rfl rfl
theorem dX14_init_0 : decode cX14_init 0 = .ok (.aload_n 0, 1) := dk_42 (dk_at dksX14_init_0 0 rfl rfl)
theorem dX14_init_1 : decode cX14_init 1 = .ok (.aload_n 1, 1) := dk_43 (dk_at dksX14_init_0 1 rfl rfl)
theorem dX14_init_2 : decode cX14_init 2 = .ok (.putfield 1, 3) := dk_181 0 1 (dk_at dksX14_init_0 2 rfl rfl)
theorem dX14_init_5 : decode cX14_init 5 = .ok (.aload_n 0, 1) := dk_42 (dk_at dksX14_init_0 5 rfl rfl)
theorem dX14_init_6 : decode cX14_init 6 = .ok (.invokespecial 7, 3) := dk_183 0 7 (dk_at dksX14_init_0 6 rfl rfl)
theorem dX14_init_9 : decode cX14_init 9 = .ok (.aload_n 0, 1) := dk_42 (dk_at dksX14_init_0 9 rfl rfl)
theorem dX14_init_10 : decode cX14_init 10 = .ok (.new 13, 3) := dk_187 0 13 (dk_at dksX14_init_0 10 rfl rfl)
theorem dX14_init_13 : decode cX14_init 13 = .ok (.dup, 1) := dk_89 (dk_at dksX14_init_0 13 rfl rfl)
theorem dX14_init_14 : decode cX14_init 14 = .ok (.invokespecial 15, 3) := dk_183 0 15 (dk_at dksX14_init_0 14 rfl rfl)
theorem dX14_init_17 : decode cX14_init 17 = .ok (.putfield 16, 3) := dk_181 0 16 (dk_at dksX14_init_0 17 rfl rfl)
theorem dX14_init_20 : decode cX14_init 20 = .ok (.aload_n 0, 1) := dk_42 (dk_at dksX14_init_0 20 rfl rfl)
theorem dX14_init_21 : decode cX14_init 21 = .ok (.aload_n 0, 1) := dk_42 (dk_at dksX14_init_0 21 rfl rfl)
theorem dX14_init_22 : decode cX14_init 22 = .ok (.getfield 1, 3) := dk_180 0 1 (dk_at dksX14_init_1 0 rfl rfl)
theorem dX14_init_25 : decode cX14_init 25 = .ok (.getfield 20, 3) := dk_180 0 20 (dk_at dksX14_init_1 3 rfl rfl)
theorem dX14_init_28 : decode cX14_init 28 = .ok (.putfield 26, 3) := dk_181 0 26 (dk_at dksX14_init_1 6 rfl rfl)
theorem dX14_init_31 : decode cX14_init 31 = .ok (.aload_n 0, 1) := dk_42 (dk_at dksX14_init_1 9 rfl rfl)
theorem dX14_init_32 : decode cX14_init 32 = .ok (.getfield 16, 3) := dk_180 0 16 (dk_at dksX14_init_1 10 rfl rfl)
theorem dX14_init_35 : decode cX14_init 35 = .ok (.aload_n 1, 1) := dk_43 (dk_at dksX14_init_1 13 rfl rfl)
theorem dX14_init_36 : decode cX14_init 36 = .ok (.getfield 29, 3) := dk_180 0 29 (dk_at dksX14_init_1 14 rfl rfl)
theorem dX14_init_39 : decode cX14_init 39 = .ok (.invokevirtual 32, 3) := dk_182 0 32 (dk_at dksX14_init_1 17 rfl rfl)
theorem dX14_init_42 : decode cX14_init 42 = .ok (.return_, 1) := dk_177 (dk_at dksX14_init_1 20 rfl rfl)
theorem q118 : (Jvm.Cond.initialized "TreesBeforeMen$Page") ∈ lw_all := lw_g (lw_at lw_m1 28 rfl) rfl
theorem q237 : (Jvm.Cond.fieldLinkNest "TreesBeforeMen$Page" (29 : Nat) "TreesBeforeMen" "now" "LTreesBeforeMen$Voyage;" "TreesBeforeMen") ∈ lw_tbl := lw_at lw_m1 147 rfl
theorem q256 : (Jvm.Cond.fieldLinkNest "TreesBeforeMen$Page" (20 : Nat) "TreesBeforeMen" "came" "I" "TreesBeforeMen") ∈ lw_tbl := lw_at lw_m1 166 rfl
theorem q1156 : (Jvm.Cond.instantiable "TreesBeforeMen$Page" (3 : Nat)) ∈ lw_all := lw_g (lw_at lw_m5 106 rfl) rfl
theorem q1158 : (Jvm.Cond.instanceMethod ({ cls := "TreesBeforeMen$Page", name := "<init>", desc := "(LTreesBeforeMen;)V" } : Jvm.MethodName)) ∈ lw_all := lw_g (lw_at lw_m5 108 rfl) rfl
theorem q1159 : (Jvm.Cond.code ({ cls := "TreesBeforeMen$Page", name := "<init>", desc := "(LTreesBeforeMen;)V" } : Jvm.MethodName) prog_9_method_1_code (2 : Nat) (Option.none : Option Jvm.ClassFile.FieldType)) ∈ lw_all := lw_g (lw_at lw_m5 109 rfl) rfl
theorem q1160 : (Jvm.Cond.methodLink "TreesBeforeMen$Page" (7 : Nat) ({ cls := "java/lang/Object", name := "<init>", desc := "()V" } : Jvm.MethodName)) ∈ lw_all := lw_g (lw_at lw_m5 110 rfl) rfl
theorem q1161 : (Jvm.Cond.classLink "TreesBeforeMen$Page" (13 : Nat) "TreesBeforeMen$Voyage") ∈ lw_all := lw_g (lw_at lw_m5 111 rfl) rfl
theorem q1162 : (Jvm.Cond.methodLinkNest "TreesBeforeMen$Page" (15 : Nat) ({ cls := "TreesBeforeMen$Voyage", name := "<init>", desc := "()V" } : Jvm.MethodName) "TreesBeforeMen") ∈ lw_tbl := lw_at lw_m5 112 rfl
theorem q1163 : (Jvm.Cond.methodLink "TreesBeforeMen$Page" (32 : Nat) ({ cls := "TreesBeforeMen$Voyage", name := "be", desc := "(LTreesBeforeMen$Voyage;)V" } : Jvm.MethodName)) ∈ lw_all := lw_g (lw_at lw_m5 113 rfl) rfl
theorem q1164 : (Jvm.Cond.fieldLink "TreesBeforeMen$Page" (16 : Nat) "TreesBeforeMen$Page" "was" "LTreesBeforeMen$Voyage;") ∈ lw_all := lw_g (lw_at lw_m5 114 rfl) rfl
theorem q1166 : (Jvm.Cond.fieldLink "TreesBeforeMen$Page" (26 : Nat) "TreesBeforeMen$Page" "since" "I") ∈ lw_all := lw_g (lw_at lw_m5 116 rfl) rfl
theorem q1168 : (Jvm.Cond.fieldLink "TreesBeforeMen$Page" (1 : Nat) "TreesBeforeMen$Page" "this$0" "LTreesBeforeMen;") ∈ lw_all := lw_g (lw_at lw_m5 118 rfl) rfl
theorem q1169 : (Jvm.Cond.laysFinal "TreesBeforeMen$Page" "TreesBeforeMen$Page" "was" "LTreesBeforeMen$Voyage;") ∈ lw_all := lw_g (lw_at lw_m5 119 rfl) rfl
theorem q1170 : (Jvm.Cond.soleField "TreesBeforeMen$Page" "was") ∈ lw_all := lw_g (lw_at lw_m5 120 rfl) rfl
theorem q1171 : (Jvm.Cond.laysFinal "TreesBeforeMen$Page" "TreesBeforeMen$Page" "since" "I") ∈ lw_all := lw_g (lw_at lw_m5 121 rfl) rfl
theorem q1172 : (Jvm.Cond.soleField "TreesBeforeMen$Page" "since") ∈ lw_all := lw_g (lw_at lw_m5 122 rfl) rfl
theorem q1173 : (Jvm.Cond.laysFinal "TreesBeforeMen$Page" "TreesBeforeMen$Page" "this$0" "LTreesBeforeMen;") ∈ lw_all := lw_g (lw_at lw_m5 123 rfl) rfl
theorem q1174 : (Jvm.Cond.soleField "TreesBeforeMen$Page" "this$0") ∈ lw_all := lw_g (lw_at lw_m5 124 rfl) rfl
theorem q1175 : (Jvm.Cond.superclass "TreesBeforeMen$Page" "java/lang/Object") ∈ lw_all := lw_g (lw_at lw_m5 125 rfl) rfl
theorem q1894 : (Jvm.Cond.castable "TreesBeforeMen$Page" "java/lang/Object") ∈ lw_tbl := lw_at lw_m8 124 rfl
theorem in_X14 : ∀ w ∈ wsX140, w ∈ lw_all := lw_in wsX140 [1169, 1171, 1173] (by decide +kernel) (by decide +kernel)
