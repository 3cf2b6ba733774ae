/-! TreesBeforeMen -/
set_option maxRecDepth 100000
def RX1 : String := "TreesBeforeMen"
def TX1 : u_T := fun k => match k with
  | 0 => ("TreesBeforeMen", "plain", "LTreesBeforeMen$Kind;", true)
  | 1 => ("TreesBeforeMen", "forced", "LTreesBeforeMen$Kind;", true)
  | 2 => ("TreesBeforeMen", "asleep", "LTreesBeforeMen$Kind;", true)
  | 3 => ("TreesBeforeMen", "friend", "LTreesBeforeMen$Kind;", true)
  | 4 => ("TreesBeforeMen", "botanist", "LTreesBeforeMen$Kind;", true)
  | 5 => ("TreesBeforeMen", "now", "LTreesBeforeMen$Voyage;", true)
  | 6 => ("TreesBeforeMen", "aside", "LTreesBeforeMen$Voyage;", true)
  | 7 => ("TreesBeforeMen", "tried", "LTreesBeforeMen$Voyage;", true)
  | 8 => ("TreesBeforeMen", "other", "LTreesBeforeMen$Voyage;", true)
  | 9 => ("TreesBeforeMen", "ahead", "[LTreesBeforeMen$Voyage;", true)
  | 10 => ("TreesBeforeMen", "steps", "[LTreesBeforeMen$Voyage;", true)
  | 11 => ("TreesBeforeMen", "temper", "[I", true)
  | 12 => ("TreesBeforeMen", "need", "[I", true)
  | 13 => ("TreesBeforeMen", "kind", "[I", true)
  | 14 => ("TreesBeforeMen", "way", "[I", true)
  | 15 => ("TreesBeforeMen", "bread", "[I", true)
  | 16 => ("TreesBeforeMen", "lost", "[I", true)
  | 17 => ("TreesBeforeMen", "searched", "[I", true)
  | 18 => ("TreesBeforeMen", "men", "I", false)
  | 19 => ("TreesBeforeMen", "islands", "I", false)
  | 20 => ("TreesBeforeMen", "searches", "I", false)
  | 21 => ("TreesBeforeMen", "came", "I", false)
  | 22 => ("TreesBeforeMen", "undoMany", "I", false)
  | 23 => ("TreesBeforeMen", "weather", "[B", false)
  | 24 => ("TreesBeforeMen", "text", "[B", true)
  | 25 => ("TreesBeforeMen", "typed", "I", false)
  | 26 => ("TreesBeforeMen", "row", "[J", true)
  | 27 => ("TreesBeforeMen", "rowMany", "I", false)
  | 28 => ("TreesBeforeMen", "rule", "LTreesBeforeMen$Rule;", false)
  | 29 => ("TreesBeforeMen", "part", "[I", true)
  | 30 => ("TreesBeforeMen", "bestPart", "[I", true)
  | 31 => ("TreesBeforeMen", "given", "[I", true)
  | 32 => ("TreesBeforeMen", "bestGiven", "[I", true)
  | 33 => ("TreesBeforeMen", "bestTrees", "I", false)
  | 34 => ("TreesBeforeMen", "ouncesLeft", "I", false)
  | 35 => ("TreesBeforeMen", "heardOf", "[I", true)
  | 36 => ("TreesBeforeMen", "heardBy", "[I", true)
  | 37 => ("TreesBeforeMen", "heardMany", "I", false)
  | 38 => ("TreesBeforeMen", "drawn", "I", false)
  | _ => ("TreesBeforeMen", "pages", "[LTreesBeforeMen$Page;", true)
def tyX1 : Nat → FieldType := fun k => match k with
  | 0 => .object "TreesBeforeMen$Kind"
  | 1 => .object "TreesBeforeMen$Kind"
  | 2 => .object "TreesBeforeMen$Kind"
  | 3 => .object "TreesBeforeMen$Kind"
  | 4 => .object "TreesBeforeMen$Kind"
  | 5 => .object "TreesBeforeMen$Voyage"
  | 6 => .object "TreesBeforeMen$Voyage"
  | 7 => .object "TreesBeforeMen$Voyage"
  | 8 => .object "TreesBeforeMen$Voyage"
  | 9 => .array (.object "TreesBeforeMen$Voyage")
  | 10 => .array (.object "TreesBeforeMen$Voyage")
  | 11 => .array .int
  | 12 => .array .int
  | 13 => .array .int
  | 14 => .array .int
  | 15 => .array .int
  | 16 => .array .int
  | 17 => .array .int
  | 18 => .int
  | 19 => .int
  | 20 => .int
  | 21 => .int
  | 22 => .int
  | 23 => .array .byte
  | 24 => .array .byte
  | 25 => .int
  | 26 => .array .long
  | 27 => .int
  | 28 => .object "TreesBeforeMen$Rule"
  | 29 => .array .int
  | 30 => .array .int
  | 31 => .array .int
  | 32 => .array .int
  | 33 => .int
  | 34 => .int
  | 35 => .array .int
  | 36 => .array .int
  | 37 => .int
  | 38 => .int
  | _ => .array (.object "TreesBeforeMen$Page")
abbrev wsX10 : List Cond := u_ws RX1 TX1 40
set_option maxRecDepth 100000 in
theorem nmX1 : ∀ a, a < 40 → ∀ b, b < 40 → a ≠ b → (TX1 a).2.1 ≠ (TX1 b).2.1 := by decide +kernel
set_option maxRecDepth 100000 in
theorem tyX1_ok : ∀ k, k < 40 → parseFieldDescriptor (TX1 k).2.2.1 = some (tyX1 k) := by decide +kernel
abbrev cX1_init : ByteArray := prog_1_method_4_code
def yX1_init : MethodName := ⟨RX1, "<init>", "()V"⟩
def dkwX1_init_13 : List UInt8 := [180, 0, 66, 27, 187, 0, 46, 89, 183, 0, 48, 83, 132, 1, 1, 167, 255, 234, 177]
abbrev dktX1_init_13 : List UInt8 := dkwX1_init_13 ++ []
def dkwX1_init_12 : List UInt8 := [187, 0, 46, 89, 183, 0, 48, 83, 132, 1, 1, 167, 255, 234, 3, 60, 27, 16, 6, 163, 0, 22, 42]
abbrev dktX1_init_12 : List UInt8 := dkwX1_init_12 ++ dktX1_init_13
def dkwX1_init_11 : List UInt8 := [181, 0, 113, 42, 6, 189, 0, 116, 181, 0, 118, 3, 60, 27, 16, 15, 162, 0, 22, 42, 180, 0, 62, 27]
abbrev dktX1_init_11 : List UInt8 := dkwX1_init_11 ++ dktX1_init_12
def dkwX1_init_10 : List UInt8 := [181, 0, 104, 42, 16, 6, 188, 10, 181, 0, 107, 42, 16, 12, 188, 10, 181, 0, 110, 42, 16, 12, 188, 10]
abbrev dktX1_init_10 : List UInt8 := dkwX1_init_10 ++ dktX1_init_11
def dkwX1_init_9 : List UInt8 := [181, 0, 94, 42, 16, 8, 188, 10, 181, 0, 98, 42, 16, 8, 188, 10, 181, 0, 101, 42, 16, 6, 188, 10]
abbrev dktX1_init_9 : List UInt8 := dkwX1_init_9 ++ dktX1_init_10
def dkwX1_init_8 : List UInt8 := [188, 8, 89, 3, 16, 102, 84, 181, 0, 87, 42, 16, 80, 188, 8, 181, 0, 91, 42, 16, 16, 188, 11]
abbrev dktX1_init_8 : List UInt8 := dkwX1_init_8 ++ dktX1_init_9
def dkwX1_init_7 : List UInt8 := [188, 10, 181, 0, 78, 42, 16, 6, 188, 10, 181, 0, 81, 42, 16, 6, 188, 10, 181, 0, 84, 42, 4]
abbrev dktX1_init_7 : List UInt8 := dkwX1_init_7 ++ dktX1_init_8
def dkwX1_init_6 : List UInt8 := [188, 10, 181, 0, 72, 42, 16, 8, 188, 10, 181, 0, 1, 42, 16, 6, 188, 10, 181, 0, 75, 42, 16, 6]
abbrev dktX1_init_6 : List UInt8 := dkwX1_init_6 ++ dktX1_init_7
def dkwX1_init_5 : List UInt8 := [181, 0, 62, 42, 16, 7, 189, 0, 46, 181, 0, 66, 42, 16, 8, 188, 10, 181, 0, 69, 42, 16, 8]
abbrev dktX1_init_5 : List UInt8 := dkwX1_init_5 ++ dktX1_init_6
def dkwX1_init_4 : List UInt8 := [183, 0, 48, 181, 0, 56, 42, 187, 0, 46, 89, 183, 0, 48, 181, 0, 59, 42, 16, 15, 189, 0, 46]
abbrev dktX1_init_4 : List UInt8 := dkwX1_init_4 ++ dktX1_init_5
def dkwX1_init_3 : List UInt8 := [183, 0, 48, 181, 0, 49, 42, 187, 0, 46, 89, 183, 0, 48, 181, 0, 53, 42, 187, 0, 46, 89]
abbrev dktX1_init_3 : List UInt8 := dkwX1_init_3 ++ dktX1_init_4
def dkwX1_init_2 : List UInt8 := [183, 0, 42, 181, 0, 14, 42, 187, 0, 43, 89, 42, 183, 0, 45, 181, 0, 17, 42, 187, 0, 46, 89]
abbrev dktX1_init_2 : List UInt8 := dkwX1_init_2 ++ dktX1_init_3
def dkwX1_init_1 : List UInt8 := [183, 0, 36, 181, 0, 7, 42, 187, 0, 37, 89, 42, 183, 0, 39, 181, 0, 11, 42, 187, 0, 40, 89, 42]
abbrev dktX1_init_1 : List UInt8 := dkwX1_init_1 ++ dktX1_init_2
def dkwX1_init_0 : List UInt8 := [42, 183, 0, 23, 42, 187, 0, 29, 89, 42, 183, 0, 31, 181, 0, 20, 42, 187, 0, 34, 89, 42]
abbrev dktX1_init_0 : List UInt8 := dkwX1_init_0 ++ dktX1_init_1
theorem dksX1_init_0 : cX1_init.data.toList.drop 0 = dktX1_init_0 := by decide +kernel
theorem dksX1_init_1 : cX1_init.data.toList.drop 22 = dktX1_init_1 := dk_seg dksX1_init_0 22 rfl rfl
theorem dksX1_init_2 : cX1_init.data.toList.drop 46 = dktX1_init_2 := dk_seg dksX1_init_1 24 rfl rfl
theorem dksX1_init_3 : cX1_init.data.toList.drop 69 = dktX1_init_3 := dk_seg dksX1_init_2 23 rfl rfl
theorem dksX1_init_4 : cX1_init.data.toList.drop 91 = dktX1_init_4 := dk_seg dksX1_init_3 22 rfl rfl
theorem dksX1_init_5 : cX1_init.data.toList.drop 114 = dktX1_init_5 := dk_seg dksX1_init_4 23 rfl rfl
theorem dksX1_init_6 : cX1_init.data.toList.drop 137 = dktX1_init_6 := dk_seg dksX1_init_5 23 rfl rfl
theorem dksX1_init_7 : cX1_init.data.toList.drop 161 = dktX1_init_7 := dk_seg dksX1_init_6 24 rfl rfl
theorem dksX1_init_8 : cX1_init.data.toList.drop 184 = dktX1_init_8 := dk_seg dksX1_init_7 23 rfl rfl
theorem dksX1_init_9 : cX1_init.data.toList.drop 207 = dktX1_init_9 := dk_seg dksX1_init_8 23 rfl rfl
theorem dksX1_init_10 : cX1_init.data.toList.drop 231 = dktX1_init_10 := dk_seg dksX1_init_9 24 rfl rfl
theorem dksX1_init_11 : cX1_init.data.toList.drop 255 = dktX1_init_11 := dk_seg dksX1_init_10 24 rfl rfl
theorem dksX1_init_12 : cX1_init.data.toList.drop 279 = dktX1_init_12 := dk_seg dksX1_init_11 24 rfl rfl
theorem dksX1_init_13 : cX1_init.data.toList.drop 302 = dktX1_init_13 := dk_seg dksX1_init_12 23 rfl rfl
theorem dX1_init_0 : decode cX1_init 0 = .ok (.aload_n 0, 1) := dk_42 (dk_at dksX1_init_0 0 rfl rfl)
theorem dX1_init_1 : decode cX1_init 1 = .ok (.invokespecial 23, 3) := dk_183 0 23 (dk_at dksX1_init_0 1 rfl rfl)
theorem dX1_init_4 : decode cX1_init 4 = .ok (.aload_n 0, 1) := dk_42 (dk_at dksX1_init_0 4 rfl rfl)
theorem dX1_init_5 : decode cX1_init 5 = .ok (.new 29, 3) := dk_187 0 29 (dk_at dksX1_init_0 5 rfl rfl)
theorem dX1_init_8 : decode cX1_init 8 = .ok (.dup, 1) := dk_89 (dk_at dksX1_init_0 8 rfl rfl)
theorem dX1_init_9 : decode cX1_init 9 = .ok (.aload_n 0, 1) := dk_42 (dk_at dksX1_init_0 9 rfl rfl)
theorem dX1_init_10 : decode cX1_init 10 = .ok (.invokespecial 31, 3) := dk_183 0 31 (dk_at dksX1_init_0 10 rfl rfl)
theorem dX1_init_13 : decode cX1_init 13 = .ok (.putfield 20, 3) := dk_181 0 20 (dk_at dksX1_init_0 13 rfl rfl)
theorem dX1_init_16 : decode cX1_init 16 = .ok (.aload_n 0, 1) := dk_42 (dk_at dksX1_init_0 16 rfl rfl)
theorem dX1_init_17 : decode cX1_init 17 = .ok (.new 34, 3) := dk_187 0 34 (dk_at dksX1_init_0 17 rfl rfl)
theorem dX1_init_20 : decode cX1_init 20 = .ok (.dup, 1) := dk_89 (dk_at dksX1_init_0 20 rfl rfl)
theorem dX1_init_21 : decode cX1_init 21 = .ok (.aload_n 0, 1) := dk_42 (dk_at dksX1_init_0 21 rfl rfl)
theorem dX1_init_22 : decode cX1_init 22 = .ok (.invokespecial 36, 3) := dk_183 0 36 (dk_at dksX1_init_1 0 rfl rfl)
theorem dX1_init_25 : decode cX1_init 25 = .ok (.putfield 7, 3) := dk_181 0 7 (dk_at dksX1_init_1 3 rfl rfl)
theorem dX1_init_28 : decode cX1_init 28 = .ok (.aload_n 0, 1) := dk_42 (dk_at dksX1_init_1 6 rfl rfl)
theorem dX1_init_29 : decode cX1_init 29 = .ok (.new 37, 3) := dk_187 0 37 (dk_at dksX1_init_1 7 rfl rfl)
theorem dX1_init_32 : decode cX1_init 32 = .ok (.dup, 1) := dk_89 (dk_at dksX1_init_1 10 rfl rfl)
theorem dX1_init_33 : decode cX1_init 33 = .ok (.aload_n 0, 1) := dk_42 (dk_at dksX1_init_1 11 rfl rfl)
theorem dX1_init_34 : decode cX1_init 34 = .ok (.invokespecial 39, 3) := dk_183 0 39 (dk_at dksX1_init_1 12 rfl rfl)
theorem dX1_init_37 : decode cX1_init 37 = .ok (.putfield 11, 3) := dk_181 0 11 (dk_at dksX1_init_1 15 rfl rfl)
theorem dX1_init_40 : decode cX1_init 40 = .ok (.aload_n 0, 1) := dk_42 (dk_at dksX1_init_1 18 rfl rfl)
theorem dX1_init_41 : decode cX1_init 41 = .ok (.new 40, 3) := dk_187 0 40 (dk_at dksX1_init_1 19 rfl rfl)
theorem dX1_init_44 : decode cX1_init 44 = .ok (.dup, 1) := dk_89 (dk_at dksX1_init_1 22 rfl rfl)
theorem dX1_init_45 : decode cX1_init 45 = .ok (.aload_n 0, 1) := dk_42 (dk_at dksX1_init_1 23 rfl rfl)
theorem dX1_init_46 : decode cX1_init 46 = .ok (.invokespecial 42, 3) := dk_183 0 42 (dk_at dksX1_init_2 0 rfl rfl)
theorem dX1_init_49 : decode cX1_init 49 = .ok (.putfield 14, 3) := dk_181 0 14 (dk_at dksX1_init_2 3 rfl rfl)
theorem dX1_init_52 : decode cX1_init 52 = .ok (.aload_n 0, 1) := dk_42 (dk_at dksX1_init_2 6 rfl rfl)
theorem dX1_init_53 : decode cX1_init 53 = .ok (.new 43, 3) := dk_187 0 43 (dk_at dksX1_init_2 7 rfl rfl)
theorem dX1_init_56 : decode cX1_init 56 = .ok (.dup, 1) := dk_89 (dk_at dksX1_init_2 10 rfl rfl)
theorem dX1_init_57 : decode cX1_init 57 = .ok (.aload_n 0, 1) := dk_42 (dk_at dksX1_init_2 11 rfl rfl)
theorem dX1_init_58 : decode cX1_init 58 = .ok (.invokespecial 45, 3) := dk_183 0 45 (dk_at dksX1_init_2 12 rfl rfl)
theorem dX1_init_61 : decode cX1_init 61 = .ok (.putfield 17, 3) := dk_181 0 17 (dk_at dksX1_init_2 15 rfl rfl)
theorem dX1_init_64 : decode cX1_init 64 = .ok (.aload_n 0, 1) := dk_42 (dk_at dksX1_init_2 18 rfl rfl)
theorem dX1_init_65 : decode cX1_init 65 = .ok (.new 46, 3) := dk_187 0 46 (dk_at dksX1_init_2 19 rfl rfl)
theorem dX1_init_68 : decode cX1_init 68 = .ok (.dup, 1) := dk_89 (dk_at dksX1_init_2 22 rfl rfl)
theorem dX1_init_69 : decode cX1_init 69 = .ok (.invokespecial 48, 3) := dk_183 0 48 (dk_at dksX1_init_3 0 rfl rfl)
theorem dX1_init_72 : decode cX1_init 72 = .ok (.putfield 49, 3) := dk_181 0 49 (dk_at dksX1_init_3 3 rfl rfl)
theorem dX1_init_75 : decode cX1_init 75 = .ok (.aload_n 0, 1) := dk_42 (dk_at dksX1_init_3 6 rfl rfl)
theorem dX1_init_76 : decode cX1_init 76 = .ok (.new 46, 3) := dk_187 0 46 (dk_at dksX1_init_3 7 rfl rfl)
theorem dX1_init_79 : decode cX1_init 79 = .ok (.dup, 1) := dk_89 (dk_at dksX1_init_3 10 rfl rfl)
theorem dX1_init_80 : decode cX1_init 80 = .ok (.invokespecial 48, 3) := dk_183 0 48 (dk_at dksX1_init_3 11 rfl rfl)
theorem dX1_init_83 : decode cX1_init 83 = .ok (.putfield 53, 3) := dk_181 0 53 (dk_at dksX1_init_3 14 rfl rfl)
theorem dX1_init_86 : decode cX1_init 86 = .ok (.aload_n 0, 1) := dk_42 (dk_at dksX1_init_3 17 rfl rfl)
theorem dX1_init_87 : decode cX1_init 87 = .ok (.new 46, 3) := dk_187 0 46 (dk_at dksX1_init_3 18 rfl rfl)
theorem dX1_init_90 : decode cX1_init 90 = .ok (.dup, 1) := dk_89 (dk_at dksX1_init_3 21 rfl rfl)
theorem dX1_init_91 : decode cX1_init 91 = .ok (.invokespecial 48, 3) := dk_183 0 48 (dk_at dksX1_init_4 0 rfl rfl)
theorem dX1_init_94 : decode cX1_init 94 = .ok (.putfield 56, 3) := dk_181 0 56 (dk_at dksX1_init_4 3 rfl rfl)
theorem dX1_init_97 : decode cX1_init 97 = .ok (.aload_n 0, 1) := dk_42 (dk_at dksX1_init_4 6 rfl rfl)
theorem dX1_init_98 : decode cX1_init 98 = .ok (.new 46, 3) := dk_187 0 46 (dk_at dksX1_init_4 7 rfl rfl)
theorem dX1_init_101 : decode cX1_init 101 = .ok (.dup, 1) := dk_89 (dk_at dksX1_init_4 10 rfl rfl)
theorem dX1_init_102 : decode cX1_init 102 = .ok (.invokespecial 48, 3) := dk_183 0 48 (dk_at dksX1_init_4 11 rfl rfl)
theorem dX1_init_105 : decode cX1_init 105 = .ok (.putfield 59, 3) := dk_181 0 59 (dk_at dksX1_init_4 14 rfl rfl)
theorem dX1_init_108 : decode cX1_init 108 = .ok (.aload_n 0, 1) := dk_42 (dk_at dksX1_init_4 17 rfl rfl)
theorem dX1_init_109 : decode cX1_init 109 = .ok (.bipush 15, 2) := dk_16 15 (dk_at dksX1_init_4 18 rfl rfl)
theorem dX1_init_111 : decode cX1_init 111 = .ok (.anewarray 46, 3) := dk_189 0 46 (dk_at dksX1_init_4 20 rfl rfl)
theorem dX1_init_114 : decode cX1_init 114 = .ok (.putfield 62, 3) := dk_181 0 62 (dk_at dksX1_init_5 0 rfl rfl)
theorem dX1_init_117 : decode cX1_init 117 = .ok (.aload_n 0, 1) := dk_42 (dk_at dksX1_init_5 3 rfl rfl)
theorem dX1_init_118 : decode cX1_init 118 = .ok (.bipush 7, 2) := dk_16 7 (dk_at dksX1_init_5 4 rfl rfl)
theorem dX1_init_120 : decode cX1_init 120 = .ok (.anewarray 46, 3) := dk_189 0 46 (dk_at dksX1_init_5 6 rfl rfl)
theorem dX1_init_123 : decode cX1_init 123 = .ok (.putfield 66, 3) := dk_181 0 66 (dk_at dksX1_init_5 9 rfl rfl)
theorem dX1_init_126 : decode cX1_init 126 = .ok (.aload_n 0, 1) := dk_42 (dk_at dksX1_init_5 12 rfl rfl)
theorem dX1_init_127 : decode cX1_init 127 = .ok (.bipush 8, 2) := dk_16 8 (dk_at dksX1_init_5 13 rfl rfl)
theorem dX1_init_129 : decode cX1_init 129 = .ok (.newarray .int, 2) := dk_188_10 (dk_at dksX1_init_5 15 rfl rfl)
theorem dX1_init_131 : decode cX1_init 131 = .ok (.putfield 69, 3) := dk_181 0 69 (dk_at dksX1_init_5 17 rfl rfl)
theorem dX1_init_134 : decode cX1_init 134 = .ok (.aload_n 0, 1) := dk_42 (dk_at dksX1_init_5 20 rfl rfl)
theorem dX1_init_135 : decode cX1_init 135 = .ok (.bipush 8, 2) := dk_16 8 (dk_at dksX1_init_5 21 rfl rfl)
theorem dX1_init_137 : decode cX1_init 137 = .ok (.newarray .int, 2) := dk_188_10 (dk_at dksX1_init_6 0 rfl rfl)
theorem dX1_init_139 : decode cX1_init 139 = .ok (.putfield 72, 3) := dk_181 0 72 (dk_at dksX1_init_6 2 rfl rfl)
theorem dX1_init_142 : decode cX1_init 142 = .ok (.aload_n 0, 1) := dk_42 (dk_at dksX1_init_6 5 rfl rfl)
theorem dX1_init_143 : decode cX1_init 143 = .ok (.bipush 8, 2) := dk_16 8 (dk_at dksX1_init_6 6 rfl rfl)
theorem dX1_init_145 : decode cX1_init 145 = .ok (.newarray .int, 2) := dk_188_10 (dk_at dksX1_init_6 8 rfl rfl)
theorem dX1_init_147 : decode cX1_init 147 = .ok (.putfield 1, 3) := dk_181 0 1 (dk_at dksX1_init_6 10 rfl rfl)
theorem dX1_init_150 : decode cX1_init 150 = .ok (.aload_n 0, 1) := dk_42 (dk_at dksX1_init_6 13 rfl rfl)
theorem dX1_init_151 : decode cX1_init 151 = .ok (.bipush 6, 2) := dk_16 6 (dk_at dksX1_init_6 14 rfl rfl)
theorem dX1_init_153 : decode cX1_init 153 = .ok (.newarray .int, 2) := dk_188_10 (dk_at dksX1_init_6 16 rfl rfl)
theorem dX1_init_155 : decode cX1_init 155 = .ok (.putfield 75, 3) := dk_181 0 75 (dk_at dksX1_init_6 18 rfl rfl)
theorem dX1_init_158 : decode cX1_init 158 = .ok (.aload_n 0, 1) := dk_42 (dk_at dksX1_init_6 21 rfl rfl)
theorem dX1_init_159 : decode cX1_init 159 = .ok (.bipush 6, 2) := dk_16 6 (dk_at dksX1_init_6 22 rfl rfl)
theorem dX1_init_161 : decode cX1_init 161 = .ok (.newarray .int, 2) := dk_188_10 (dk_at dksX1_init_7 0 rfl rfl)
theorem dX1_init_163 : decode cX1_init 163 = .ok (.putfield 78, 3) := dk_181 0 78 (dk_at dksX1_init_7 2 rfl rfl)
theorem dX1_init_166 : decode cX1_init 166 = .ok (.aload_n 0, 1) := dk_42 (dk_at dksX1_init_7 5 rfl rfl)
theorem dX1_init_167 : decode cX1_init 167 = .ok (.bipush 6, 2) := dk_16 6 (dk_at dksX1_init_7 6 rfl rfl)
theorem dX1_init_169 : decode cX1_init 169 = .ok (.newarray .int, 2) := dk_188_10 (dk_at dksX1_init_7 8 rfl rfl)
theorem dX1_init_171 : decode cX1_init 171 = .ok (.putfield 81, 3) := dk_181 0 81 (dk_at dksX1_init_7 10 rfl rfl)
theorem dX1_init_174 : decode cX1_init 174 = .ok (.aload_n 0, 1) := dk_42 (dk_at dksX1_init_7 13 rfl rfl)
theorem dX1_init_175 : decode cX1_init 175 = .ok (.bipush 6, 2) := dk_16 6 (dk_at dksX1_init_7 14 rfl rfl)
theorem dX1_init_177 : decode cX1_init 177 = .ok (.newarray .int, 2) := dk_188_10 (dk_at dksX1_init_7 16 rfl rfl)
theorem dX1_init_179 : decode cX1_init 179 = .ok (.putfield 84, 3) := dk_181 0 84 (dk_at dksX1_init_7 18 rfl rfl)
theorem dX1_init_182 : decode cX1_init 182 = .ok (.aload_n 0, 1) := dk_42 (dk_at dksX1_init_7 21 rfl rfl)
theorem dX1_init_183 : decode cX1_init 183 = .ok (.iconst 1, 1) := dk_4 (dk_at dksX1_init_7 22 rfl rfl)
theorem dX1_init_184 : decode cX1_init 184 = .ok (.newarray .byte, 2) := dk_188_8 (dk_at dksX1_init_8 0 rfl rfl)
theorem dX1_init_186 : decode cX1_init 186 = .ok (.dup, 1) := dk_89 (dk_at dksX1_init_8 2 rfl rfl)
theorem dX1_init_187 : decode cX1_init 187 = .ok (.iconst 0, 1) := dk_3 (dk_at dksX1_init_8 3 rfl rfl)
theorem dX1_init_188 : decode cX1_init 188 = .ok (.bipush 102, 2) := dk_16 102 (dk_at dksX1_init_8 4 rfl rfl)
theorem dX1_init_190 : decode cX1_init 190 = .ok (.bastore, 1) := dk_84 (dk_at dksX1_init_8 6 rfl rfl)
theorem dX1_init_191 : decode cX1_init 191 = .ok (.putfield 87, 3) := dk_181 0 87 (dk_at dksX1_init_8 7 rfl rfl)
theorem dX1_init_194 : decode cX1_init 194 = .ok (.aload_n 0, 1) := dk_42 (dk_at dksX1_init_8 10 rfl rfl)
theorem dX1_init_195 : decode cX1_init 195 = .ok (.bipush 80, 2) := dk_16 80 (dk_at dksX1_init_8 11 rfl rfl)
theorem dX1_init_197 : decode cX1_init 197 = .ok (.newarray .byte, 2) := dk_188_8 (dk_at dksX1_init_8 13 rfl rfl)
theorem dX1_init_199 : decode cX1_init 199 = .ok (.putfield 91, 3) := dk_181 0 91 (dk_at dksX1_init_8 15 rfl rfl)
theorem dX1_init_202 : decode cX1_init 202 = .ok (.aload_n 0, 1) := dk_42 (dk_at dksX1_init_8 18 rfl rfl)
theorem dX1_init_203 : decode cX1_init 203 = .ok (.bipush 16, 2) := dk_16 16 (dk_at dksX1_init_8 19 rfl rfl)
theorem dX1_init_205 : decode cX1_init 205 = .ok (.newarray .long, 2) := dk_188_11 (dk_at dksX1_init_8 21 rfl rfl)
theorem dX1_init_207 : decode cX1_init 207 = .ok (.putfield 94, 3) := dk_181 0 94 (dk_at dksX1_init_9 0 rfl rfl)
theorem dX1_init_210 : decode cX1_init 210 = .ok (.aload_n 0, 1) := dk_42 (dk_at dksX1_init_9 3 rfl rfl)
theorem dX1_init_211 : decode cX1_init 211 = .ok (.bipush 8, 2) := dk_16 8 (dk_at dksX1_init_9 4 rfl rfl)
theorem dX1_init_213 : decode cX1_init 213 = .ok (.newarray .int, 2) := dk_188_10 (dk_at dksX1_init_9 6 rfl rfl)
theorem dX1_init_215 : decode cX1_init 215 = .ok (.putfield 98, 3) := dk_181 0 98 (dk_at dksX1_init_9 8 rfl rfl)
theorem dX1_init_218 : decode cX1_init 218 = .ok (.aload_n 0, 1) := dk_42 (dk_at dksX1_init_9 11 rfl rfl)
theorem dX1_init_219 : decode cX1_init 219 = .ok (.bipush 8, 2) := dk_16 8 (dk_at dksX1_init_9 12 rfl rfl)
theorem dX1_init_221 : decode cX1_init 221 = .ok (.newarray .int, 2) := dk_188_10 (dk_at dksX1_init_9 14 rfl rfl)
theorem dX1_init_223 : decode cX1_init 223 = .ok (.putfield 101, 3) := dk_181 0 101 (dk_at dksX1_init_9 16 rfl rfl)
theorem dX1_init_226 : decode cX1_init 226 = .ok (.aload_n 0, 1) := dk_42 (dk_at dksX1_init_9 19 rfl rfl)
theorem dX1_init_227 : decode cX1_init 227 = .ok (.bipush 6, 2) := dk_16 6 (dk_at dksX1_init_9 20 rfl rfl)
theorem dX1_init_229 : decode cX1_init 229 = .ok (.newarray .int, 2) := dk_188_10 (dk_at dksX1_init_9 22 rfl rfl)
theorem dX1_init_231 : decode cX1_init 231 = .ok (.putfield 104, 3) := dk_181 0 104 (dk_at dksX1_init_10 0 rfl rfl)
theorem dX1_init_234 : decode cX1_init 234 = .ok (.aload_n 0, 1) := dk_42 (dk_at dksX1_init_10 3 rfl rfl)
theorem dX1_init_235 : decode cX1_init 235 = .ok (.bipush 6, 2) := dk_16 6 (dk_at dksX1_init_10 4 rfl rfl)
theorem dX1_init_237 : decode cX1_init 237 = .ok (.newarray .int, 2) := dk_188_10 (dk_at dksX1_init_10 6 rfl rfl)
theorem dX1_init_239 : decode cX1_init 239 = .ok (.putfield 107, 3) := dk_181 0 107 (dk_at dksX1_init_10 8 rfl rfl)
theorem dX1_init_242 : decode cX1_init 242 = .ok (.aload_n 0, 1) := dk_42 (dk_at dksX1_init_10 11 rfl rfl)
theorem dX1_init_243 : decode cX1_init 243 = .ok (.bipush 12, 2) := dk_16 12 (dk_at dksX1_init_10 12 rfl rfl)
theorem dX1_init_245 : decode cX1_init 245 = .ok (.newarray .int, 2) := dk_188_10 (dk_at dksX1_init_10 14 rfl rfl)
theorem dX1_init_247 : decode cX1_init 247 = .ok (.putfield 110, 3) := dk_181 0 110 (dk_at dksX1_init_10 16 rfl rfl)
theorem dX1_init_250 : decode cX1_init 250 = .ok (.aload_n 0, 1) := dk_42 (dk_at dksX1_init_10 19 rfl rfl)
theorem dX1_init_251 : decode cX1_init 251 = .ok (.bipush 12, 2) := dk_16 12 (dk_at dksX1_init_10 20 rfl rfl)
theorem dX1_init_253 : decode cX1_init 253 = .ok (.newarray .int, 2) := dk_188_10 (dk_at dksX1_init_10 22 rfl rfl)
theorem dX1_init_255 : decode cX1_init 255 = .ok (.putfield 113, 3) := dk_181 0 113 (dk_at dksX1_init_11 0 rfl rfl)
theorem dX1_init_258 : decode cX1_init 258 = .ok (.aload_n 0, 1) := dk_42 (dk_at dksX1_init_11 3 rfl rfl)
theorem dX1_init_259 : decode cX1_init 259 = .ok (.iconst 3, 1) := dk_6 (dk_at dksX1_init_11 4 rfl rfl)
theorem dX1_init_260 : decode cX1_init 260 = .ok (.anewarray 116, 3) := dk_189 0 116 (dk_at dksX1_init_11 5 rfl rfl)
theorem dX1_init_263 : decode cX1_init 263 = .ok (.putfield 118, 3) := dk_181 0 118 (dk_at dksX1_init_11 8 rfl rfl)
theorem dX1_init_266 : decode cX1_init 266 = .ok (.iconst 0, 1) := dk_3 (dk_at dksX1_init_11 11 rfl rfl)
theorem dX1_init_267 : decode cX1_init 267 = .ok (.istore_n 1, 1) := dk_60 (dk_at dksX1_init_11 12 rfl rfl)
theorem dX1_init_268 : decode cX1_init 268 = .ok (.iload_n 1, 1) := dk_27 (dk_at dksX1_init_11 13 rfl rfl)
theorem dX1_init_269 : decode cX1_init 269 = .ok (.bipush 15, 2) := dk_16 15 (dk_at dksX1_init_11 14 rfl rfl)
theorem dX1_init_271 : decode cX1_init 271 = .ok (.if_icmp .ge 22, 3) := dk_162 0 22 (dk_at dksX1_init_11 16 rfl rfl)
theorem dX1_init_274 : decode cX1_init 274 = .ok (.aload_n 0, 1) := dk_42 (dk_at dksX1_init_11 19 rfl rfl)
theorem dX1_init_275 : decode cX1_init 275 = .ok (.getfield 62, 3) := dk_180 0 62 (dk_at dksX1_init_11 20 rfl rfl)
theorem dX1_init_278 : decode cX1_init 278 = .ok (.iload_n 1, 1) := dk_27 (dk_at dksX1_init_11 23 rfl rfl)
theorem dX1_init_279 : decode cX1_init 279 = .ok (.new 46, 3) := dk_187 0 46 (dk_at dksX1_init_12 0 rfl rfl)
theorem dX1_init_282 : decode cX1_init 282 = .ok (.dup, 1) := dk_89 (dk_at dksX1_init_12 3 rfl rfl)
theorem dX1_init_283 : decode cX1_init 283 = .ok (.invokespecial 48, 3) := dk_183 0 48 (dk_at dksX1_init_12 4 rfl rfl)
theorem dX1_init_286 : decode cX1_init 286 = .ok (.aastore, 1) := dk_83 (dk_at dksX1_init_12 7 rfl rfl)
theorem dX1_init_287 : decode cX1_init 287 = .ok (.iinc 1 1, 3) := dk_132 1 1 (dk_at dksX1_init_12 8 rfl rfl)
theorem dX1_init_290 : decode cX1_init 290 = .ok (.goto (-22), 3) := dk_167 255 234 (dk_at dksX1_init_12 11 rfl rfl)
theorem dX1_init_293 : decode cX1_init 293 = .ok (.iconst 0, 1) := dk_3 (dk_at dksX1_init_12 14 rfl rfl)
theorem dX1_init_294 : decode cX1_init 294 = .ok (.istore_n 1, 1) := dk_60 (dk_at dksX1_init_12 15 rfl rfl)
theorem dX1_init_295 : decode cX1_init 295 = .ok (.iload_n 1, 1) := dk_27 (dk_at dksX1_init_12 16 rfl rfl)
theorem dX1_init_296 : decode cX1_init 296 = .ok (.bipush 6, 2) := dk_16 6 (dk_at dksX1_init_12 17 rfl rfl)
theorem dX1_init_298 : decode cX1_init 298 = .ok (.if_icmp .gt 22, 3) := dk_163 0 22 (dk_at dksX1_init_12 19 rfl rfl)
theorem dX1_init_301 : decode cX1_init 301 = .ok (.aload_n 0, 1) := dk_42 (dk_at dksX1_init_12 22 rfl rfl)
theorem dX1_init_302 : decode cX1_init 302 = .ok (.getfield 66, 3) := dk_180 0 66 (dk_at dksX1_init_13 0 rfl rfl)
theorem dX1_init_305 : decode cX1_init 305 = .ok (.iload_n 1, 1) := dk_27 (dk_at dksX1_init_13 3 rfl rfl)
theorem dX1_init_306 : decode cX1_init 306 = .ok (.new 46, 3) := dk_187 0 46 (dk_at dksX1_init_13 4 rfl rfl)
theorem dX1_init_309 : decode cX1_init 309 = .ok (.dup, 1) := dk_89 (dk_at dksX1_init_13 7 rfl rfl)
theorem dX1_init_310 : decode cX1_init 310 = .ok (.invokespecial 48, 3) := dk_183 0 48 (dk_at dksX1_init_13 8 rfl rfl)
theorem dX1_init_313 : decode cX1_init 313 = .ok (.aastore, 1) := dk_83 (dk_at dksX1_init_13 11 rfl rfl)
theorem dX1_init_314 : decode cX1_init 314 = .ok (.iinc 1 1, 3) := dk_132 1 1 (dk_at dksX1_init_13 12 rfl rfl)
theorem dX1_init_317 : decode cX1_init 317 = .ok (.goto (-22), 3) := dk_167 255 234 (dk_at dksX1_init_13 15 rfl rfl)
theorem dX1_init_320 : decode cX1_init 320 = .ok (.return_, 1) := dk_177 (dk_at dksX1_init_13 18 rfl rfl)
abbrev cX1_sign : ByteArray := prog_1_method_8_code
def yX1_sign : MethodName := ⟨RX1, "sign", "(I)I"⟩
def dkwX1_sign_2 : List UInt8 := [167, 255, 226, 42, 180, 0, 135, 172]
abbrev dktX1_sign_2 : List UInt8 := dkwX1_sign_2 ++ []
def dkwX1_sign_1 : List UInt8 := [42, 180, 0, 135, 27, 28, 122, 145, 84, 42, 89, 180, 0, 135, 4, 96, 181, 0, 135, 132, 2, 248]
abbrev dktX1_sign_1 : List UInt8 := dkwX1_sign_1 ++ dktX1_sign_2
def dkwX1_sign_0 : List UInt8 := [42, 180, 0, 135, 7, 96, 16, 80, 164, 0, 5, 2, 172, 16, 24, 61, 28, 155, 0, 32, 42, 180, 0, 91]
abbrev dktX1_sign_0 : List UInt8 := dkwX1_sign_0 ++ dktX1_sign_1
theorem dksX1_sign_0 : cX1_sign.data.toList.drop 0 = dktX1_sign_0 := by decide +kernel
theorem dksX1_sign_1 : cX1_sign.data.toList.drop 24 = dktX1_sign_1 := dk_seg dksX1_sign_0 24 rfl rfl
theorem dksX1_sign_2 : cX1_sign.data.toList.drop 46 = dktX1_sign_2 := dk_seg dksX1_sign_1 22 rfl rfl
theorem dX1_sign_0 : decode cX1_sign 0 = .ok (.aload_n 0, 1) := dk_42 (dk_at dksX1_sign_0 0 rfl rfl)
theorem dX1_sign_1 : decode cX1_sign 1 = .ok (.getfield 135, 3) := dk_180 0 135 (dk_at dksX1_sign_0 1 rfl rfl)
theorem dX1_sign_4 : decode cX1_sign 4 = .ok (.iconst 4, 1) := dk_7 (dk_at dksX1_sign_0 4 rfl rfl)
theorem dX1_sign_5 : decode cX1_sign 5 = .ok (.iadd, 1) := dk_96 (dk_at dksX1_sign_0 5 rfl rfl)
theorem dX1_sign_6 : decode cX1_sign 6 = .ok (.bipush 80, 2) := dk_16 80 (dk_at dksX1_sign_0 6 rfl rfl)
theorem dX1_sign_8 : decode cX1_sign 8 = .ok (.if_icmp .le 5, 3) := dk_164 0 5 (dk_at dksX1_sign_0 8 rfl rfl)
theorem dX1_sign_11 : decode cX1_sign 11 = .ok (.iconst (-1), 1) := dk_2 (dk_at dksX1_sign_0 11 rfl rfl)
theorem dX1_sign_12 : decode cX1_sign 12 = .ok (.ireturn, 1) := dk_172 (dk_at dksX1_sign_0 12 rfl rfl)
theorem dX1_sign_13 : decode cX1_sign 13 = .ok (.bipush 24, 2) := dk_16 24 (dk_at dksX1_sign_0 13 rfl rfl)
theorem dX1_sign_15 : decode cX1_sign 15 = .ok (.istore_n 2, 1) := dk_61 (dk_at dksX1_sign_0 15 rfl rfl)
theorem dX1_sign_16 : decode cX1_sign 16 = .ok (.iload_n 2, 1) := dk_28 (dk_at dksX1_sign_0 16 rfl rfl)
theorem dX1_sign_17 : decode cX1_sign 17 = .ok (.ifCond .lt 32, 3) := dk_155 0 32 (dk_at dksX1_sign_0 17 rfl rfl)
theorem dX1_sign_20 : decode cX1_sign 20 = .ok (.aload_n 0, 1) := dk_42 (dk_at dksX1_sign_0 20 rfl rfl)
theorem dX1_sign_21 : decode cX1_sign 21 = .ok (.getfield 91, 3) := dk_180 0 91 (dk_at dksX1_sign_0 21 rfl rfl)
theorem dX1_sign_24 : decode cX1_sign 24 = .ok (.aload_n 0, 1) := dk_42 (dk_at dksX1_sign_1 0 rfl rfl)
theorem dX1_sign_25 : decode cX1_sign 25 = .ok (.getfield 135, 3) := dk_180 0 135 (dk_at dksX1_sign_1 1 rfl rfl)
theorem dX1_sign_28 : decode cX1_sign 28 = .ok (.iload_n 1, 1) := dk_27 (dk_at dksX1_sign_1 4 rfl rfl)
theorem dX1_sign_29 : decode cX1_sign 29 = .ok (.iload_n 2, 1) := dk_28 (dk_at dksX1_sign_1 5 rfl rfl)
theorem dX1_sign_30 : decode cX1_sign 30 = .ok (.ishr, 1) := dk_122 (dk_at dksX1_sign_1 6 rfl rfl)
theorem dX1_sign_31 : decode cX1_sign 31 = .ok (.i2b, 1) := dk_145 (dk_at dksX1_sign_1 7 rfl rfl)
theorem dX1_sign_32 : decode cX1_sign 32 = .ok (.bastore, 1) := dk_84 (dk_at dksX1_sign_1 8 rfl rfl)
theorem dX1_sign_33 : decode cX1_sign 33 = .ok (.aload_n 0, 1) := dk_42 (dk_at dksX1_sign_1 9 rfl rfl)
theorem dX1_sign_34 : decode cX1_sign 34 = .ok (.dup, 1) := dk_89 (dk_at dksX1_sign_1 10 rfl rfl)
theorem dX1_sign_35 : decode cX1_sign 35 = .ok (.getfield 135, 3) := dk_180 0 135 (dk_at dksX1_sign_1 11 rfl rfl)
theorem dX1_sign_38 : decode cX1_sign 38 = .ok (.iconst 1, 1) := dk_4 (dk_at dksX1_sign_1 14 rfl rfl)
theorem dX1_sign_39 : decode cX1_sign 39 = .ok (.iadd, 1) := dk_96 (dk_at dksX1_sign_1 15 rfl rfl)
theorem dX1_sign_40 : decode cX1_sign 40 = .ok (.putfield 135, 3) := dk_181 0 135 (dk_at dksX1_sign_1 16 rfl rfl)
theorem dX1_sign_43 : decode cX1_sign 43 = .ok (.iinc 2 (-8), 3) := dk_132 2 248 (dk_at dksX1_sign_1 19 rfl rfl)
theorem dX1_sign_46 : decode cX1_sign 46 = .ok (.goto (-30), 3) := dk_167 255 226 (dk_at dksX1_sign_2 0 rfl rfl)
theorem dX1_sign_49 : decode cX1_sign 49 = .ok (.aload_n 0, 1) := dk_42 (dk_at dksX1_sign_2 3 rfl rfl)
theorem dX1_sign_50 : decode cX1_sign 50 = .ok (.getfield 135, 3) := dk_180 0 135 (dk_at dksX1_sign_2 4 rfl rfl)
theorem dX1_sign_53 : decode cX1_sign 53 = .ok (.ireturn, 1) := dk_172 (dk_at dksX1_sign_2 7 rfl rfl)
abbrev cX1_end : ByteArray := prog_1_method_9_code
def yX1_end : MethodName := ⟨RX1, "end", "(I)Z"⟩
def dkwX1_end_0 : List UInt8 := [27, 133, 9, 42, 180, 0, 135, 133, 184, 0, 129, 154, 0, 5, 3, 172, 42, 27, 181, 0, 135, 4, 172]
abbrev dktX1_end_0 : List UInt8 := dkwX1_end_0 ++ []
theorem dksX1_end_0 : cX1_end.data.toList.drop 0 = dktX1_end_0 := by decide +kernel
theorem dX1_end_0 : decode cX1_end 0 = .ok (.iload_n 1, 1) := dk_27 (dk_at dksX1_end_0 0 rfl rfl)
theorem dX1_end_1 : decode cX1_end 1 = .ok (.i2l, 1) := dk_133 (dk_at dksX1_end_0 1 rfl rfl)
theorem dX1_end_2 : decode cX1_end 2 = .ok (.lconst 0, 1) := dk_9 (dk_at dksX1_end_0 2 rfl rfl)
theorem dX1_end_3 : decode cX1_end 3 = .ok (.aload_n 0, 1) := dk_42 (dk_at dksX1_end_0 3 rfl rfl)
theorem dX1_end_4 : decode cX1_end 4 = .ok (.getfield 135, 3) := dk_180 0 135 (dk_at dksX1_end_0 4 rfl rfl)
theorem dX1_end_7 : decode cX1_end 7 = .ok (.i2l, 1) := dk_133 (dk_at dksX1_end_0 7 rfl rfl)
theorem dX1_end_8 : decode cX1_end 8 = .ok (.invokestatic 129, 3) := dk_184 0 129 (dk_at dksX1_end_0 8 rfl rfl)
theorem dX1_end_11 : decode cX1_end 11 = .ok (.ifCond .ne 5, 3) := dk_154 0 5 (dk_at dksX1_end_0 11 rfl rfl)
theorem dX1_end_14 : decode cX1_end 14 = .ok (.iconst 0, 1) := dk_3 (dk_at dksX1_end_0 14 rfl rfl)
theorem dX1_end_15 : decode cX1_end 15 = .ok (.ireturn, 1) := dk_172 (dk_at dksX1_end_0 15 rfl rfl)
theorem dX1_end_16 : decode cX1_end 16 = .ok (.aload_n 0, 1) := dk_42 (dk_at dksX1_end_0 16 rfl rfl)
theorem dX1_end_17 : decode cX1_end 17 = .ok (.iload_n 1, 1) := dk_27 (dk_at dksX1_end_0 17 rfl rfl)
theorem dX1_end_18 : decode cX1_end 18 = .ok (.putfield 135, 3) := dk_181 0 135 (dk_at dksX1_end_0 18 rfl rfl)
theorem dX1_end_21 : decode cX1_end 21 = .ok (.iconst 1, 1) := dk_4 (dk_at dksX1_end_0 21 rfl rfl)
theorem dX1_end_22 : decode cX1_end 22 = .ok (.ireturn, 1) := dk_172 (dk_at dksX1_end_0 22 rfl rfl)
abbrev cX1_in : ByteArray := prog_1_method_1_code
def yX1_in : MethodName := ⟨RX1, "in", "(JJJ)Z"⟩
def dkwX1_in_0 : List UInt8 := [30, 32, 148, 155, 0, 14, 30, 22, 4, 148, 157, 0, 7, 4, 167, 0, 4, 3, 172]
abbrev dktX1_in_0 : List UInt8 := dkwX1_in_0 ++ []
theorem dksX1_in_0 : cX1_in.data.toList.drop 0 = dktX1_in_0 := by decide +kernel
theorem dX1_in_0 : decode cX1_in 0 = .ok (.lload_n 0, 1) := dk_30 (dk_at dksX1_in_0 0 rfl rfl)
theorem dX1_in_1 : decode cX1_in 1 = .ok (.lload_n 2, 1) := dk_32 (dk_at dksX1_in_0 1 rfl rfl)
theorem dX1_in_2 : decode cX1_in 2 = .ok (.lcmp, 1) := dk_148 (dk_at dksX1_in_0 2 rfl rfl)
theorem dX1_in_3 : decode cX1_in 3 = .ok (.ifCond .lt 14, 3) := dk_155 0 14 (dk_at dksX1_in_0 3 rfl rfl)
theorem dX1_in_6 : decode cX1_in 6 = .ok (.lload_n 0, 1) := dk_30 (dk_at dksX1_in_0 6 rfl rfl)
theorem dX1_in_7 : decode cX1_in 7 = .ok (.lload 4, 2) := dk_22 4 (dk_at dksX1_in_0 7 rfl rfl)
theorem dX1_in_9 : decode cX1_in 9 = .ok (.lcmp, 1) := dk_148 (dk_at dksX1_in_0 9 rfl rfl)
theorem dX1_in_10 : decode cX1_in 10 = .ok (.ifCond .gt 7, 3) := dk_157 0 7 (dk_at dksX1_in_0 10 rfl rfl)
theorem dX1_in_13 : decode cX1_in 13 = .ok (.iconst 1, 1) := dk_4 (dk_at dksX1_in_0 13 rfl rfl)
theorem dX1_in_14 : decode cX1_in 14 = .ok (.goto 4, 3) := dk_167 0 4 (dk_at dksX1_in_0 14 rfl rfl)
theorem dX1_in_17 : decode cX1_in 17 = .ok (.iconst 0, 1) := dk_3 (dk_at dksX1_in_0 17 rfl rfl)
theorem dX1_in_18 : decode cX1_in 18 = .ok (.ireturn, 1) := dk_172 (dk_at dksX1_in_0 18 rfl rfl)
abbrev cX1_men : ByteArray := prog_1_method_10_code
def yX1_men : MethodName := ⟨RX1, "men", "()I"⟩
def dkwX1_men_9 : List UInt8 := [181, 0, 175, 42, 89, 180, 0, 178, 4, 96, 181, 0, 178, 29, 172]
abbrev dktX1_men_9 : List UInt8 := dkwX1_men_9 ++ []
def dkwX1_men_8 : List UInt8 := [180, 0, 126, 3, 79, 132, 4, 1, 42, 89, 180, 0, 126, 4, 96, 181, 0, 126, 167, 255, 166, 42, 3]
abbrev dktX1_men_8 : List UInt8 := dkwX1_men_8 ++ dktX1_men_9
def dkwX1_men_7 : List UInt8 := [79, 42, 180, 0, 49, 180, 0, 169, 42, 180, 0, 126, 3, 79, 42, 180, 0, 49, 180, 0, 172, 42]
abbrev dktX1_men_7 : List UInt8 := dkwX1_men_7 ++ dktX1_men_8
def dkwX1_men_6 : List UInt8 := [180, 0, 126, 44, 21, 4, 50, 4, 46, 79, 42, 180, 0, 1, 42, 180, 0, 126, 44, 21, 4, 50, 5, 46]
abbrev dktX1_men_6 : List UInt8 := dkwX1_men_6 ++ dktX1_men_7
def dkwX1_men_5 : List UInt8 := [162, 0, 90, 42, 180, 0, 69, 42, 180, 0, 126, 44, 21, 4, 50, 3, 46, 79, 42, 180, 0, 72, 42]
abbrev dktX1_men_5 : List UInt8 := dkwX1_men_5 ++ dktX1_men_6
def dkwX1_men_4 : List UInt8 := [43, 182, 0, 161, 167, 0, 13, 58, 4, 2, 25, 4, 180, 0, 166, 100, 172, 3, 54, 4, 21, 4, 29]
abbrev dktX1_men_4 : List UInt8 := dkwX1_men_4 ++ dktX1_men_5
def dkwX1_men_3 : List UInt8 := [44, 29, 50, 5, 43, 16, 48, 8, 182, 0, 153, 79, 132, 3, 1, 43, 16, 59, 182, 0, 157, 154, 255, 189]
abbrev dktX1_men_3 : List UInt8 := dkwX1_men_3 ++ dktX1_men_4
def dkwX1_men_2 : List UInt8 := [50, 3, 43, 16, 48, 16, 10, 182, 0, 153, 79, 44, 29, 50, 4, 43, 16, 48, 16, 10, 182, 0, 153, 79]
abbrev dktX1_men_2 : List UInt8 := dkwX1_men_2 ++ dktX1_men_3
def dkwX1_men_1 : List UInt8 := [3, 62, 43, 42, 180, 0, 126, 29, 96, 16, 8, 162, 0, 7, 4, 167, 0, 4, 3, 182, 0, 150, 44, 29]
abbrev dktX1_men_1 : List UInt8 := dkwX1_men_1 ++ dktX1_men_2
def dkwX1_men_0 : List UInt8 := [42, 16, 31, 182, 0, 141, 76, 43, 180, 0, 145, 154, 0, 5, 3, 172, 16, 8, 6, 197, 0, 148, 2, 77]
abbrev dktX1_men_0 : List UInt8 := dkwX1_men_0 ++ dktX1_men_1
theorem dksX1_men_0 : cX1_men.data.toList.drop 0 = dktX1_men_0 := by decide +kernel
theorem dksX1_men_1 : cX1_men.data.toList.drop 24 = dktX1_men_1 := dk_seg dksX1_men_0 24 rfl rfl
theorem dksX1_men_2 : cX1_men.data.toList.drop 48 = dktX1_men_2 := dk_seg dksX1_men_1 24 rfl rfl
theorem dksX1_men_3 : cX1_men.data.toList.drop 72 = dktX1_men_3 := dk_seg dksX1_men_2 24 rfl rfl
theorem dksX1_men_4 : cX1_men.data.toList.drop 96 = dktX1_men_4 := dk_seg dksX1_men_3 24 rfl rfl
theorem dksX1_men_5 : cX1_men.data.toList.drop 119 = dktX1_men_5 := dk_seg dksX1_men_4 23 rfl rfl
theorem dksX1_men_6 : cX1_men.data.toList.drop 142 = dktX1_men_6 := dk_seg dksX1_men_5 23 rfl rfl
theorem dksX1_men_7 : cX1_men.data.toList.drop 166 = dktX1_men_7 := dk_seg dksX1_men_6 24 rfl rfl
theorem dksX1_men_8 : cX1_men.data.toList.drop 188 = dktX1_men_8 := dk_seg dksX1_men_7 22 rfl rfl
theorem dksX1_men_9 : cX1_men.data.toList.drop 211 = dktX1_men_9 := dk_seg dksX1_men_8 23 rfl rfl
theorem dX1_men_0 : decode cX1_men 0 = .ok (.aload_n 0, 1) := dk_42 (dk_at dksX1_men_0 0 rfl rfl)
theorem dX1_men_1 : decode cX1_men 1 = .ok (.bipush 31, 2) := dk_16 31 (dk_at dksX1_men_0 1 rfl rfl)
theorem dX1_men_3 : decode cX1_men 3 = .ok (.invokevirtual 141, 3) := dk_182 0 141 (dk_at dksX1_men_0 3 rfl rfl)
theorem dX1_men_6 : decode cX1_men 6 = .ok (.astore_n 1, 1) := dk_76 (dk_at dksX1_men_0 6 rfl rfl)
theorem dX1_men_7 : decode cX1_men 7 = .ok (.aload_n 1, 1) := dk_43 (dk_at dksX1_men_0 7 rfl rfl)
theorem dX1_men_8 : decode cX1_men 8 = .ok (.getfield 145, 3) := dk_180 0 145 (dk_at dksX1_men_0 8 rfl rfl)
theorem dX1_men_11 : decode cX1_men 11 = .ok (.ifCond .ne 5, 3) := dk_154 0 5 (dk_at dksX1_men_0 11 rfl rfl)
theorem dX1_men_14 : decode cX1_men 14 = .ok (.iconst 0, 1) := dk_3 (dk_at dksX1_men_0 14 rfl rfl)
theorem dX1_men_15 : decode cX1_men 15 = .ok (.ireturn, 1) := dk_172 (dk_at dksX1_men_0 15 rfl rfl)
theorem dX1_men_16 : decode cX1_men 16 = .ok (.bipush 8, 2) := dk_16 8 (dk_at dksX1_men_0 16 rfl rfl)
theorem dX1_men_18 : decode cX1_men 18 = .ok (.iconst 3, 1) := dk_6 (dk_at dksX1_men_0 18 rfl rfl)
theorem dX1_men_19 : decode cX1_men 19 = .ok (.multianewarray 148 2, 4) := by decide +kernel
theorem dX1_men_23 : decode cX1_men 23 = .ok (.astore_n 2, 1) := dk_77 (dk_at dksX1_men_0 23 rfl rfl)
theorem dX1_men_24 : decode cX1_men 24 = .ok (.iconst 0, 1) := dk_3 (dk_at dksX1_men_1 0 rfl rfl)
theorem dX1_men_25 : decode cX1_men 25 = .ok (.istore_n 3, 1) := dk_62 (dk_at dksX1_men_1 1 rfl rfl)
theorem dX1_men_26 : decode cX1_men 26 = .ok (.aload_n 1, 1) := dk_43 (dk_at dksX1_men_1 2 rfl rfl)
theorem dX1_men_27 : decode cX1_men 27 = .ok (.aload_n 0, 1) := dk_42 (dk_at dksX1_men_1 3 rfl rfl)
theorem dX1_men_28 : decode cX1_men 28 = .ok (.getfield 126, 3) := dk_180 0 126 (dk_at dksX1_men_1 4 rfl rfl)
theorem dX1_men_31 : decode cX1_men 31 = .ok (.iload_n 3, 1) := dk_29 (dk_at dksX1_men_1 7 rfl rfl)
theorem dX1_men_32 : decode cX1_men 32 = .ok (.iadd, 1) := dk_96 (dk_at dksX1_men_1 8 rfl rfl)
theorem dX1_men_33 : decode cX1_men 33 = .ok (.bipush 8, 2) := dk_16 8 (dk_at dksX1_men_1 9 rfl rfl)
theorem dX1_men_35 : decode cX1_men 35 = .ok (.if_icmp .ge 7, 3) := dk_162 0 7 (dk_at dksX1_men_1 11 rfl rfl)
theorem dX1_men_38 : decode cX1_men 38 = .ok (.iconst 1, 1) := dk_4 (dk_at dksX1_men_1 14 rfl rfl)
theorem dX1_men_39 : decode cX1_men 39 = .ok (.goto 4, 3) := dk_167 0 4 (dk_at dksX1_men_1 15 rfl rfl)
theorem dX1_men_42 : decode cX1_men 42 = .ok (.iconst 0, 1) := dk_3 (dk_at dksX1_men_1 18 rfl rfl)
theorem dX1_men_43 : decode cX1_men 43 = .ok (.invokevirtual 150, 3) := dk_182 0 150 (dk_at dksX1_men_1 19 rfl rfl)
theorem dX1_men_46 : decode cX1_men 46 = .ok (.aload_n 2, 1) := dk_44 (dk_at dksX1_men_1 22 rfl rfl)
theorem dX1_men_47 : decode cX1_men 47 = .ok (.iload_n 3, 1) := dk_29 (dk_at dksX1_men_1 23 rfl rfl)
theorem dX1_men_48 : decode cX1_men 48 = .ok (.aaload, 1) := dk_50 (dk_at dksX1_men_2 0 rfl rfl)
theorem dX1_men_49 : decode cX1_men 49 = .ok (.iconst 0, 1) := dk_3 (dk_at dksX1_men_2 1 rfl rfl)
theorem dX1_men_50 : decode cX1_men 50 = .ok (.aload_n 1, 1) := dk_43 (dk_at dksX1_men_2 2 rfl rfl)
theorem dX1_men_51 : decode cX1_men 51 = .ok (.bipush 48, 2) := dk_16 48 (dk_at dksX1_men_2 3 rfl rfl)
theorem dX1_men_53 : decode cX1_men 53 = .ok (.bipush 10, 2) := dk_16 10 (dk_at dksX1_men_2 5 rfl rfl)
theorem dX1_men_55 : decode cX1_men 55 = .ok (.invokevirtual 153, 3) := dk_182 0 153 (dk_at dksX1_men_2 7 rfl rfl)
theorem dX1_men_58 : decode cX1_men 58 = .ok (.iastore, 1) := dk_79 (dk_at dksX1_men_2 10 rfl rfl)
theorem dX1_men_59 : decode cX1_men 59 = .ok (.aload_n 2, 1) := dk_44 (dk_at dksX1_men_2 11 rfl rfl)
theorem dX1_men_60 : decode cX1_men 60 = .ok (.iload_n 3, 1) := dk_29 (dk_at dksX1_men_2 12 rfl rfl)
theorem dX1_men_61 : decode cX1_men 61 = .ok (.aaload, 1) := dk_50 (dk_at dksX1_men_2 13 rfl rfl)
theorem dX1_men_62 : decode cX1_men 62 = .ok (.iconst 1, 1) := dk_4 (dk_at dksX1_men_2 14 rfl rfl)
theorem dX1_men_63 : decode cX1_men 63 = .ok (.aload_n 1, 1) := dk_43 (dk_at dksX1_men_2 15 rfl rfl)
theorem dX1_men_64 : decode cX1_men 64 = .ok (.bipush 48, 2) := dk_16 48 (dk_at dksX1_men_2 16 rfl rfl)
theorem dX1_men_66 : decode cX1_men 66 = .ok (.bipush 10, 2) := dk_16 10 (dk_at dksX1_men_2 18 rfl rfl)
theorem dX1_men_68 : decode cX1_men 68 = .ok (.invokevirtual 153, 3) := dk_182 0 153 (dk_at dksX1_men_2 20 rfl rfl)
theorem dX1_men_71 : decode cX1_men 71 = .ok (.iastore, 1) := dk_79 (dk_at dksX1_men_2 23 rfl rfl)
theorem dX1_men_72 : decode cX1_men 72 = .ok (.aload_n 2, 1) := dk_44 (dk_at dksX1_men_3 0 rfl rfl)
theorem dX1_men_73 : decode cX1_men 73 = .ok (.iload_n 3, 1) := dk_29 (dk_at dksX1_men_3 1 rfl rfl)
theorem dX1_men_74 : decode cX1_men 74 = .ok (.aaload, 1) := dk_50 (dk_at dksX1_men_3 2 rfl rfl)
theorem dX1_men_75 : decode cX1_men 75 = .ok (.iconst 2, 1) := dk_5 (dk_at dksX1_men_3 3 rfl rfl)
theorem dX1_men_76 : decode cX1_men 76 = .ok (.aload_n 1, 1) := dk_43 (dk_at dksX1_men_3 4 rfl rfl)
theorem dX1_men_77 : decode cX1_men 77 = .ok (.bipush 48, 2) := dk_16 48 (dk_at dksX1_men_3 5 rfl rfl)
theorem dX1_men_79 : decode cX1_men 79 = .ok (.iconst 5, 1) := dk_8 (dk_at dksX1_men_3 7 rfl rfl)
theorem dX1_men_80 : decode cX1_men 80 = .ok (.invokevirtual 153, 3) := dk_182 0 153 (dk_at dksX1_men_3 8 rfl rfl)
theorem dX1_men_83 : decode cX1_men 83 = .ok (.iastore, 1) := dk_79 (dk_at dksX1_men_3 11 rfl rfl)
theorem dX1_men_84 : decode cX1_men 84 = .ok (.iinc 3 1, 3) := dk_132 3 1 (dk_at dksX1_men_3 12 rfl rfl)
theorem dX1_men_87 : decode cX1_men 87 = .ok (.aload_n 1, 1) := dk_43 (dk_at dksX1_men_3 15 rfl rfl)
theorem dX1_men_88 : decode cX1_men 88 = .ok (.bipush 59, 2) := dk_16 59 (dk_at dksX1_men_3 16 rfl rfl)
theorem dX1_men_90 : decode cX1_men 90 = .ok (.invokevirtual 157, 3) := dk_182 0 157 (dk_at dksX1_men_3 18 rfl rfl)
theorem dX1_men_93 : decode cX1_men 93 = .ok (.ifCond .ne (-67), 3) := dk_154 255 189 (dk_at dksX1_men_3 21 rfl rfl)
theorem dX1_men_96 : decode cX1_men 96 = .ok (.aload_n 1, 1) := dk_43 (dk_at dksX1_men_4 0 rfl rfl)
theorem dX1_men_97 : decode cX1_men 97 = .ok (.invokevirtual 161, 3) := dk_182 0 161 (dk_at dksX1_men_4 1 rfl rfl)
theorem dX1_men_100 : decode cX1_men 100 = .ok (.goto 13, 3) := dk_167 0 13 (dk_at dksX1_men_4 4 rfl rfl)
theorem dX1_men_103 : decode cX1_men 103 = .ok (.astore 4, 2) := dk_58 4 (dk_at dksX1_men_4 7 rfl rfl)
theorem dX1_men_105 : decode cX1_men 105 = .ok (.iconst (-1), 1) := dk_2 (dk_at dksX1_men_4 9 rfl rfl)
theorem dX1_men_106 : decode cX1_men 106 = .ok (.aload 4, 2) := dk_25 4 (dk_at dksX1_men_4 10 rfl rfl)
theorem dX1_men_108 : decode cX1_men 108 = .ok (.getfield 166, 3) := dk_180 0 166 (dk_at dksX1_men_4 12 rfl rfl)
theorem dX1_men_111 : decode cX1_men 111 = .ok (.isub, 1) := dk_100 (dk_at dksX1_men_4 15 rfl rfl)
theorem dX1_men_112 : decode cX1_men 112 = .ok (.ireturn, 1) := dk_172 (dk_at dksX1_men_4 16 rfl rfl)
theorem dX1_men_113 : decode cX1_men 113 = .ok (.iconst 0, 1) := dk_3 (dk_at dksX1_men_4 17 rfl rfl)
theorem dX1_men_114 : decode cX1_men 114 = .ok (.istore 4, 2) := dk_54 4 (dk_at dksX1_men_4 18 rfl rfl)
theorem dX1_men_116 : decode cX1_men 116 = .ok (.iload 4, 2) := dk_21 4 (dk_at dksX1_men_4 20 rfl rfl)
theorem dX1_men_118 : decode cX1_men 118 = .ok (.iload_n 3, 1) := dk_29 (dk_at dksX1_men_4 22 rfl rfl)
theorem dX1_men_119 : decode cX1_men 119 = .ok (.if_icmp .ge 90, 3) := dk_162 0 90 (dk_at dksX1_men_5 0 rfl rfl)
theorem dX1_men_122 : decode cX1_men 122 = .ok (.aload_n 0, 1) := dk_42 (dk_at dksX1_men_5 3 rfl rfl)
theorem dX1_men_123 : decode cX1_men 123 = .ok (.getfield 69, 3) := dk_180 0 69 (dk_at dksX1_men_5 4 rfl rfl)
theorem dX1_men_126 : decode cX1_men 126 = .ok (.aload_n 0, 1) := dk_42 (dk_at dksX1_men_5 7 rfl rfl)
theorem dX1_men_127 : decode cX1_men 127 = .ok (.getfield 126, 3) := dk_180 0 126 (dk_at dksX1_men_5 8 rfl rfl)
theorem dX1_men_130 : decode cX1_men 130 = .ok (.aload_n 2, 1) := dk_44 (dk_at dksX1_men_5 11 rfl rfl)
theorem dX1_men_131 : decode cX1_men 131 = .ok (.iload 4, 2) := dk_21 4 (dk_at dksX1_men_5 12 rfl rfl)
theorem dX1_men_133 : decode cX1_men 133 = .ok (.aaload, 1) := dk_50 (dk_at dksX1_men_5 14 rfl rfl)
theorem dX1_men_134 : decode cX1_men 134 = .ok (.iconst 0, 1) := dk_3 (dk_at dksX1_men_5 15 rfl rfl)
theorem dX1_men_135 : decode cX1_men 135 = .ok (.iaload, 1) := dk_46 (dk_at dksX1_men_5 16 rfl rfl)
theorem dX1_men_136 : decode cX1_men 136 = .ok (.iastore, 1) := dk_79 (dk_at dksX1_men_5 17 rfl rfl)
theorem dX1_men_137 : decode cX1_men 137 = .ok (.aload_n 0, 1) := dk_42 (dk_at dksX1_men_5 18 rfl rfl)
theorem dX1_men_138 : decode cX1_men 138 = .ok (.getfield 72, 3) := dk_180 0 72 (dk_at dksX1_men_5 19 rfl rfl)
theorem dX1_men_141 : decode cX1_men 141 = .ok (.aload_n 0, 1) := dk_42 (dk_at dksX1_men_5 22 rfl rfl)
theorem dX1_men_142 : decode cX1_men 142 = .ok (.getfield 126, 3) := dk_180 0 126 (dk_at dksX1_men_6 0 rfl rfl)
theorem dX1_men_145 : decode cX1_men 145 = .ok (.aload_n 2, 1) := dk_44 (dk_at dksX1_men_6 3 rfl rfl)
theorem dX1_men_146 : decode cX1_men 146 = .ok (.iload 4, 2) := dk_21 4 (dk_at dksX1_men_6 4 rfl rfl)
theorem dX1_men_148 : decode cX1_men 148 = .ok (.aaload, 1) := dk_50 (dk_at dksX1_men_6 6 rfl rfl)
theorem dX1_men_149 : decode cX1_men 149 = .ok (.iconst 1, 1) := dk_4 (dk_at dksX1_men_6 7 rfl rfl)
theorem dX1_men_150 : decode cX1_men 150 = .ok (.iaload, 1) := dk_46 (dk_at dksX1_men_6 8 rfl rfl)
theorem dX1_men_151 : decode cX1_men 151 = .ok (.iastore, 1) := dk_79 (dk_at dksX1_men_6 9 rfl rfl)
theorem dX1_men_152 : decode cX1_men 152 = .ok (.aload_n 0, 1) := dk_42 (dk_at dksX1_men_6 10 rfl rfl)
theorem dX1_men_153 : decode cX1_men 153 = .ok (.getfield 1, 3) := dk_180 0 1 (dk_at dksX1_men_6 11 rfl rfl)
theorem dX1_men_156 : decode cX1_men 156 = .ok (.aload_n 0, 1) := dk_42 (dk_at dksX1_men_6 14 rfl rfl)
theorem dX1_men_157 : decode cX1_men 157 = .ok (.getfield 126, 3) := dk_180 0 126 (dk_at dksX1_men_6 15 rfl rfl)
theorem dX1_men_160 : decode cX1_men 160 = .ok (.aload_n 2, 1) := dk_44 (dk_at dksX1_men_6 18 rfl rfl)
theorem dX1_men_161 : decode cX1_men 161 = .ok (.iload 4, 2) := dk_21 4 (dk_at dksX1_men_6 19 rfl rfl)
theorem dX1_men_163 : decode cX1_men 163 = .ok (.aaload, 1) := dk_50 (dk_at dksX1_men_6 21 rfl rfl)
theorem dX1_men_164 : decode cX1_men 164 = .ok (.iconst 2, 1) := dk_5 (dk_at dksX1_men_6 22 rfl rfl)
theorem dX1_men_165 : decode cX1_men 165 = .ok (.iaload, 1) := dk_46 (dk_at dksX1_men_6 23 rfl rfl)
theorem dX1_men_166 : decode cX1_men 166 = .ok (.iastore, 1) := dk_79 (dk_at dksX1_men_7 0 rfl rfl)
theorem dX1_men_167 : decode cX1_men 167 = .ok (.aload_n 0, 1) := dk_42 (dk_at dksX1_men_7 1 rfl rfl)
theorem dX1_men_168 : decode cX1_men 168 = .ok (.getfield 49, 3) := dk_180 0 49 (dk_at dksX1_men_7 2 rfl rfl)
theorem dX1_men_171 : decode cX1_men 171 = .ok (.getfield 169, 3) := dk_180 0 169 (dk_at dksX1_men_7 5 rfl rfl)
theorem dX1_men_174 : decode cX1_men 174 = .ok (.aload_n 0, 1) := dk_42 (dk_at dksX1_men_7 8 rfl rfl)
theorem dX1_men_175 : decode cX1_men 175 = .ok (.getfield 126, 3) := dk_180 0 126 (dk_at dksX1_men_7 9 rfl rfl)
theorem dX1_men_178 : decode cX1_men 178 = .ok (.iconst 0, 1) := dk_3 (dk_at dksX1_men_7 12 rfl rfl)
theorem dX1_men_179 : decode cX1_men 179 = .ok (.iastore, 1) := dk_79 (dk_at dksX1_men_7 13 rfl rfl)
theorem dX1_men_180 : decode cX1_men 180 = .ok (.aload_n 0, 1) := dk_42 (dk_at dksX1_men_7 14 rfl rfl)
theorem dX1_men_181 : decode cX1_men 181 = .ok (.getfield 49, 3) := dk_180 0 49 (dk_at dksX1_men_7 15 rfl rfl)
theorem dX1_men_184 : decode cX1_men 184 = .ok (.getfield 172, 3) := dk_180 0 172 (dk_at dksX1_men_7 18 rfl rfl)
theorem dX1_men_187 : decode cX1_men 187 = .ok (.aload_n 0, 1) := dk_42 (dk_at dksX1_men_7 21 rfl rfl)
theorem dX1_men_188 : decode cX1_men 188 = .ok (.getfield 126, 3) := dk_180 0 126 (dk_at dksX1_men_8 0 rfl rfl)
theorem dX1_men_191 : decode cX1_men 191 = .ok (.iconst 0, 1) := dk_3 (dk_at dksX1_men_8 3 rfl rfl)
theorem dX1_men_192 : decode cX1_men 192 = .ok (.iastore, 1) := dk_79 (dk_at dksX1_men_8 4 rfl rfl)
theorem dX1_men_193 : decode cX1_men 193 = .ok (.iinc 4 1, 3) := dk_132 4 1 (dk_at dksX1_men_8 5 rfl rfl)
theorem dX1_men_196 : decode cX1_men 196 = .ok (.aload_n 0, 1) := dk_42 (dk_at dksX1_men_8 8 rfl rfl)
theorem dX1_men_197 : decode cX1_men 197 = .ok (.dup, 1) := dk_89 (dk_at dksX1_men_8 9 rfl rfl)
theorem dX1_men_198 : decode cX1_men 198 = .ok (.getfield 126, 3) := dk_180 0 126 (dk_at dksX1_men_8 10 rfl rfl)
theorem dX1_men_201 : decode cX1_men 201 = .ok (.iconst 1, 1) := dk_4 (dk_at dksX1_men_8 13 rfl rfl)
theorem dX1_men_202 : decode cX1_men 202 = .ok (.iadd, 1) := dk_96 (dk_at dksX1_men_8 14 rfl rfl)
theorem dX1_men_203 : decode cX1_men 203 = .ok (.putfield 126, 3) := dk_181 0 126 (dk_at dksX1_men_8 15 rfl rfl)
theorem dX1_men_206 : decode cX1_men 206 = .ok (.goto (-90), 3) := dk_167 255 166 (dk_at dksX1_men_8 18 rfl rfl)
theorem dX1_men_209 : decode cX1_men 209 = .ok (.aload_n 0, 1) := dk_42 (dk_at dksX1_men_8 21 rfl rfl)
theorem dX1_men_210 : decode cX1_men 210 = .ok (.iconst 0, 1) := dk_3 (dk_at dksX1_men_8 22 rfl rfl)
theorem dX1_men_211 : decode cX1_men 211 = .ok (.putfield 175, 3) := dk_181 0 175 (dk_at dksX1_men_9 0 rfl rfl)
theorem dX1_men_214 : decode cX1_men 214 = .ok (.aload_n 0, 1) := dk_42 (dk_at dksX1_men_9 3 rfl rfl)
theorem dX1_men_215 : decode cX1_men 215 = .ok (.dup, 1) := dk_89 (dk_at dksX1_men_9 4 rfl rfl)
theorem dX1_men_216 : decode cX1_men 216 = .ok (.getfield 178, 3) := dk_180 0 178 (dk_at dksX1_men_9 5 rfl rfl)
theorem dX1_men_219 : decode cX1_men 219 = .ok (.iconst 1, 1) := dk_4 (dk_at dksX1_men_9 8 rfl rfl)
theorem dX1_men_220 : decode cX1_men 220 = .ok (.iadd, 1) := dk_96 (dk_at dksX1_men_9 9 rfl rfl)
theorem dX1_men_221 : decode cX1_men 221 = .ok (.putfield 178, 3) := dk_181 0 178 (dk_at dksX1_men_9 10 rfl rfl)
theorem dX1_men_224 : decode cX1_men 224 = .ok (.iload_n 3, 1) := dk_29 (dk_at dksX1_men_9 13 rfl rfl)
theorem dX1_men_225 : decode cX1_men 225 = .ok (.ireturn, 1) := dk_172 (dk_at dksX1_men_9 14 rfl rfl)
abbrev cX1_words : ByteArray := prog_1_method_7_code
def yX1_words : MethodName := ⟨RX1, "words", "(I)LTreesBeforeMen$Words;"⟩
def dkwX1_words_0 : List UInt8 := [187, 0, 133, 89, 42, 180, 0, 91, 42, 180, 0, 135, 27, 183, 0, 138, 77, 42, 3, 181, 0, 135, 44, 176]
abbrev dktX1_words_0 : List UInt8 := dkwX1_words_0 ++ []
theorem dksX1_words_0 : cX1_words.data.toList.drop 0 = dktX1_words_0 := by decide +kernel
theorem dX1_words_0 : decode cX1_words 0 = .ok (.new 133, 3) := dk_187 0 133 (dk_at dksX1_words_0 0 rfl rfl)
theorem dX1_words_3 : decode cX1_words 3 = .ok (.dup, 1) := dk_89 (dk_at dksX1_words_0 3 rfl rfl)
theorem dX1_words_4 : decode cX1_words 4 = .ok (.aload_n 0, 1) := dk_42 (dk_at dksX1_words_0 4 rfl rfl)
theorem dX1_words_5 : decode cX1_words 5 = .ok (.getfield 91, 3) := dk_180 0 91 (dk_at dksX1_words_0 5 rfl rfl)
theorem dX1_words_8 : decode cX1_words 8 = .ok (.aload_n 0, 1) := dk_42 (dk_at dksX1_words_0 8 rfl rfl)
theorem dX1_words_9 : decode cX1_words 9 = .ok (.getfield 135, 3) := dk_180 0 135 (dk_at dksX1_words_0 9 rfl rfl)
theorem dX1_words_12 : decode cX1_words 12 = .ok (.iload_n 1, 1) := dk_27 (dk_at dksX1_words_0 12 rfl rfl)
theorem dX1_words_13 : decode cX1_words 13 = .ok (.invokespecial 138, 3) := dk_183 0 138 (dk_at dksX1_words_0 13 rfl rfl)
theorem dX1_words_16 : decode cX1_words 16 = .ok (.astore_n 2, 1) := dk_77 (dk_at dksX1_words_0 16 rfl rfl)
theorem dX1_words_17 : decode cX1_words 17 = .ok (.aload_n 0, 1) := dk_42 (dk_at dksX1_words_0 17 rfl rfl)
theorem dX1_words_18 : decode cX1_words 18 = .ok (.iconst 0, 1) := dk_3 (dk_at dksX1_words_0 18 rfl rfl)
theorem dX1_words_19 : decode cX1_words 19 = .ok (.putfield 135, 3) := dk_181 0 135 (dk_at dksX1_words_0 19 rfl rfl)
theorem dX1_words_22 : decode cX1_words 22 = .ok (.aload_n 2, 1) := dk_44 (dk_at dksX1_words_0 22 rfl rfl)
theorem dX1_words_23 : decode cX1_words 23 = .ok (.areturn, 1) := dk_176 (dk_at dksX1_words_0 23 rfl rfl)
abbrev cX1_weather : ByteArray := prog_1_method_11_code
def yX1_weather : MethodName := ⟨RX1, "weather", "()I"⟩
def dkwX1_weather_4 : List UInt8 := [180, 0, 145, 184, 0, 186, 42, 44, 181, 0, 87, 42, 180, 0, 87, 190, 172]
abbrev dktX1_weather_4 : List UInt8 := dkwX1_weather_4 ++ []
def dkwX1_weather_3 : List UInt8 := [77, 2, 44, 180, 0, 166, 100, 172, 43, 180, 0, 145, 188, 8, 77, 42, 180, 0, 91, 3, 44, 3, 43]
abbrev dktX1_weather_3 : List UInt8 := dkwX1_weather_3 ++ dktX1_weather_4
def dkwX1_weather_2 : List UInt8 := [89, 180, 0, 185, 4, 96, 181, 0, 185, 43, 182, 0, 181, 2, 160, 255, 203, 43, 182, 0, 161, 167, 0, 11]
abbrev dktX1_weather_2 : List UInt8 := dkwX1_weather_2 ++ dktX1_weather_3
def dkwX1_weather_1 : List UInt8 := [159, 0, 15, 28, 16, 115, 159, 0, 9, 28, 16, 114, 160, 0, 7, 4, 167, 0, 4, 3, 182, 0, 150, 43]
abbrev dktX1_weather_1 : List UInt8 := dkwX1_weather_1 ++ dktX1_weather_2
def dkwX1_weather_0 : List UInt8 := [42, 16, 20, 182, 0, 141, 76, 43, 182, 0, 181, 61, 43, 28, 16, 102, 159, 0, 21, 28, 16, 104]
abbrev dktX1_weather_0 : List UInt8 := dkwX1_weather_0 ++ dktX1_weather_1
theorem dksX1_weather_0 : cX1_weather.data.toList.drop 0 = dktX1_weather_0 := by decide +kernel
theorem dksX1_weather_1 : cX1_weather.data.toList.drop 22 = dktX1_weather_1 := dk_seg dksX1_weather_0 22 rfl rfl
theorem dksX1_weather_2 : cX1_weather.data.toList.drop 46 = dktX1_weather_2 := dk_seg dksX1_weather_1 24 rfl rfl
theorem dksX1_weather_3 : cX1_weather.data.toList.drop 70 = dktX1_weather_3 := dk_seg dksX1_weather_2 24 rfl rfl
theorem dksX1_weather_4 : cX1_weather.data.toList.drop 93 = dktX1_weather_4 := dk_seg dksX1_weather_3 23 rfl rfl
theorem dX1_weather_0 : decode cX1_weather 0 = .ok (.aload_n 0, 1) := dk_42 (dk_at dksX1_weather_0 0 rfl rfl)
theorem dX1_weather_1 : decode cX1_weather 1 = .ok (.bipush 20, 2) := dk_16 20 (dk_at dksX1_weather_0 1 rfl rfl)
theorem dX1_weather_3 : decode cX1_weather 3 = .ok (.invokevirtual 141, 3) := dk_182 0 141 (dk_at dksX1_weather_0 3 rfl rfl)
theorem dX1_weather_6 : decode cX1_weather 6 = .ok (.astore_n 1, 1) := dk_76 (dk_at dksX1_weather_0 6 rfl rfl)
theorem dX1_weather_7 : decode cX1_weather 7 = .ok (.aload_n 1, 1) := dk_43 (dk_at dksX1_weather_0 7 rfl rfl)
theorem dX1_weather_8 : decode cX1_weather 8 = .ok (.invokevirtual 181, 3) := dk_182 0 181 (dk_at dksX1_weather_0 8 rfl rfl)
theorem dX1_weather_11 : decode cX1_weather 11 = .ok (.istore_n 2, 1) := dk_61 (dk_at dksX1_weather_0 11 rfl rfl)
theorem dX1_weather_12 : decode cX1_weather 12 = .ok (.aload_n 1, 1) := dk_43 (dk_at dksX1_weather_0 12 rfl rfl)
theorem dX1_weather_13 : decode cX1_weather 13 = .ok (.iload_n 2, 1) := dk_28 (dk_at dksX1_weather_0 13 rfl rfl)
theorem dX1_weather_14 : decode cX1_weather 14 = .ok (.bipush 102, 2) := dk_16 102 (dk_at dksX1_weather_0 14 rfl rfl)
theorem dX1_weather_16 : decode cX1_weather 16 = .ok (.if_icmp .eq 21, 3) := dk_159 0 21 (dk_at dksX1_weather_0 16 rfl rfl)
theorem dX1_weather_19 : decode cX1_weather 19 = .ok (.iload_n 2, 1) := dk_28 (dk_at dksX1_weather_0 19 rfl rfl)
theorem dX1_weather_20 : decode cX1_weather 20 = .ok (.bipush 104, 2) := dk_16 104 (dk_at dksX1_weather_0 20 rfl rfl)
theorem dX1_weather_22 : decode cX1_weather 22 = .ok (.if_icmp .eq 15, 3) := dk_159 0 15 (dk_at dksX1_weather_1 0 rfl rfl)
theorem dX1_weather_25 : decode cX1_weather 25 = .ok (.iload_n 2, 1) := dk_28 (dk_at dksX1_weather_1 3 rfl rfl)
theorem dX1_weather_26 : decode cX1_weather 26 = .ok (.bipush 115, 2) := dk_16 115 (dk_at dksX1_weather_1 4 rfl rfl)
theorem dX1_weather_28 : decode cX1_weather 28 = .ok (.if_icmp .eq 9, 3) := dk_159 0 9 (dk_at dksX1_weather_1 6 rfl rfl)
theorem dX1_weather_31 : decode cX1_weather 31 = .ok (.iload_n 2, 1) := dk_28 (dk_at dksX1_weather_1 9 rfl rfl)
theorem dX1_weather_32 : decode cX1_weather 32 = .ok (.bipush 114, 2) := dk_16 114 (dk_at dksX1_weather_1 10 rfl rfl)
theorem dX1_weather_34 : decode cX1_weather 34 = .ok (.if_icmp .ne 7, 3) := dk_160 0 7 (dk_at dksX1_weather_1 12 rfl rfl)
theorem dX1_weather_37 : decode cX1_weather 37 = .ok (.iconst 1, 1) := dk_4 (dk_at dksX1_weather_1 15 rfl rfl)
theorem dX1_weather_38 : decode cX1_weather 38 = .ok (.goto 4, 3) := dk_167 0 4 (dk_at dksX1_weather_1 16 rfl rfl)
theorem dX1_weather_41 : decode cX1_weather 41 = .ok (.iconst 0, 1) := dk_3 (dk_at dksX1_weather_1 19 rfl rfl)
theorem dX1_weather_42 : decode cX1_weather 42 = .ok (.invokevirtual 150, 3) := dk_182 0 150 (dk_at dksX1_weather_1 20 rfl rfl)
theorem dX1_weather_45 : decode cX1_weather 45 = .ok (.aload_n 1, 1) := dk_43 (dk_at dksX1_weather_1 23 rfl rfl)
theorem dX1_weather_46 : decode cX1_weather 46 = .ok (.dup, 1) := dk_89 (dk_at dksX1_weather_2 0 rfl rfl)
theorem dX1_weather_47 : decode cX1_weather 47 = .ok (.getfield 185, 3) := dk_180 0 185 (dk_at dksX1_weather_2 1 rfl rfl)
theorem dX1_weather_50 : decode cX1_weather 50 = .ok (.iconst 1, 1) := dk_4 (dk_at dksX1_weather_2 4 rfl rfl)
theorem dX1_weather_51 : decode cX1_weather 51 = .ok (.iadd, 1) := dk_96 (dk_at dksX1_weather_2 5 rfl rfl)
theorem dX1_weather_52 : decode cX1_weather 52 = .ok (.putfield 185, 3) := dk_181 0 185 (dk_at dksX1_weather_2 6 rfl rfl)
theorem dX1_weather_55 : decode cX1_weather 55 = .ok (.aload_n 1, 1) := dk_43 (dk_at dksX1_weather_2 9 rfl rfl)
theorem dX1_weather_56 : decode cX1_weather 56 = .ok (.invokevirtual 181, 3) := dk_182 0 181 (dk_at dksX1_weather_2 10 rfl rfl)
theorem dX1_weather_59 : decode cX1_weather 59 = .ok (.iconst (-1), 1) := dk_2 (dk_at dksX1_weather_2 13 rfl rfl)
theorem dX1_weather_60 : decode cX1_weather 60 = .ok (.if_icmp .ne (-53), 3) := dk_160 255 203 (dk_at dksX1_weather_2 14 rfl rfl)
theorem dX1_weather_63 : decode cX1_weather 63 = .ok (.aload_n 1, 1) := dk_43 (dk_at dksX1_weather_2 17 rfl rfl)
theorem dX1_weather_64 : decode cX1_weather 64 = .ok (.invokevirtual 161, 3) := dk_182 0 161 (dk_at dksX1_weather_2 18 rfl rfl)
theorem dX1_weather_67 : decode cX1_weather 67 = .ok (.goto 11, 3) := dk_167 0 11 (dk_at dksX1_weather_2 21 rfl rfl)
theorem dX1_weather_70 : decode cX1_weather 70 = .ok (.astore_n 2, 1) := dk_77 (dk_at dksX1_weather_3 0 rfl rfl)
theorem dX1_weather_71 : decode cX1_weather 71 = .ok (.iconst (-1), 1) := dk_2 (dk_at dksX1_weather_3 1 rfl rfl)
theorem dX1_weather_72 : decode cX1_weather 72 = .ok (.aload_n 2, 1) := dk_44 (dk_at dksX1_weather_3 2 rfl rfl)
theorem dX1_weather_73 : decode cX1_weather 73 = .ok (.getfield 166, 3) := dk_180 0 166 (dk_at dksX1_weather_3 3 rfl rfl)
theorem dX1_weather_76 : decode cX1_weather 76 = .ok (.isub, 1) := dk_100 (dk_at dksX1_weather_3 6 rfl rfl)
theorem dX1_weather_77 : decode cX1_weather 77 = .ok (.ireturn, 1) := dk_172 (dk_at dksX1_weather_3 7 rfl rfl)
theorem dX1_weather_78 : decode cX1_weather 78 = .ok (.aload_n 1, 1) := dk_43 (dk_at dksX1_weather_3 8 rfl rfl)
theorem dX1_weather_79 : decode cX1_weather 79 = .ok (.getfield 145, 3) := dk_180 0 145 (dk_at dksX1_weather_3 9 rfl rfl)
theorem dX1_weather_82 : decode cX1_weather 82 = .ok (.newarray .byte, 2) := dk_188_8 (dk_at dksX1_weather_3 12 rfl rfl)
theorem dX1_weather_84 : decode cX1_weather 84 = .ok (.astore_n 2, 1) := dk_77 (dk_at dksX1_weather_3 14 rfl rfl)
theorem dX1_weather_85 : decode cX1_weather 85 = .ok (.aload_n 0, 1) := dk_42 (dk_at dksX1_weather_3 15 rfl rfl)
theorem dX1_weather_86 : decode cX1_weather 86 = .ok (.getfield 91, 3) := dk_180 0 91 (dk_at dksX1_weather_3 16 rfl rfl)
theorem dX1_weather_89 : decode cX1_weather 89 = .ok (.iconst 0, 1) := dk_3 (dk_at dksX1_weather_3 19 rfl rfl)
theorem dX1_weather_90 : decode cX1_weather 90 = .ok (.aload_n 2, 1) := dk_44 (dk_at dksX1_weather_3 20 rfl rfl)
theorem dX1_weather_91 : decode cX1_weather 91 = .ok (.iconst 0, 1) := dk_3 (dk_at dksX1_weather_3 21 rfl rfl)
theorem dX1_weather_92 : decode cX1_weather 92 = .ok (.aload_n 1, 1) := dk_43 (dk_at dksX1_weather_3 22 rfl rfl)
theorem dX1_weather_93 : decode cX1_weather 93 = .ok (.getfield 145, 3) := dk_180 0 145 (dk_at dksX1_weather_4 0 rfl rfl)
theorem dX1_weather_96 : decode cX1_weather 96 = .ok (.invokestatic 186, 3) := dk_184 0 186 (dk_at dksX1_weather_4 3 rfl rfl)
theorem dX1_weather_99 : decode cX1_weather 99 = .ok (.aload_n 0, 1) := dk_42 (dk_at dksX1_weather_4 6 rfl rfl)
theorem dX1_weather_100 : decode cX1_weather 100 = .ok (.aload_n 2, 1) := dk_44 (dk_at dksX1_weather_4 7 rfl rfl)
theorem dX1_weather_101 : decode cX1_weather 101 = .ok (.putfield 87, 3) := dk_181 0 87 (dk_at dksX1_weather_4 8 rfl rfl)
theorem dX1_weather_104 : decode cX1_weather 104 = .ok (.aload_n 0, 1) := dk_42 (dk_at dksX1_weather_4 11 rfl rfl)
theorem dX1_weather_105 : decode cX1_weather 105 = .ok (.getfield 87, 3) := dk_180 0 87 (dk_at dksX1_weather_4 12 rfl rfl)
theorem dX1_weather_108 : decode cX1_weather 108 = .ok (.arraylength, 1) := dk_190 (dk_at dksX1_weather_4 15 rfl rfl)
theorem dX1_weather_109 : decode cX1_weather 109 = .ok (.ireturn, 1) := dk_172 (dk_at dksX1_weather_4 16 rfl rfl)
abbrev cX1_islands : ByteArray := prog_1_method_12_code
def yX1_islands : MethodName := ⟨RX1, "islands", "()I"⟩
def dkwX1_islands_8 : List UInt8 := [42, 89, 180, 0, 192, 4, 96, 181, 0, 192, 167, 255, 192, 29, 172]
abbrev dktX1_islands_8 : List UInt8 := dkwX1_islands_8 ++ []
def dkwX1_islands_7 : List UInt8 := [21, 4, 50, 4, 46, 79, 42, 180, 0, 81, 42, 180, 0, 192, 44, 21, 4, 50, 5, 46, 79, 132, 4, 1]
abbrev dktX1_islands_7 : List UInt8 := dkwX1_islands_7 ++ dktX1_islands_8
def dkwX1_islands_6 : List UInt8 := [180, 0, 75, 42, 180, 0, 192, 44, 21, 4, 50, 3, 46, 79, 42, 180, 0, 78, 42, 180, 0, 192, 44]
abbrev dktX1_islands_6 : List UInt8 := dkwX1_islands_6 ++ dktX1_islands_7
def dkwX1_islands_5 : List UInt8 := [167, 0, 13, 58, 4, 2, 25, 4, 180, 0, 166, 100, 172, 3, 54, 4, 21, 4, 29, 162, 0, 64, 42]
abbrev dktX1_islands_5 : List UInt8 := dkwX1_islands_5 ++ dktX1_islands_6
def dkwX1_islands_4 : List UInt8 := [16, 48, 7, 182, 0, 153, 79, 132, 3, 1, 43, 16, 59, 182, 0, 157, 154, 255, 170, 43, 182, 0, 161]
abbrev dktX1_islands_4 : List UInt8 := dkwX1_islands_4 ++ dktX1_islands_5
def dkwX1_islands_3 : List UInt8 := [29, 50, 4, 43, 5, 182, 0, 195, 79, 43, 43, 16, 44, 182, 0, 157, 182, 0, 150, 44, 29, 50, 5, 43]
abbrev dktX1_islands_3 : List UInt8 := dkwX1_islands_3 ++ dktX1_islands_4
def dkwX1_islands_2 : List UInt8 := [50, 3, 43, 16, 49, 16, 9, 182, 0, 153, 4, 96, 79, 43, 43, 16, 44, 182, 0, 157, 182, 0, 150, 44]
abbrev dktX1_islands_2 : List UInt8 := dkwX1_islands_2 ++ dktX1_islands_3
def dkwX1_islands_1 : List UInt8 := [3, 62, 43, 42, 180, 0, 192, 29, 96, 16, 6, 162, 0, 7, 4, 167, 0, 4, 3, 182, 0, 150, 44, 29]
abbrev dktX1_islands_1 : List UInt8 := dkwX1_islands_1 ++ dktX1_islands_2
def dkwX1_islands_0 : List UInt8 := [42, 16, 41, 182, 0, 141, 76, 43, 180, 0, 145, 154, 0, 5, 3, 172, 16, 6, 6, 197, 0, 148, 2, 77]
abbrev dktX1_islands_0 : List UInt8 := dkwX1_islands_0 ++ dktX1_islands_1
theorem dksX1_islands_0 : cX1_islands.data.toList.drop 0 = dktX1_islands_0 := by decide +kernel
theorem dksX1_islands_1 : cX1_islands.data.toList.drop 24 = dktX1_islands_1 := dk_seg dksX1_islands_0 24 rfl rfl
theorem dksX1_islands_2 : cX1_islands.data.toList.drop 48 = dktX1_islands_2 := dk_seg dksX1_islands_1 24 rfl rfl
theorem dksX1_islands_3 : cX1_islands.data.toList.drop 72 = dktX1_islands_3 := dk_seg dksX1_islands_2 24 rfl rfl
theorem dksX1_islands_4 : cX1_islands.data.toList.drop 96 = dktX1_islands_4 := dk_seg dksX1_islands_3 24 rfl rfl
theorem dksX1_islands_5 : cX1_islands.data.toList.drop 119 = dktX1_islands_5 := dk_seg dksX1_islands_4 23 rfl rfl
theorem dksX1_islands_6 : cX1_islands.data.toList.drop 142 = dktX1_islands_6 := dk_seg dksX1_islands_5 23 rfl rfl
theorem dksX1_islands_7 : cX1_islands.data.toList.drop 165 = dktX1_islands_7 := dk_seg dksX1_islands_6 23 rfl rfl
theorem dksX1_islands_8 : cX1_islands.data.toList.drop 189 = dktX1_islands_8 := dk_seg dksX1_islands_7 24 rfl rfl
theorem dX1_islands_0 : decode cX1_islands 0 = .ok (.aload_n 0, 1) := dk_42 (dk_at dksX1_islands_0 0 rfl rfl)
theorem dX1_islands_1 : decode cX1_islands 1 = .ok (.bipush 41, 2) := dk_16 41 (dk_at dksX1_islands_0 1 rfl rfl)
theorem dX1_islands_3 : decode cX1_islands 3 = .ok (.invokevirtual 141, 3) := dk_182 0 141 (dk_at dksX1_islands_0 3 rfl rfl)
theorem dX1_islands_6 : decode cX1_islands 6 = .ok (.astore_n 1, 1) := dk_76 (dk_at dksX1_islands_0 6 rfl rfl)
theorem dX1_islands_7 : decode cX1_islands 7 = .ok (.aload_n 1, 1) := dk_43 (dk_at dksX1_islands_0 7 rfl rfl)
theorem dX1_islands_8 : decode cX1_islands 8 = .ok (.getfield 145, 3) := dk_180 0 145 (dk_at dksX1_islands_0 8 rfl rfl)
theorem dX1_islands_11 : decode cX1_islands 11 = .ok (.ifCond .ne 5, 3) := dk_154 0 5 (dk_at dksX1_islands_0 11 rfl rfl)
theorem dX1_islands_14 : decode cX1_islands 14 = .ok (.iconst 0, 1) := dk_3 (dk_at dksX1_islands_0 14 rfl rfl)
theorem dX1_islands_15 : decode cX1_islands 15 = .ok (.ireturn, 1) := dk_172 (dk_at dksX1_islands_0 15 rfl rfl)
theorem dX1_islands_16 : decode cX1_islands 16 = .ok (.bipush 6, 2) := dk_16 6 (dk_at dksX1_islands_0 16 rfl rfl)
theorem dX1_islands_18 : decode cX1_islands 18 = .ok (.iconst 3, 1) := dk_6 (dk_at dksX1_islands_0 18 rfl rfl)
theorem dX1_islands_19 : decode cX1_islands 19 = .ok (.multianewarray 148 2, 4) := by decide +kernel
theorem dX1_islands_23 : decode cX1_islands 23 = .ok (.astore_n 2, 1) := dk_77 (dk_at dksX1_islands_0 23 rfl rfl)
theorem dX1_islands_24 : decode cX1_islands 24 = .ok (.iconst 0, 1) := dk_3 (dk_at dksX1_islands_1 0 rfl rfl)
theorem dX1_islands_25 : decode cX1_islands 25 = .ok (.istore_n 3, 1) := dk_62 (dk_at dksX1_islands_1 1 rfl rfl)
theorem dX1_islands_26 : decode cX1_islands 26 = .ok (.aload_n 1, 1) := dk_43 (dk_at dksX1_islands_1 2 rfl rfl)
theorem dX1_islands_27 : decode cX1_islands 27 = .ok (.aload_n 0, 1) := dk_42 (dk_at dksX1_islands_1 3 rfl rfl)
theorem dX1_islands_28 : decode cX1_islands 28 = .ok (.getfield 192, 3) := dk_180 0 192 (dk_at dksX1_islands_1 4 rfl rfl)
theorem dX1_islands_31 : decode cX1_islands 31 = .ok (.iload_n 3, 1) := dk_29 (dk_at dksX1_islands_1 7 rfl rfl)
theorem dX1_islands_32 : decode cX1_islands 32 = .ok (.iadd, 1) := dk_96 (dk_at dksX1_islands_1 8 rfl rfl)
theorem dX1_islands_33 : decode cX1_islands 33 = .ok (.bipush 6, 2) := dk_16 6 (dk_at dksX1_islands_1 9 rfl rfl)
theorem dX1_islands_35 : decode cX1_islands 35 = .ok (.if_icmp .ge 7, 3) := dk_162 0 7 (dk_at dksX1_islands_1 11 rfl rfl)
theorem dX1_islands_38 : decode cX1_islands 38 = .ok (.iconst 1, 1) := dk_4 (dk_at dksX1_islands_1 14 rfl rfl)
theorem dX1_islands_39 : decode cX1_islands 39 = .ok (.goto 4, 3) := dk_167 0 4 (dk_at dksX1_islands_1 15 rfl rfl)
theorem dX1_islands_42 : decode cX1_islands 42 = .ok (.iconst 0, 1) := dk_3 (dk_at dksX1_islands_1 18 rfl rfl)
theorem dX1_islands_43 : decode cX1_islands 43 = .ok (.invokevirtual 150, 3) := dk_182 0 150 (dk_at dksX1_islands_1 19 rfl rfl)
theorem dX1_islands_46 : decode cX1_islands 46 = .ok (.aload_n 2, 1) := dk_44 (dk_at dksX1_islands_1 22 rfl rfl)
theorem dX1_islands_47 : decode cX1_islands 47 = .ok (.iload_n 3, 1) := dk_29 (dk_at dksX1_islands_1 23 rfl rfl)
theorem dX1_islands_48 : decode cX1_islands 48 = .ok (.aaload, 1) := dk_50 (dk_at dksX1_islands_2 0 rfl rfl)
theorem dX1_islands_49 : decode cX1_islands 49 = .ok (.iconst 0, 1) := dk_3 (dk_at dksX1_islands_2 1 rfl rfl)
theorem dX1_islands_50 : decode cX1_islands 50 = .ok (.aload_n 1, 1) := dk_43 (dk_at dksX1_islands_2 2 rfl rfl)
theorem dX1_islands_51 : decode cX1_islands 51 = .ok (.bipush 49, 2) := dk_16 49 (dk_at dksX1_islands_2 3 rfl rfl)
theorem dX1_islands_53 : decode cX1_islands 53 = .ok (.bipush 9, 2) := dk_16 9 (dk_at dksX1_islands_2 5 rfl rfl)
theorem dX1_islands_55 : decode cX1_islands 55 = .ok (.invokevirtual 153, 3) := dk_182 0 153 (dk_at dksX1_islands_2 7 rfl rfl)
theorem dX1_islands_58 : decode cX1_islands 58 = .ok (.iconst 1, 1) := dk_4 (dk_at dksX1_islands_2 10 rfl rfl)
theorem dX1_islands_59 : decode cX1_islands 59 = .ok (.iadd, 1) := dk_96 (dk_at dksX1_islands_2 11 rfl rfl)
theorem dX1_islands_60 : decode cX1_islands 60 = .ok (.iastore, 1) := dk_79 (dk_at dksX1_islands_2 12 rfl rfl)
theorem dX1_islands_61 : decode cX1_islands 61 = .ok (.aload_n 1, 1) := dk_43 (dk_at dksX1_islands_2 13 rfl rfl)
theorem dX1_islands_62 : decode cX1_islands 62 = .ok (.aload_n 1, 1) := dk_43 (dk_at dksX1_islands_2 14 rfl rfl)
theorem dX1_islands_63 : decode cX1_islands 63 = .ok (.bipush 44, 2) := dk_16 44 (dk_at dksX1_islands_2 15 rfl rfl)
theorem dX1_islands_65 : decode cX1_islands 65 = .ok (.invokevirtual 157, 3) := dk_182 0 157 (dk_at dksX1_islands_2 17 rfl rfl)
theorem dX1_islands_68 : decode cX1_islands 68 = .ok (.invokevirtual 150, 3) := dk_182 0 150 (dk_at dksX1_islands_2 20 rfl rfl)
theorem dX1_islands_71 : decode cX1_islands 71 = .ok (.aload_n 2, 1) := dk_44 (dk_at dksX1_islands_2 23 rfl rfl)
theorem dX1_islands_72 : decode cX1_islands 72 = .ok (.iload_n 3, 1) := dk_29 (dk_at dksX1_islands_3 0 rfl rfl)
theorem dX1_islands_73 : decode cX1_islands 73 = .ok (.aaload, 1) := dk_50 (dk_at dksX1_islands_3 1 rfl rfl)
theorem dX1_islands_74 : decode cX1_islands 74 = .ok (.iconst 1, 1) := dk_4 (dk_at dksX1_islands_3 2 rfl rfl)
theorem dX1_islands_75 : decode cX1_islands 75 = .ok (.aload_n 1, 1) := dk_43 (dk_at dksX1_islands_3 3 rfl rfl)
theorem dX1_islands_76 : decode cX1_islands 76 = .ok (.iconst 2, 1) := dk_5 (dk_at dksX1_islands_3 4 rfl rfl)
theorem dX1_islands_77 : decode cX1_islands 77 = .ok (.invokevirtual 195, 3) := dk_182 0 195 (dk_at dksX1_islands_3 5 rfl rfl)
theorem dX1_islands_80 : decode cX1_islands 80 = .ok (.iastore, 1) := dk_79 (dk_at dksX1_islands_3 8 rfl rfl)
theorem dX1_islands_81 : decode cX1_islands 81 = .ok (.aload_n 1, 1) := dk_43 (dk_at dksX1_islands_3 9 rfl rfl)
theorem dX1_islands_82 : decode cX1_islands 82 = .ok (.aload_n 1, 1) := dk_43 (dk_at dksX1_islands_3 10 rfl rfl)
theorem dX1_islands_83 : decode cX1_islands 83 = .ok (.bipush 44, 2) := dk_16 44 (dk_at dksX1_islands_3 11 rfl rfl)
theorem dX1_islands_85 : decode cX1_islands 85 = .ok (.invokevirtual 157, 3) := dk_182 0 157 (dk_at dksX1_islands_3 13 rfl rfl)
theorem dX1_islands_88 : decode cX1_islands 88 = .ok (.invokevirtual 150, 3) := dk_182 0 150 (dk_at dksX1_islands_3 16 rfl rfl)
theorem dX1_islands_91 : decode cX1_islands 91 = .ok (.aload_n 2, 1) := dk_44 (dk_at dksX1_islands_3 19 rfl rfl)
theorem dX1_islands_92 : decode cX1_islands 92 = .ok (.iload_n 3, 1) := dk_29 (dk_at dksX1_islands_3 20 rfl rfl)
theorem dX1_islands_93 : decode cX1_islands 93 = .ok (.aaload, 1) := dk_50 (dk_at dksX1_islands_3 21 rfl rfl)
theorem dX1_islands_94 : decode cX1_islands 94 = .ok (.iconst 2, 1) := dk_5 (dk_at dksX1_islands_3 22 rfl rfl)
theorem dX1_islands_95 : decode cX1_islands 95 = .ok (.aload_n 1, 1) := dk_43 (dk_at dksX1_islands_3 23 rfl rfl)
theorem dX1_islands_96 : decode cX1_islands 96 = .ok (.bipush 48, 2) := dk_16 48 (dk_at dksX1_islands_4 0 rfl rfl)
theorem dX1_islands_98 : decode cX1_islands 98 = .ok (.iconst 4, 1) := dk_7 (dk_at dksX1_islands_4 2 rfl rfl)
theorem dX1_islands_99 : decode cX1_islands 99 = .ok (.invokevirtual 153, 3) := dk_182 0 153 (dk_at dksX1_islands_4 3 rfl rfl)
theorem dX1_islands_102 : decode cX1_islands 102 = .ok (.iastore, 1) := dk_79 (dk_at dksX1_islands_4 6 rfl rfl)
theorem dX1_islands_103 : decode cX1_islands 103 = .ok (.iinc 3 1, 3) := dk_132 3 1 (dk_at dksX1_islands_4 7 rfl rfl)
theorem dX1_islands_106 : decode cX1_islands 106 = .ok (.aload_n 1, 1) := dk_43 (dk_at dksX1_islands_4 10 rfl rfl)
theorem dX1_islands_107 : decode cX1_islands 107 = .ok (.bipush 59, 2) := dk_16 59 (dk_at dksX1_islands_4 11 rfl rfl)
theorem dX1_islands_109 : decode cX1_islands 109 = .ok (.invokevirtual 157, 3) := dk_182 0 157 (dk_at dksX1_islands_4 13 rfl rfl)
theorem dX1_islands_112 : decode cX1_islands 112 = .ok (.ifCond .ne (-86), 3) := dk_154 255 170 (dk_at dksX1_islands_4 16 rfl rfl)
theorem dX1_islands_115 : decode cX1_islands 115 = .ok (.aload_n 1, 1) := dk_43 (dk_at dksX1_islands_4 19 rfl rfl)
theorem dX1_islands_116 : decode cX1_islands 116 = .ok (.invokevirtual 161, 3) := dk_182 0 161 (dk_at dksX1_islands_4 20 rfl rfl)
theorem dX1_islands_119 : decode cX1_islands 119 = .ok (.goto 13, 3) := dk_167 0 13 (dk_at dksX1_islands_5 0 rfl rfl)
theorem dX1_islands_122 : decode cX1_islands 122 = .ok (.astore 4, 2) := dk_58 4 (dk_at dksX1_islands_5 3 rfl rfl)
theorem dX1_islands_124 : decode cX1_islands 124 = .ok (.iconst (-1), 1) := dk_2 (dk_at dksX1_islands_5 5 rfl rfl)
theorem dX1_islands_125 : decode cX1_islands 125 = .ok (.aload 4, 2) := dk_25 4 (dk_at dksX1_islands_5 6 rfl rfl)
theorem dX1_islands_127 : decode cX1_islands 127 = .ok (.getfield 166, 3) := dk_180 0 166 (dk_at dksX1_islands_5 8 rfl rfl)
theorem dX1_islands_130 : decode cX1_islands 130 = .ok (.isub, 1) := dk_100 (dk_at dksX1_islands_5 11 rfl rfl)
theorem dX1_islands_131 : decode cX1_islands 131 = .ok (.ireturn, 1) := dk_172 (dk_at dksX1_islands_5 12 rfl rfl)
theorem dX1_islands_132 : decode cX1_islands 132 = .ok (.iconst 0, 1) := dk_3 (dk_at dksX1_islands_5 13 rfl rfl)
theorem dX1_islands_133 : decode cX1_islands 133 = .ok (.istore 4, 2) := dk_54 4 (dk_at dksX1_islands_5 14 rfl rfl)
theorem dX1_islands_135 : decode cX1_islands 135 = .ok (.iload 4, 2) := dk_21 4 (dk_at dksX1_islands_5 16 rfl rfl)
theorem dX1_islands_137 : decode cX1_islands 137 = .ok (.iload_n 3, 1) := dk_29 (dk_at dksX1_islands_5 18 rfl rfl)
theorem dX1_islands_138 : decode cX1_islands 138 = .ok (.if_icmp .ge 64, 3) := dk_162 0 64 (dk_at dksX1_islands_5 19 rfl rfl)
theorem dX1_islands_141 : decode cX1_islands 141 = .ok (.aload_n 0, 1) := dk_42 (dk_at dksX1_islands_5 22 rfl rfl)
theorem dX1_islands_142 : decode cX1_islands 142 = .ok (.getfield 75, 3) := dk_180 0 75 (dk_at dksX1_islands_6 0 rfl rfl)
theorem dX1_islands_145 : decode cX1_islands 145 = .ok (.aload_n 0, 1) := dk_42 (dk_at dksX1_islands_6 3 rfl rfl)
theorem dX1_islands_146 : decode cX1_islands 146 = .ok (.getfield 192, 3) := dk_180 0 192 (dk_at dksX1_islands_6 4 rfl rfl)
theorem dX1_islands_149 : decode cX1_islands 149 = .ok (.aload_n 2, 1) := dk_44 (dk_at dksX1_islands_6 7 rfl rfl)
theorem dX1_islands_150 : decode cX1_islands 150 = .ok (.iload 4, 2) := dk_21 4 (dk_at dksX1_islands_6 8 rfl rfl)
theorem dX1_islands_152 : decode cX1_islands 152 = .ok (.aaload, 1) := dk_50 (dk_at dksX1_islands_6 10 rfl rfl)
theorem dX1_islands_153 : decode cX1_islands 153 = .ok (.iconst 0, 1) := dk_3 (dk_at dksX1_islands_6 11 rfl rfl)
theorem dX1_islands_154 : decode cX1_islands 154 = .ok (.iaload, 1) := dk_46 (dk_at dksX1_islands_6 12 rfl rfl)
theorem dX1_islands_155 : decode cX1_islands 155 = .ok (.iastore, 1) := dk_79 (dk_at dksX1_islands_6 13 rfl rfl)
theorem dX1_islands_156 : decode cX1_islands 156 = .ok (.aload_n 0, 1) := dk_42 (dk_at dksX1_islands_6 14 rfl rfl)
theorem dX1_islands_157 : decode cX1_islands 157 = .ok (.getfield 78, 3) := dk_180 0 78 (dk_at dksX1_islands_6 15 rfl rfl)
theorem dX1_islands_160 : decode cX1_islands 160 = .ok (.aload_n 0, 1) := dk_42 (dk_at dksX1_islands_6 18 rfl rfl)
theorem dX1_islands_161 : decode cX1_islands 161 = .ok (.getfield 192, 3) := dk_180 0 192 (dk_at dksX1_islands_6 19 rfl rfl)
theorem dX1_islands_164 : decode cX1_islands 164 = .ok (.aload_n 2, 1) := dk_44 (dk_at dksX1_islands_6 22 rfl rfl)
theorem dX1_islands_165 : decode cX1_islands 165 = .ok (.iload 4, 2) := dk_21 4 (dk_at dksX1_islands_7 0 rfl rfl)
theorem dX1_islands_167 : decode cX1_islands 167 = .ok (.aaload, 1) := dk_50 (dk_at dksX1_islands_7 2 rfl rfl)
theorem dX1_islands_168 : decode cX1_islands 168 = .ok (.iconst 1, 1) := dk_4 (dk_at dksX1_islands_7 3 rfl rfl)
theorem dX1_islands_169 : decode cX1_islands 169 = .ok (.iaload, 1) := dk_46 (dk_at dksX1_islands_7 4 rfl rfl)
theorem dX1_islands_170 : decode cX1_islands 170 = .ok (.iastore, 1) := dk_79 (dk_at dksX1_islands_7 5 rfl rfl)
theorem dX1_islands_171 : decode cX1_islands 171 = .ok (.aload_n 0, 1) := dk_42 (dk_at dksX1_islands_7 6 rfl rfl)
theorem dX1_islands_172 : decode cX1_islands 172 = .ok (.getfield 81, 3) := dk_180 0 81 (dk_at dksX1_islands_7 7 rfl rfl)
theorem dX1_islands_175 : decode cX1_islands 175 = .ok (.aload_n 0, 1) := dk_42 (dk_at dksX1_islands_7 10 rfl rfl)
theorem dX1_islands_176 : decode cX1_islands 176 = .ok (.getfield 192, 3) := dk_180 0 192 (dk_at dksX1_islands_7 11 rfl rfl)
theorem dX1_islands_179 : decode cX1_islands 179 = .ok (.aload_n 2, 1) := dk_44 (dk_at dksX1_islands_7 14 rfl rfl)
theorem dX1_islands_180 : decode cX1_islands 180 = .ok (.iload 4, 2) := dk_21 4 (dk_at dksX1_islands_7 15 rfl rfl)
theorem dX1_islands_182 : decode cX1_islands 182 = .ok (.aaload, 1) := dk_50 (dk_at dksX1_islands_7 17 rfl rfl)
theorem dX1_islands_183 : decode cX1_islands 183 = .ok (.iconst 2, 1) := dk_5 (dk_at dksX1_islands_7 18 rfl rfl)
theorem dX1_islands_184 : decode cX1_islands 184 = .ok (.iaload, 1) := dk_46 (dk_at dksX1_islands_7 19 rfl rfl)
theorem dX1_islands_185 : decode cX1_islands 185 = .ok (.iastore, 1) := dk_79 (dk_at dksX1_islands_7 20 rfl rfl)
theorem dX1_islands_186 : decode cX1_islands 186 = .ok (.iinc 4 1, 3) := dk_132 4 1 (dk_at dksX1_islands_7 21 rfl rfl)
theorem dX1_islands_189 : decode cX1_islands 189 = .ok (.aload_n 0, 1) := dk_42 (dk_at dksX1_islands_8 0 rfl rfl)
theorem dX1_islands_190 : decode cX1_islands 190 = .ok (.dup, 1) := dk_89 (dk_at dksX1_islands_8 1 rfl rfl)
theorem dX1_islands_191 : decode cX1_islands 191 = .ok (.getfield 192, 3) := dk_180 0 192 (dk_at dksX1_islands_8 2 rfl rfl)
theorem dX1_islands_194 : decode cX1_islands 194 = .ok (.iconst 1, 1) := dk_4 (dk_at dksX1_islands_8 5 rfl rfl)
theorem dX1_islands_195 : decode cX1_islands 195 = .ok (.iadd, 1) := dk_96 (dk_at dksX1_islands_8 6 rfl rfl)
theorem dX1_islands_196 : decode cX1_islands 196 = .ok (.putfield 192, 3) := dk_181 0 192 (dk_at dksX1_islands_8 7 rfl rfl)
theorem dX1_islands_199 : decode cX1_islands 199 = .ok (.goto (-64), 3) := dk_167 255 192 (dk_at dksX1_islands_8 10 rfl rfl)
theorem dX1_islands_202 : decode cX1_islands 202 = .ok (.iload_n 3, 1) := dk_29 (dk_at dksX1_islands_8 13 rfl rfl)
theorem dX1_islands_203 : decode cX1_islands 203 = .ok (.ireturn, 1) := dk_172 (dk_at dksX1_islands_8 14 rfl rfl)
abbrev cX1_rule : ByteArray := prog_1_method_14_code
def yX1_rule : MethodName := ⟨RX1, "rule", "()I"⟩
def dkwX1_rule_2 : List UInt8 := [181, 0, 204, 3, 172, 78, 2, 45, 180, 0, 166, 100, 172]
abbrev dktX1_rule_2 : List UInt8 := dkwX1_rule_2 ++ []
def dkwX1_rule_1 : List UInt8 := [154, 0, 10, 42, 1, 181, 0, 204, 3, 172, 42, 187, 0, 208, 89, 42, 43, 28, 183, 0, 210, 182, 0, 213]
abbrev dktX1_rule_1 : List UInt8 := dkwX1_rule_1 ++ dktX1_rule_2
def dkwX1_rule_0 : List UInt8 := [42, 180, 0, 91, 182, 0, 199, 192, 0, 200, 76, 42, 180, 0, 135, 61, 42, 3, 181, 0, 135, 28]
abbrev dktX1_rule_0 : List UInt8 := dkwX1_rule_0 ++ dktX1_rule_1
theorem dksX1_rule_0 : cX1_rule.data.toList.drop 0 = dktX1_rule_0 := by decide +kernel
theorem dksX1_rule_1 : cX1_rule.data.toList.drop 22 = dktX1_rule_1 := dk_seg dksX1_rule_0 22 rfl rfl
theorem dksX1_rule_2 : cX1_rule.data.toList.drop 46 = dktX1_rule_2 := dk_seg dksX1_rule_1 24 rfl rfl
theorem dX1_rule_0 : decode cX1_rule 0 = .ok (.aload_n 0, 1) := dk_42 (dk_at dksX1_rule_0 0 rfl rfl)
theorem dX1_rule_1 : decode cX1_rule 1 = .ok (.getfield 91, 3) := dk_180 0 91 (dk_at dksX1_rule_0 1 rfl rfl)
theorem dX1_rule_4 : decode cX1_rule 4 = .ok (.invokevirtual 199, 3) := dk_182 0 199 (dk_at dksX1_rule_0 4 rfl rfl)
theorem dX1_rule_7 : decode cX1_rule 7 = .ok (.checkcast 200, 3) := dk_192 0 200 (dk_at dksX1_rule_0 7 rfl rfl)
theorem dX1_rule_10 : decode cX1_rule 10 = .ok (.astore_n 1, 1) := dk_76 (dk_at dksX1_rule_0 10 rfl rfl)
theorem dX1_rule_11 : decode cX1_rule 11 = .ok (.aload_n 0, 1) := dk_42 (dk_at dksX1_rule_0 11 rfl rfl)
theorem dX1_rule_12 : decode cX1_rule 12 = .ok (.getfield 135, 3) := dk_180 0 135 (dk_at dksX1_rule_0 12 rfl rfl)
theorem dX1_rule_15 : decode cX1_rule 15 = .ok (.istore_n 2, 1) := dk_61 (dk_at dksX1_rule_0 15 rfl rfl)
theorem dX1_rule_16 : decode cX1_rule 16 = .ok (.aload_n 0, 1) := dk_42 (dk_at dksX1_rule_0 16 rfl rfl)
theorem dX1_rule_17 : decode cX1_rule 17 = .ok (.iconst 0, 1) := dk_3 (dk_at dksX1_rule_0 17 rfl rfl)
theorem dX1_rule_18 : decode cX1_rule 18 = .ok (.putfield 135, 3) := dk_181 0 135 (dk_at dksX1_rule_0 18 rfl rfl)
theorem dX1_rule_21 : decode cX1_rule 21 = .ok (.iload_n 2, 1) := dk_28 (dk_at dksX1_rule_0 21 rfl rfl)
theorem dX1_rule_22 : decode cX1_rule 22 = .ok (.ifCond .ne 10, 3) := dk_154 0 10 (dk_at dksX1_rule_1 0 rfl rfl)
theorem dX1_rule_25 : decode cX1_rule 25 = .ok (.aload_n 0, 1) := dk_42 (dk_at dksX1_rule_1 3 rfl rfl)
theorem dX1_rule_26 : decode cX1_rule 26 = .ok (.aconst_null, 1) := dk_1 (dk_at dksX1_rule_1 4 rfl rfl)
theorem dX1_rule_27 : decode cX1_rule 27 = .ok (.putfield 204, 3) := dk_181 0 204 (dk_at dksX1_rule_1 5 rfl rfl)
theorem dX1_rule_30 : decode cX1_rule 30 = .ok (.iconst 0, 1) := dk_3 (dk_at dksX1_rule_1 8 rfl rfl)
theorem dX1_rule_31 : decode cX1_rule 31 = .ok (.ireturn, 1) := dk_172 (dk_at dksX1_rule_1 9 rfl rfl)
theorem dX1_rule_32 : decode cX1_rule 32 = .ok (.aload_n 0, 1) := dk_42 (dk_at dksX1_rule_1 10 rfl rfl)
theorem dX1_rule_33 : decode cX1_rule 33 = .ok (.new 208, 3) := dk_187 0 208 (dk_at dksX1_rule_1 11 rfl rfl)
theorem dX1_rule_36 : decode cX1_rule 36 = .ok (.dup, 1) := dk_89 (dk_at dksX1_rule_1 14 rfl rfl)
theorem dX1_rule_37 : decode cX1_rule 37 = .ok (.aload_n 0, 1) := dk_42 (dk_at dksX1_rule_1 15 rfl rfl)
theorem dX1_rule_38 : decode cX1_rule 38 = .ok (.aload_n 1, 1) := dk_43 (dk_at dksX1_rule_1 16 rfl rfl)
theorem dX1_rule_39 : decode cX1_rule 39 = .ok (.iload_n 2, 1) := dk_28 (dk_at dksX1_rule_1 17 rfl rfl)
theorem dX1_rule_40 : decode cX1_rule 40 = .ok (.invokespecial 210, 3) := dk_183 0 210 (dk_at dksX1_rule_1 18 rfl rfl)
theorem dX1_rule_43 : decode cX1_rule 43 = .ok (.invokevirtual 213, 3) := dk_182 0 213 (dk_at dksX1_rule_1 21 rfl rfl)
theorem dX1_rule_46 : decode cX1_rule 46 = .ok (.putfield 204, 3) := dk_181 0 204 (dk_at dksX1_rule_2 0 rfl rfl)
theorem dX1_rule_49 : decode cX1_rule 49 = .ok (.iconst 0, 1) := dk_3 (dk_at dksX1_rule_2 3 rfl rfl)
theorem dX1_rule_50 : decode cX1_rule 50 = .ok (.ireturn, 1) := dk_172 (dk_at dksX1_rule_2 4 rfl rfl)
theorem dX1_rule_51 : decode cX1_rule 51 = .ok (.astore_n 3, 1) := dk_78 (dk_at dksX1_rule_2 5 rfl rfl)
theorem dX1_rule_52 : decode cX1_rule 52 = .ok (.iconst (-1), 1) := dk_2 (dk_at dksX1_rule_2 6 rfl rfl)
theorem dX1_rule_53 : decode cX1_rule 53 = .ok (.aload_n 3, 1) := dk_45 (dk_at dksX1_rule_2 7 rfl rfl)
theorem dX1_rule_54 : decode cX1_rule 54 = .ok (.getfield 166, 3) := dk_180 0 166 (dk_at dksX1_rule_2 8 rfl rfl)
theorem dX1_rule_57 : decode cX1_rule 57 = .ok (.isub, 1) := dk_100 (dk_at dksX1_rule_2 11 rfl rfl)
theorem dX1_rule_58 : decode cX1_rule 58 = .ok (.ireturn, 1) := dk_172 (dk_at dksX1_rule_2 12 rfl rfl)
abbrev cX1_skyOf : ByteArray := prog_1_method_13_code
def yX1_skyOf : MethodName := ⟨RX1, "skyOf", "(I)I"⟩
def dkwX1_skyOf_0 : List UInt8 := [42, 180, 0, 87, 27, 42, 180, 0, 87, 190, 112, 51, 172]
abbrev dktX1_skyOf_0 : List UInt8 := dkwX1_skyOf_0 ++ []
theorem dksX1_skyOf_0 : cX1_skyOf.data.toList.drop 0 = dktX1_skyOf_0 := by decide +kernel
theorem dX1_skyOf_0 : decode cX1_skyOf 0 = .ok (.aload_n 0, 1) := dk_42 (dk_at dksX1_skyOf_0 0 rfl rfl)
theorem dX1_skyOf_1 : decode cX1_skyOf 1 = .ok (.getfield 87, 3) := dk_180 0 87 (dk_at dksX1_skyOf_0 1 rfl rfl)
theorem dX1_skyOf_4 : decode cX1_skyOf 4 = .ok (.iload_n 1, 1) := dk_27 (dk_at dksX1_skyOf_0 4 rfl rfl)
theorem dX1_skyOf_5 : decode cX1_skyOf 5 = .ok (.aload_n 0, 1) := dk_42 (dk_at dksX1_skyOf_0 5 rfl rfl)
theorem dX1_skyOf_6 : decode cX1_skyOf 6 = .ok (.getfield 87, 3) := dk_180 0 87 (dk_at dksX1_skyOf_0 6 rfl rfl)
theorem dX1_skyOf_9 : decode cX1_skyOf 9 = .ok (.arraylength, 1) := dk_190 (dk_at dksX1_skyOf_0 9 rfl rfl)
theorem dX1_skyOf_10 : decode cX1_skyOf 10 = .ok (.irem, 1) := dk_112 (dk_at dksX1_skyOf_0 10 rfl rfl)
theorem dX1_skyOf_11 : decode cX1_skyOf 11 = .ok (.baload, 1) := dk_51 (dk_at dksX1_skyOf_0 11 rfl rfl)
theorem dX1_skyOf_12 : decode cX1_skyOf 12 = .ok (.ireturn, 1) := dk_172 (dk_at dksX1_skyOf_0 12 rfl rfl)
abbrev cX1_set : ByteArray := prog_1_method_21_code
def yX1_set : MethodName := ⟨RX1, "set", "(II)I"⟩
def dkwX1_set_1 : List UInt8 := [42, 42, 180, 0, 49, 182, 1, 9, 42, 180, 0, 49, 27, 28, 184, 1, 13, 172]
abbrev dktX1_set_1 : List UInt8 := dkwX1_set_1 ++ []
def dkwX1_set_0 : List UInt8 := [27, 133, 9, 10, 184, 0, 129, 153, 0, 15, 28, 133, 9, 20, 1, 7, 184, 0, 129, 154, 0, 5, 2, 172]
abbrev dktX1_set_0 : List UInt8 := dkwX1_set_0 ++ dktX1_set_1
theorem dksX1_set_0 : cX1_set.data.toList.drop 0 = dktX1_set_0 := by decide +kernel
theorem dksX1_set_1 : cX1_set.data.toList.drop 24 = dktX1_set_1 := dk_seg dksX1_set_0 24 rfl rfl
theorem dX1_set_0 : decode cX1_set 0 = .ok (.iload_n 1, 1) := dk_27 (dk_at dksX1_set_0 0 rfl rfl)
theorem dX1_set_1 : decode cX1_set 1 = .ok (.i2l, 1) := dk_133 (dk_at dksX1_set_0 1 rfl rfl)
theorem dX1_set_2 : decode cX1_set 2 = .ok (.lconst 0, 1) := dk_9 (dk_at dksX1_set_0 2 rfl rfl)
theorem dX1_set_3 : decode cX1_set 3 = .ok (.lconst 1, 1) := dk_10 (dk_at dksX1_set_0 3 rfl rfl)
theorem dX1_set_4 : decode cX1_set 4 = .ok (.invokestatic 129, 3) := dk_184 0 129 (dk_at dksX1_set_0 4 rfl rfl)
theorem dX1_set_7 : decode cX1_set 7 = .ok (.ifCond .eq 15, 3) := dk_153 0 15 (dk_at dksX1_set_0 7 rfl rfl)
theorem dX1_set_10 : decode cX1_set 10 = .ok (.iload_n 2, 1) := dk_28 (dk_at dksX1_set_0 10 rfl rfl)
theorem dX1_set_11 : decode cX1_set 11 = .ok (.i2l, 1) := dk_133 (dk_at dksX1_set_0 11 rfl rfl)
theorem dX1_set_12 : decode cX1_set 12 = .ok (.lconst 0, 1) := dk_9 (dk_at dksX1_set_0 12 rfl rfl)
theorem dX1_set_13 : decode cX1_set 13 = .ok (.ldc2_w 263, 3) := dk_20 1 7 (dk_at dksX1_set_0 13 rfl rfl)
theorem dX1_set_16 : decode cX1_set 16 = .ok (.invokestatic 129, 3) := dk_184 0 129 (dk_at dksX1_set_0 16 rfl rfl)
theorem dX1_set_19 : decode cX1_set 19 = .ok (.ifCond .ne 5, 3) := dk_154 0 5 (dk_at dksX1_set_0 19 rfl rfl)
theorem dX1_set_22 : decode cX1_set 22 = .ok (.iconst (-1), 1) := dk_2 (dk_at dksX1_set_0 22 rfl rfl)
theorem dX1_set_23 : decode cX1_set 23 = .ok (.ireturn, 1) := dk_172 (dk_at dksX1_set_0 23 rfl rfl)
theorem dX1_set_24 : decode cX1_set 24 = .ok (.aload_n 0, 1) := dk_42 (dk_at dksX1_set_1 0 rfl rfl)
theorem dX1_set_25 : decode cX1_set 25 = .ok (.aload_n 0, 1) := dk_42 (dk_at dksX1_set_1 1 rfl rfl)
theorem dX1_set_26 : decode cX1_set 26 = .ok (.getfield 49, 3) := dk_180 0 49 (dk_at dksX1_set_1 2 rfl rfl)
theorem dX1_set_29 : decode cX1_set 29 = .ok (.invokevirtual 265, 3) := dk_182 1 9 (dk_at dksX1_set_1 5 rfl rfl)
theorem dX1_set_32 : decode cX1_set 32 = .ok (.aload_n 0, 1) := dk_42 (dk_at dksX1_set_1 8 rfl rfl)
theorem dX1_set_33 : decode cX1_set 33 = .ok (.getfield 49, 3) := dk_180 0 49 (dk_at dksX1_set_1 9 rfl rfl)
theorem dX1_set_36 : decode cX1_set 36 = .ok (.iload_n 1, 1) := dk_27 (dk_at dksX1_set_1 12 rfl rfl)
theorem dX1_set_37 : decode cX1_set 37 = .ok (.iload_n 2, 1) := dk_28 (dk_at dksX1_set_1 13 rfl rfl)
theorem dX1_set_38 : decode cX1_set 38 = .ok (.invokestatic 269, 3) := dk_184 1 13 (dk_at dksX1_set_1 14 rfl rfl)
theorem dX1_set_41 : decode cX1_set 41 = .ok (.ireturn, 1) := dk_172 (dk_at dksX1_set_1 17 rfl rfl)
abbrev cX1_remember : ByteArray := prog_1_method_25_code
def yX1_remember : MethodName := ⟨RX1, "remember", "(LTreesBeforeMen$Voyage;)V"⟩
def dkwX1_remember_3 : List UInt8 := [181, 0, 175, 177]
abbrev dktX1_remember_3 : List UInt8 := dkwX1_remember_3 ++ []
def dkwX1_remember_2 : List UInt8 := [181, 0, 175, 42, 180, 0, 62, 42, 180, 0, 175, 50, 43, 182, 1, 37, 42, 89, 180, 0, 175, 4, 96]
abbrev dktX1_remember_2 : List UInt8 := dkwX1_remember_2 ++ dktX1_remember_3
def dkwX1_remember_1 : List UInt8 := [180, 0, 62, 3, 16, 14, 184, 0, 186, 42, 180, 0, 62, 16, 14, 44, 83, 42, 89, 180, 0, 175, 4, 100]
abbrev dktX1_remember_1 : List UInt8 := dkwX1_remember_1 ++ dktX1_remember_2
def dkwX1_remember_0 : List UInt8 := [42, 180, 0, 175, 16, 15, 160, 0, 43, 42, 180, 0, 62, 3, 50, 77, 42, 180, 0, 62, 4, 42]
abbrev dktX1_remember_0 : List UInt8 := dkwX1_remember_0 ++ dktX1_remember_1
theorem dksX1_remember_0 : cX1_remember.data.toList.drop 0 = dktX1_remember_0 := by decide +kernel
theorem dksX1_remember_1 : cX1_remember.data.toList.drop 22 = dktX1_remember_1 := dk_seg dksX1_remember_0 22 rfl rfl
theorem dksX1_remember_2 : cX1_remember.data.toList.drop 46 = dktX1_remember_2 := dk_seg dksX1_remember_1 24 rfl rfl
theorem dksX1_remember_3 : cX1_remember.data.toList.drop 69 = dktX1_remember_3 := dk_seg dksX1_remember_2 23 rfl rfl
theorem dX1_remember_0 : decode cX1_remember 0 = .ok (.aload_n 0, 1) := dk_42 (dk_at dksX1_remember_0 0 rfl rfl)
theorem dX1_remember_1 : decode cX1_remember 1 = .ok (.getfield 175, 3) := dk_180 0 175 (dk_at dksX1_remember_0 1 rfl rfl)
theorem dX1_remember_4 : decode cX1_remember 4 = .ok (.bipush 15, 2) := dk_16 15 (dk_at dksX1_remember_0 4 rfl rfl)
theorem dX1_remember_6 : decode cX1_remember 6 = .ok (.if_icmp .ne 43, 3) := dk_160 0 43 (dk_at dksX1_remember_0 6 rfl rfl)
theorem dX1_remember_9 : decode cX1_remember 9 = .ok (.aload_n 0, 1) := dk_42 (dk_at dksX1_remember_0 9 rfl rfl)
theorem dX1_remember_10 : decode cX1_remember 10 = .ok (.getfield 62, 3) := dk_180 0 62 (dk_at dksX1_remember_0 10 rfl rfl)
theorem dX1_remember_13 : decode cX1_remember 13 = .ok (.iconst 0, 1) := dk_3 (dk_at dksX1_remember_0 13 rfl rfl)
theorem dX1_remember_14 : decode cX1_remember 14 = .ok (.aaload, 1) := dk_50 (dk_at dksX1_remember_0 14 rfl rfl)
theorem dX1_remember_15 : decode cX1_remember 15 = .ok (.astore_n 2, 1) := dk_77 (dk_at dksX1_remember_0 15 rfl rfl)
theorem dX1_remember_16 : decode cX1_remember 16 = .ok (.aload_n 0, 1) := dk_42 (dk_at dksX1_remember_0 16 rfl rfl)
theorem dX1_remember_17 : decode cX1_remember 17 = .ok (.getfield 62, 3) := dk_180 0 62 (dk_at dksX1_remember_0 17 rfl rfl)
theorem dX1_remember_20 : decode cX1_remember 20 = .ok (.iconst 1, 1) := dk_4 (dk_at dksX1_remember_0 20 rfl rfl)
theorem dX1_remember_21 : decode cX1_remember 21 = .ok (.aload_n 0, 1) := dk_42 (dk_at dksX1_remember_0 21 rfl rfl)
theorem dX1_remember_22 : decode cX1_remember 22 = .ok (.getfield 62, 3) := dk_180 0 62 (dk_at dksX1_remember_1 0 rfl rfl)
theorem dX1_remember_25 : decode cX1_remember 25 = .ok (.iconst 0, 1) := dk_3 (dk_at dksX1_remember_1 3 rfl rfl)
theorem dX1_remember_26 : decode cX1_remember 26 = .ok (.bipush 14, 2) := dk_16 14 (dk_at dksX1_remember_1 4 rfl rfl)
theorem dX1_remember_28 : decode cX1_remember 28 = .ok (.invokestatic 186, 3) := dk_184 0 186 (dk_at dksX1_remember_1 6 rfl rfl)
theorem dX1_remember_31 : decode cX1_remember 31 = .ok (.aload_n 0, 1) := dk_42 (dk_at dksX1_remember_1 9 rfl rfl)
theorem dX1_remember_32 : decode cX1_remember 32 = .ok (.getfield 62, 3) := dk_180 0 62 (dk_at dksX1_remember_1 10 rfl rfl)
theorem dX1_remember_35 : decode cX1_remember 35 = .ok (.bipush 14, 2) := dk_16 14 (dk_at dksX1_remember_1 13 rfl rfl)
theorem dX1_remember_37 : decode cX1_remember 37 = .ok (.aload_n 2, 1) := dk_44 (dk_at dksX1_remember_1 15 rfl rfl)
theorem dX1_remember_38 : decode cX1_remember 38 = .ok (.aastore, 1) := dk_83 (dk_at dksX1_remember_1 16 rfl rfl)
theorem dX1_remember_39 : decode cX1_remember 39 = .ok (.aload_n 0, 1) := dk_42 (dk_at dksX1_remember_1 17 rfl rfl)
theorem dX1_remember_40 : decode cX1_remember 40 = .ok (.dup, 1) := dk_89 (dk_at dksX1_remember_1 18 rfl rfl)
theorem dX1_remember_41 : decode cX1_remember 41 = .ok (.getfield 175, 3) := dk_180 0 175 (dk_at dksX1_remember_1 19 rfl rfl)
theorem dX1_remember_44 : decode cX1_remember 44 = .ok (.iconst 1, 1) := dk_4 (dk_at dksX1_remember_1 22 rfl rfl)
theorem dX1_remember_45 : decode cX1_remember 45 = .ok (.isub, 1) := dk_100 (dk_at dksX1_remember_1 23 rfl rfl)
theorem dX1_remember_46 : decode cX1_remember 46 = .ok (.putfield 175, 3) := dk_181 0 175 (dk_at dksX1_remember_2 0 rfl rfl)
theorem dX1_remember_49 : decode cX1_remember 49 = .ok (.aload_n 0, 1) := dk_42 (dk_at dksX1_remember_2 3 rfl rfl)
theorem dX1_remember_50 : decode cX1_remember 50 = .ok (.getfield 62, 3) := dk_180 0 62 (dk_at dksX1_remember_2 4 rfl rfl)
theorem dX1_remember_53 : decode cX1_remember 53 = .ok (.aload_n 0, 1) := dk_42 (dk_at dksX1_remember_2 7 rfl rfl)
theorem dX1_remember_54 : decode cX1_remember 54 = .ok (.getfield 175, 3) := dk_180 0 175 (dk_at dksX1_remember_2 8 rfl rfl)
theorem dX1_remember_57 : decode cX1_remember 57 = .ok (.aaload, 1) := dk_50 (dk_at dksX1_remember_2 11 rfl rfl)
theorem dX1_remember_58 : decode cX1_remember 58 = .ok (.aload_n 1, 1) := dk_43 (dk_at dksX1_remember_2 12 rfl rfl)
theorem dX1_remember_59 : decode cX1_remember 59 = .ok (.invokevirtual 293, 3) := dk_182 1 37 (dk_at dksX1_remember_2 13 rfl rfl)
theorem dX1_remember_62 : decode cX1_remember 62 = .ok (.aload_n 0, 1) := dk_42 (dk_at dksX1_remember_2 16 rfl rfl)
theorem dX1_remember_63 : decode cX1_remember 63 = .ok (.dup, 1) := dk_89 (dk_at dksX1_remember_2 17 rfl rfl)
theorem dX1_remember_64 : decode cX1_remember 64 = .ok (.getfield 175, 3) := dk_180 0 175 (dk_at dksX1_remember_2 18 rfl rfl)
theorem dX1_remember_67 : decode cX1_remember 67 = .ok (.iconst 1, 1) := dk_4 (dk_at dksX1_remember_2 21 rfl rfl)
theorem dX1_remember_68 : decode cX1_remember 68 = .ok (.iadd, 1) := dk_96 (dk_at dksX1_remember_2 22 rfl rfl)
theorem dX1_remember_69 : decode cX1_remember 69 = .ok (.putfield 175, 3) := dk_181 0 175 (dk_at dksX1_remember_3 0 rfl rfl)
theorem dX1_remember_72 : decode cX1_remember 72 = .ok (.return_, 1) := dk_177 (dk_at dksX1_remember_3 3 rfl rfl)
abbrev cX1_setTo : ByteArray := prog_1_method_20_code
def yX1_setTo : MethodName := ⟨RX1, "setTo", "(LTreesBeforeMen$Voyage;II)I"⟩
def dkwX1_setTo_1 : List UInt8 := [181, 1, 1, 167, 0, 8, 42, 28, 181, 1, 4, 29, 172]
abbrev dktX1_setTo_1 : List UInt8 := dkwX1_setTo_1 ++ []
def dkwX1_setTo_0 : List UInt8 := [27, 154, 0, 10, 42, 180, 1, 1, 167, 0, 7, 42, 180, 1, 4, 62, 27, 154, 0, 11, 42, 28]
abbrev dktX1_setTo_0 : List UInt8 := dkwX1_setTo_0 ++ dktX1_setTo_1
theorem dksX1_setTo_0 : cX1_setTo.data.toList.drop 0 = dktX1_setTo_0 := by decide +kernel
theorem dksX1_setTo_1 : cX1_setTo.data.toList.drop 22 = dktX1_setTo_1 := dk_seg dksX1_setTo_0 22 rfl rfl
theorem dX1_setTo_0 : decode cX1_setTo 0 = .ok (.iload_n 1, 1) := dk_27 (dk_at dksX1_setTo_0 0 rfl rfl)
theorem dX1_setTo_1 : decode cX1_setTo 1 = .ok (.ifCond .ne 10, 3) := dk_154 0 10 (dk_at dksX1_setTo_0 1 rfl rfl)
theorem dX1_setTo_4 : decode cX1_setTo 4 = .ok (.aload_n 0, 1) := dk_42 (dk_at dksX1_setTo_0 4 rfl rfl)
theorem dX1_setTo_5 : decode cX1_setTo 5 = .ok (.getfield 257, 3) := dk_180 1 1 (dk_at dksX1_setTo_0 5 rfl rfl)
theorem dX1_setTo_8 : decode cX1_setTo 8 = .ok (.goto 7, 3) := dk_167 0 7 (dk_at dksX1_setTo_0 8 rfl rfl)
theorem dX1_setTo_11 : decode cX1_setTo 11 = .ok (.aload_n 0, 1) := dk_42 (dk_at dksX1_setTo_0 11 rfl rfl)
theorem dX1_setTo_12 : decode cX1_setTo 12 = .ok (.getfield 260, 3) := dk_180 1 4 (dk_at dksX1_setTo_0 12 rfl rfl)
theorem dX1_setTo_15 : decode cX1_setTo 15 = .ok (.istore_n 3, 1) := dk_62 (dk_at dksX1_setTo_0 15 rfl rfl)
theorem dX1_setTo_16 : decode cX1_setTo 16 = .ok (.iload_n 1, 1) := dk_27 (dk_at dksX1_setTo_0 16 rfl rfl)
theorem dX1_setTo_17 : decode cX1_setTo 17 = .ok (.ifCond .ne 11, 3) := dk_154 0 11 (dk_at dksX1_setTo_0 17 rfl rfl)
theorem dX1_setTo_20 : decode cX1_setTo 20 = .ok (.aload_n 0, 1) := dk_42 (dk_at dksX1_setTo_0 20 rfl rfl)
theorem dX1_setTo_21 : decode cX1_setTo 21 = .ok (.iload_n 2, 1) := dk_28 (dk_at dksX1_setTo_0 21 rfl rfl)
theorem dX1_setTo_22 : decode cX1_setTo 22 = .ok (.putfield 257, 3) := dk_181 1 1 (dk_at dksX1_setTo_1 0 rfl rfl)
theorem dX1_setTo_25 : decode cX1_setTo 25 = .ok (.goto 8, 3) := dk_167 0 8 (dk_at dksX1_setTo_1 3 rfl rfl)
theorem dX1_setTo_28 : decode cX1_setTo 28 = .ok (.aload_n 0, 1) := dk_42 (dk_at dksX1_setTo_1 6 rfl rfl)
theorem dX1_setTo_29 : decode cX1_setTo 29 = .ok (.iload_n 2, 1) := dk_28 (dk_at dksX1_setTo_1 7 rfl rfl)
theorem dX1_setTo_30 : decode cX1_setTo 30 = .ok (.putfield 260, 3) := dk_181 1 4 (dk_at dksX1_setTo_1 8 rfl rfl)
theorem dX1_setTo_33 : decode cX1_setTo 33 = .ok (.iload_n 3, 1) := dk_29 (dk_at dksX1_setTo_1 11 rfl rfl)
theorem dX1_setTo_34 : decode cX1_setTo 34 = .ok (.ireturn, 1) := dk_172 (dk_at dksX1_setTo_1 12 rfl rfl)
abbrev cX1_sheet : ByteArray := prog_1_method_24_code
def yX1_sheet : MethodName := ⟨RX1, "sheet", "(IIII)I"⟩
def dkwX1_sheet_5 : List UInt8 := [54, 6, 132, 7, 1, 167, 255, 188, 25, 5, 199, 0, 8, 16, 253, 167, 0, 5, 21, 6, 172]
abbrev dktX1_sheet_5 : List UInt8 := dkwX1_sheet_5 ++ []
def dkwX1_sheet_4 : List UInt8 := [184, 1, 25, 184, 1, 29, 184, 1, 34, 79, 21, 6, 42, 180, 0, 49, 180, 0, 169, 21, 7, 46, 96]
abbrev dktX1_sheet_4 : List UInt8 := dkwX1_sheet_4 ++ dktX1_sheet_5
def dkwX1_sheet_3 : List UInt8 := [25, 5, 198, 0, 9, 21, 7, 28, 161, 0, 7, 3, 167, 0, 19, 3, 16, 99, 25, 5, 21, 7]
abbrev dktX1_sheet_3 : List UInt8 := dkwX1_sheet_3 ++ dktX1_sheet_4
def dkwX1_sheet_2 : List UInt8 := [54, 6, 3, 54, 7, 21, 7, 42, 180, 0, 126, 162, 0, 65, 42, 180, 0, 49, 180, 0, 169, 21, 7]
abbrev dktX1_sheet_2 : List UInt8 := dkwX1_sheet_2 ++ dktX1_sheet_3
def dkwX1_sheet_1 : List UInt8 := [6, 162, 0, 21, 27, 28, 29, 21, 4, 184, 1, 19, 58, 5, 167, 0, 8, 58, 6, 16, 254, 172, 3]
abbrev dktX1_sheet_1 : List UInt8 := dkwX1_sheet_1 ++ dktX1_sheet_2
def dkwX1_sheet_0 : List UInt8 := [27, 133, 9, 20, 0, 255, 184, 0, 129, 153, 0, 9, 28, 16, 8, 164, 0, 5, 2, 172, 1, 58, 5, 27]
abbrev dktX1_sheet_0 : List UInt8 := dkwX1_sheet_0 ++ dktX1_sheet_1
theorem dksX1_sheet_0 : cX1_sheet.data.toList.drop 0 = dktX1_sheet_0 := by decide +kernel
theorem dksX1_sheet_1 : cX1_sheet.data.toList.drop 24 = dktX1_sheet_1 := dk_seg dksX1_sheet_0 24 rfl rfl
theorem dksX1_sheet_2 : cX1_sheet.data.toList.drop 47 = dktX1_sheet_2 := dk_seg dksX1_sheet_1 23 rfl rfl
theorem dksX1_sheet_3 : cX1_sheet.data.toList.drop 70 = dktX1_sheet_3 := dk_seg dksX1_sheet_2 23 rfl rfl
theorem dksX1_sheet_4 : cX1_sheet.data.toList.drop 92 = dktX1_sheet_4 := dk_seg dksX1_sheet_3 22 rfl rfl
theorem dksX1_sheet_5 : cX1_sheet.data.toList.drop 115 = dktX1_sheet_5 := dk_seg dksX1_sheet_4 23 rfl rfl
theorem dX1_sheet_0 : decode cX1_sheet 0 = .ok (.iload_n 1, 1) := dk_27 (dk_at dksX1_sheet_0 0 rfl rfl)
theorem dX1_sheet_1 : decode cX1_sheet 1 = .ok (.i2l, 1) := dk_133 (dk_at dksX1_sheet_0 1 rfl rfl)
theorem dX1_sheet_2 : decode cX1_sheet 2 = .ok (.lconst 0, 1) := dk_9 (dk_at dksX1_sheet_0 2 rfl rfl)
theorem dX1_sheet_3 : decode cX1_sheet 3 = .ok (.ldc2_w 255, 3) := dk_20 0 255 (dk_at dksX1_sheet_0 3 rfl rfl)
theorem dX1_sheet_6 : decode cX1_sheet 6 = .ok (.invokestatic 129, 3) := dk_184 0 129 (dk_at dksX1_sheet_0 6 rfl rfl)
theorem dX1_sheet_9 : decode cX1_sheet 9 = .ok (.ifCond .eq 9, 3) := dk_153 0 9 (dk_at dksX1_sheet_0 9 rfl rfl)
theorem dX1_sheet_12 : decode cX1_sheet 12 = .ok (.iload_n 2, 1) := dk_28 (dk_at dksX1_sheet_0 12 rfl rfl)
theorem dX1_sheet_13 : decode cX1_sheet 13 = .ok (.bipush 8, 2) := dk_16 8 (dk_at dksX1_sheet_0 13 rfl rfl)
theorem dX1_sheet_15 : decode cX1_sheet 15 = .ok (.if_icmp .le 5, 3) := dk_164 0 5 (dk_at dksX1_sheet_0 15 rfl rfl)
theorem dX1_sheet_18 : decode cX1_sheet 18 = .ok (.iconst (-1), 1) := dk_2 (dk_at dksX1_sheet_0 18 rfl rfl)
theorem dX1_sheet_19 : decode cX1_sheet 19 = .ok (.ireturn, 1) := dk_172 (dk_at dksX1_sheet_0 19 rfl rfl)
theorem dX1_sheet_20 : decode cX1_sheet 20 = .ok (.aconst_null, 1) := dk_1 (dk_at dksX1_sheet_0 20 rfl rfl)
theorem dX1_sheet_21 : decode cX1_sheet 21 = .ok (.astore 5, 2) := dk_58 5 (dk_at dksX1_sheet_0 21 rfl rfl)
theorem dX1_sheet_23 : decode cX1_sheet 23 = .ok (.iload_n 1, 1) := dk_27 (dk_at dksX1_sheet_0 23 rfl rfl)
theorem dX1_sheet_24 : decode cX1_sheet 24 = .ok (.iconst 3, 1) := dk_6 (dk_at dksX1_sheet_1 0 rfl rfl)
theorem dX1_sheet_25 : decode cX1_sheet 25 = .ok (.if_icmp .ge 21, 3) := dk_162 0 21 (dk_at dksX1_sheet_1 1 rfl rfl)
theorem dX1_sheet_28 : decode cX1_sheet 28 = .ok (.iload_n 1, 1) := dk_27 (dk_at dksX1_sheet_1 4 rfl rfl)
theorem dX1_sheet_29 : decode cX1_sheet 29 = .ok (.iload_n 2, 1) := dk_28 (dk_at dksX1_sheet_1 5 rfl rfl)
theorem dX1_sheet_30 : decode cX1_sheet 30 = .ok (.iload_n 3, 1) := dk_29 (dk_at dksX1_sheet_1 6 rfl rfl)
theorem dX1_sheet_31 : decode cX1_sheet 31 = .ok (.iload 4, 2) := dk_21 4 (dk_at dksX1_sheet_1 7 rfl rfl)
theorem dX1_sheet_33 : decode cX1_sheet 33 = .ok (.invokestatic 275, 3) := dk_184 1 19 (dk_at dksX1_sheet_1 9 rfl rfl)
theorem dX1_sheet_36 : decode cX1_sheet 36 = .ok (.astore 5, 2) := dk_58 5 (dk_at dksX1_sheet_1 12 rfl rfl)
theorem dX1_sheet_38 : decode cX1_sheet 38 = .ok (.goto 8, 3) := dk_167 0 8 (dk_at dksX1_sheet_1 14 rfl rfl)
theorem dX1_sheet_41 : decode cX1_sheet 41 = .ok (.astore 6, 2) := dk_58 6 (dk_at dksX1_sheet_1 17 rfl rfl)
theorem dX1_sheet_43 : decode cX1_sheet 43 = .ok (.bipush (-2), 2) := dk_16 254 (dk_at dksX1_sheet_1 19 rfl rfl)
theorem dX1_sheet_45 : decode cX1_sheet 45 = .ok (.ireturn, 1) := dk_172 (dk_at dksX1_sheet_1 21 rfl rfl)
theorem dX1_sheet_46 : decode cX1_sheet 46 = .ok (.iconst 0, 1) := dk_3 (dk_at dksX1_sheet_1 22 rfl rfl)
theorem dX1_sheet_47 : decode cX1_sheet 47 = .ok (.istore 6, 2) := dk_54 6 (dk_at dksX1_sheet_2 0 rfl rfl)
theorem dX1_sheet_49 : decode cX1_sheet 49 = .ok (.iconst 0, 1) := dk_3 (dk_at dksX1_sheet_2 2 rfl rfl)
theorem dX1_sheet_50 : decode cX1_sheet 50 = .ok (.istore 7, 2) := dk_54 7 (dk_at dksX1_sheet_2 3 rfl rfl)
theorem dX1_sheet_52 : decode cX1_sheet 52 = .ok (.iload 7, 2) := dk_21 7 (dk_at dksX1_sheet_2 5 rfl rfl)
theorem dX1_sheet_54 : decode cX1_sheet 54 = .ok (.aload_n 0, 1) := dk_42 (dk_at dksX1_sheet_2 7 rfl rfl)
theorem dX1_sheet_55 : decode cX1_sheet 55 = .ok (.getfield 126, 3) := dk_180 0 126 (dk_at dksX1_sheet_2 8 rfl rfl)
theorem dX1_sheet_58 : decode cX1_sheet 58 = .ok (.if_icmp .ge 65, 3) := dk_162 0 65 (dk_at dksX1_sheet_2 11 rfl rfl)
theorem dX1_sheet_61 : decode cX1_sheet 61 = .ok (.aload_n 0, 1) := dk_42 (dk_at dksX1_sheet_2 14 rfl rfl)
theorem dX1_sheet_62 : decode cX1_sheet 62 = .ok (.getfield 49, 3) := dk_180 0 49 (dk_at dksX1_sheet_2 15 rfl rfl)
theorem dX1_sheet_65 : decode cX1_sheet 65 = .ok (.getfield 169, 3) := dk_180 0 169 (dk_at dksX1_sheet_2 18 rfl rfl)
theorem dX1_sheet_68 : decode cX1_sheet 68 = .ok (.iload 7, 2) := dk_21 7 (dk_at dksX1_sheet_2 21 rfl rfl)
theorem dX1_sheet_70 : decode cX1_sheet 70 = .ok (.aload 5, 2) := dk_25 5 (dk_at dksX1_sheet_3 0 rfl rfl)
theorem dX1_sheet_72 : decode cX1_sheet 72 = .ok (.ifnull 9, 3) := dk_198 0 9 (dk_at dksX1_sheet_3 2 rfl rfl)
theorem dX1_sheet_75 : decode cX1_sheet 75 = .ok (.iload 7, 2) := dk_21 7 (dk_at dksX1_sheet_3 5 rfl rfl)
theorem dX1_sheet_77 : decode cX1_sheet 77 = .ok (.iload_n 2, 1) := dk_28 (dk_at dksX1_sheet_3 7 rfl rfl)
theorem dX1_sheet_78 : decode cX1_sheet 78 = .ok (.if_icmp .lt 7, 3) := dk_161 0 7 (dk_at dksX1_sheet_3 8 rfl rfl)
theorem dX1_sheet_81 : decode cX1_sheet 81 = .ok (.iconst 0, 1) := dk_3 (dk_at dksX1_sheet_3 11 rfl rfl)
theorem dX1_sheet_82 : decode cX1_sheet 82 = .ok (.goto 19, 3) := dk_167 0 19 (dk_at dksX1_sheet_3 12 rfl rfl)
theorem dX1_sheet_85 : decode cX1_sheet 85 = .ok (.iconst 0, 1) := dk_3 (dk_at dksX1_sheet_3 15 rfl rfl)
theorem dX1_sheet_86 : decode cX1_sheet 86 = .ok (.bipush 99, 2) := dk_16 99 (dk_at dksX1_sheet_3 16 rfl rfl)
theorem dX1_sheet_88 : decode cX1_sheet 88 = .ok (.aload 5, 2) := dk_25 5 (dk_at dksX1_sheet_3 18 rfl rfl)
theorem dX1_sheet_90 : decode cX1_sheet 90 = .ok (.iload 7, 2) := dk_21 7 (dk_at dksX1_sheet_3 20 rfl rfl)
theorem dX1_sheet_92 : decode cX1_sheet 92 = .ok (.invokestatic 281, 3) := dk_184 1 25 (dk_at dksX1_sheet_4 0 rfl rfl)
theorem dX1_sheet_95 : decode cX1_sheet 95 = .ok (.invokestatic 285, 3) := dk_184 1 29 (dk_at dksX1_sheet_4 3 rfl rfl)
theorem dX1_sheet_98 : decode cX1_sheet 98 = .ok (.invokestatic 290, 3) := dk_184 1 34 (dk_at dksX1_sheet_4 6 rfl rfl)
theorem dX1_sheet_101 : decode cX1_sheet 101 = .ok (.iastore, 1) := dk_79 (dk_at dksX1_sheet_4 9 rfl rfl)
theorem dX1_sheet_102 : decode cX1_sheet 102 = .ok (.iload 6, 2) := dk_21 6 (dk_at dksX1_sheet_4 10 rfl rfl)
theorem dX1_sheet_104 : decode cX1_sheet 104 = .ok (.aload_n 0, 1) := dk_42 (dk_at dksX1_sheet_4 12 rfl rfl)
theorem dX1_sheet_105 : decode cX1_sheet 105 = .ok (.getfield 49, 3) := dk_180 0 49 (dk_at dksX1_sheet_4 13 rfl rfl)
theorem dX1_sheet_108 : decode cX1_sheet 108 = .ok (.getfield 169, 3) := dk_180 0 169 (dk_at dksX1_sheet_4 16 rfl rfl)
theorem dX1_sheet_111 : decode cX1_sheet 111 = .ok (.iload 7, 2) := dk_21 7 (dk_at dksX1_sheet_4 19 rfl rfl)
theorem dX1_sheet_113 : decode cX1_sheet 113 = .ok (.iaload, 1) := dk_46 (dk_at dksX1_sheet_4 21 rfl rfl)
theorem dX1_sheet_114 : decode cX1_sheet 114 = .ok (.iadd, 1) := dk_96 (dk_at dksX1_sheet_4 22 rfl rfl)
theorem dX1_sheet_115 : decode cX1_sheet 115 = .ok (.istore 6, 2) := dk_54 6 (dk_at dksX1_sheet_5 0 rfl rfl)
theorem dX1_sheet_117 : decode cX1_sheet 117 = .ok (.iinc 7 1, 3) := dk_132 7 1 (dk_at dksX1_sheet_5 2 rfl rfl)
theorem dX1_sheet_120 : decode cX1_sheet 120 = .ok (.goto (-68), 3) := dk_167 255 188 (dk_at dksX1_sheet_5 5 rfl rfl)
theorem dX1_sheet_123 : decode cX1_sheet 123 = .ok (.aload 5, 2) := dk_25 5 (dk_at dksX1_sheet_5 8 rfl rfl)
theorem dX1_sheet_125 : decode cX1_sheet 125 = .ok (.ifnonnull 8, 3) := dk_199 0 8 (dk_at dksX1_sheet_5 10 rfl rfl)
theorem dX1_sheet_128 : decode cX1_sheet 128 = .ok (.bipush (-3), 2) := dk_16 253 (dk_at dksX1_sheet_5 13 rfl rfl)
theorem dX1_sheet_130 : decode cX1_sheet 130 = .ok (.goto 5, 3) := dk_167 0 5 (dk_at dksX1_sheet_5 15 rfl rfl)
theorem dX1_sheet_133 : decode cX1_sheet 133 = .ok (.iload 6, 2) := dk_21 6 (dk_at dksX1_sheet_5 18 rfl rfl)
theorem dX1_sheet_135 : decode cX1_sheet 135 = .ok (.ireturn, 1) := dk_172 (dk_at dksX1_sheet_5 20 rfl rfl)
abbrev cX1_rowOf : ByteArray := prog_1_method_22_code
def yX1_rowOf : MethodName := ⟨RX1, "rowOf", "(IIII)Ljava/lang/Object;"⟩
def dkwX1_rowOf_5 : List UInt8 := [167, 255, 234, 25, 5, 176]
abbrev dktX1_rowOf_5 : List UInt8 := dkwX1_rowOf_5 ++ []
def dkwX1_rowOf_4 : List UInt8 := [21, 6, 27, 162, 0, 22, 25, 5, 21, 6, 21, 4, 79, 132, 6, 1, 21, 4, 29, 96, 54, 4]
abbrev dktX1_rowOf_4 : List UInt8 := dkwX1_rowOf_4 ++ dktX1_rowOf_5
def dkwX1_rowOf_3 : List UInt8 := [86, 132, 6, 1, 21, 4, 29, 96, 54, 4, 167, 255, 233, 25, 5, 176, 27, 188, 10, 58, 5, 3, 54, 6]
abbrev dktX1_rowOf_3 : List UInt8 := dkwX1_rowOf_3 ++ dktX1_rowOf_4
def dkwX1_rowOf_2 : List UInt8 := [160, 0, 40, 27, 188, 9, 58, 5, 3, 54, 6, 21, 6, 27, 162, 0, 23, 25, 5, 21, 6, 21, 4, 147]
abbrev dktX1_rowOf_2 : List UInt8 := dkwX1_rowOf_2 ++ dktX1_rowOf_3
def dkwX1_rowOf_1 : List UInt8 := [21, 6, 21, 4, 145, 84, 132, 6, 1, 21, 4, 29, 96, 54, 4, 167, 255, 233, 25, 5, 176, 26, 4]
abbrev dktX1_rowOf_1 : List UInt8 := dkwX1_rowOf_1 ++ dktX1_rowOf_2
def dkwX1_rowOf_0 : List UInt8 := [28, 54, 4, 26, 154, 0, 40, 27, 188, 8, 58, 5, 3, 54, 6, 21, 6, 27, 162, 0, 23, 25, 5]
abbrev dktX1_rowOf_0 : List UInt8 := dkwX1_rowOf_0 ++ dktX1_rowOf_1
theorem dksX1_rowOf_0 : cX1_rowOf.data.toList.drop 0 = dktX1_rowOf_0 := by decide +kernel
theorem dksX1_rowOf_1 : cX1_rowOf.data.toList.drop 23 = dktX1_rowOf_1 := dk_seg dksX1_rowOf_0 23 rfl rfl
theorem dksX1_rowOf_2 : cX1_rowOf.data.toList.drop 46 = dktX1_rowOf_2 := dk_seg dksX1_rowOf_1 23 rfl rfl
theorem dksX1_rowOf_3 : cX1_rowOf.data.toList.drop 70 = dktX1_rowOf_3 := dk_seg dksX1_rowOf_2 24 rfl rfl
theorem dksX1_rowOf_4 : cX1_rowOf.data.toList.drop 94 = dktX1_rowOf_4 := dk_seg dksX1_rowOf_3 24 rfl rfl
theorem dksX1_rowOf_5 : cX1_rowOf.data.toList.drop 116 = dktX1_rowOf_5 := dk_seg dksX1_rowOf_4 22 rfl rfl
theorem dX1_rowOf_0 : decode cX1_rowOf 0 = .ok (.iload_n 2, 1) := dk_28 (dk_at dksX1_rowOf_0 0 rfl rfl)
theorem dX1_rowOf_1 : decode cX1_rowOf 1 = .ok (.istore 4, 2) := dk_54 4 (dk_at dksX1_rowOf_0 1 rfl rfl)
theorem dX1_rowOf_3 : decode cX1_rowOf 3 = .ok (.iload_n 0, 1) := dk_26 (dk_at dksX1_rowOf_0 3 rfl rfl)
theorem dX1_rowOf_4 : decode cX1_rowOf 4 = .ok (.ifCond .ne 40, 3) := dk_154 0 40 (dk_at dksX1_rowOf_0 4 rfl rfl)
theorem dX1_rowOf_7 : decode cX1_rowOf 7 = .ok (.iload_n 1, 1) := dk_27 (dk_at dksX1_rowOf_0 7 rfl rfl)
theorem dX1_rowOf_8 : decode cX1_rowOf 8 = .ok (.newarray .byte, 2) := dk_188_8 (dk_at dksX1_rowOf_0 8 rfl rfl)
theorem dX1_rowOf_10 : decode cX1_rowOf 10 = .ok (.astore 5, 2) := dk_58 5 (dk_at dksX1_rowOf_0 10 rfl rfl)
theorem dX1_rowOf_12 : decode cX1_rowOf 12 = .ok (.iconst 0, 1) := dk_3 (dk_at dksX1_rowOf_0 12 rfl rfl)
theorem dX1_rowOf_13 : decode cX1_rowOf 13 = .ok (.istore 6, 2) := dk_54 6 (dk_at dksX1_rowOf_0 13 rfl rfl)
theorem dX1_rowOf_15 : decode cX1_rowOf 15 = .ok (.iload 6, 2) := dk_21 6 (dk_at dksX1_rowOf_0 15 rfl rfl)
theorem dX1_rowOf_17 : decode cX1_rowOf 17 = .ok (.iload_n 1, 1) := dk_27 (dk_at dksX1_rowOf_0 17 rfl rfl)
theorem dX1_rowOf_18 : decode cX1_rowOf 18 = .ok (.if_icmp .ge 23, 3) := dk_162 0 23 (dk_at dksX1_rowOf_0 18 rfl rfl)
theorem dX1_rowOf_21 : decode cX1_rowOf 21 = .ok (.aload 5, 2) := dk_25 5 (dk_at dksX1_rowOf_0 21 rfl rfl)
theorem dX1_rowOf_23 : decode cX1_rowOf 23 = .ok (.iload 6, 2) := dk_21 6 (dk_at dksX1_rowOf_1 0 rfl rfl)
theorem dX1_rowOf_25 : decode cX1_rowOf 25 = .ok (.iload 4, 2) := dk_21 4 (dk_at dksX1_rowOf_1 2 rfl rfl)
theorem dX1_rowOf_27 : decode cX1_rowOf 27 = .ok (.i2b, 1) := dk_145 (dk_at dksX1_rowOf_1 4 rfl rfl)
theorem dX1_rowOf_28 : decode cX1_rowOf 28 = .ok (.bastore, 1) := dk_84 (dk_at dksX1_rowOf_1 5 rfl rfl)
theorem dX1_rowOf_29 : decode cX1_rowOf 29 = .ok (.iinc 6 1, 3) := dk_132 6 1 (dk_at dksX1_rowOf_1 6 rfl rfl)
theorem dX1_rowOf_32 : decode cX1_rowOf 32 = .ok (.iload 4, 2) := dk_21 4 (dk_at dksX1_rowOf_1 9 rfl rfl)
theorem dX1_rowOf_34 : decode cX1_rowOf 34 = .ok (.iload_n 3, 1) := dk_29 (dk_at dksX1_rowOf_1 11 rfl rfl)
theorem dX1_rowOf_35 : decode cX1_rowOf 35 = .ok (.iadd, 1) := dk_96 (dk_at dksX1_rowOf_1 12 rfl rfl)
theorem dX1_rowOf_36 : decode cX1_rowOf 36 = .ok (.istore 4, 2) := dk_54 4 (dk_at dksX1_rowOf_1 13 rfl rfl)
theorem dX1_rowOf_38 : decode cX1_rowOf 38 = .ok (.goto (-23), 3) := dk_167 255 233 (dk_at dksX1_rowOf_1 15 rfl rfl)
theorem dX1_rowOf_41 : decode cX1_rowOf 41 = .ok (.aload 5, 2) := dk_25 5 (dk_at dksX1_rowOf_1 18 rfl rfl)
theorem dX1_rowOf_43 : decode cX1_rowOf 43 = .ok (.areturn, 1) := dk_176 (dk_at dksX1_rowOf_1 20 rfl rfl)
theorem dX1_rowOf_44 : decode cX1_rowOf 44 = .ok (.iload_n 0, 1) := dk_26 (dk_at dksX1_rowOf_1 21 rfl rfl)
theorem dX1_rowOf_45 : decode cX1_rowOf 45 = .ok (.iconst 1, 1) := dk_4 (dk_at dksX1_rowOf_1 22 rfl rfl)
theorem dX1_rowOf_46 : decode cX1_rowOf 46 = .ok (.if_icmp .ne 40, 3) := dk_160 0 40 (dk_at dksX1_rowOf_2 0 rfl rfl)
theorem dX1_rowOf_49 : decode cX1_rowOf 49 = .ok (.iload_n 1, 1) := dk_27 (dk_at dksX1_rowOf_2 3 rfl rfl)
theorem dX1_rowOf_50 : decode cX1_rowOf 50 = .ok (.newarray .short, 2) := dk_188_9 (dk_at dksX1_rowOf_2 4 rfl rfl)
theorem dX1_rowOf_52 : decode cX1_rowOf 52 = .ok (.astore 5, 2) := dk_58 5 (dk_at dksX1_rowOf_2 6 rfl rfl)
theorem dX1_rowOf_54 : decode cX1_rowOf 54 = .ok (.iconst 0, 1) := dk_3 (dk_at dksX1_rowOf_2 8 rfl rfl)
theorem dX1_rowOf_55 : decode cX1_rowOf 55 = .ok (.istore 6, 2) := dk_54 6 (dk_at dksX1_rowOf_2 9 rfl rfl)
theorem dX1_rowOf_57 : decode cX1_rowOf 57 = .ok (.iload 6, 2) := dk_21 6 (dk_at dksX1_rowOf_2 11 rfl rfl)
theorem dX1_rowOf_59 : decode cX1_rowOf 59 = .ok (.iload_n 1, 1) := dk_27 (dk_at dksX1_rowOf_2 13 rfl rfl)
theorem dX1_rowOf_60 : decode cX1_rowOf 60 = .ok (.if_icmp .ge 23, 3) := dk_162 0 23 (dk_at dksX1_rowOf_2 14 rfl rfl)
theorem dX1_rowOf_63 : decode cX1_rowOf 63 = .ok (.aload 5, 2) := dk_25 5 (dk_at dksX1_rowOf_2 17 rfl rfl)
theorem dX1_rowOf_65 : decode cX1_rowOf 65 = .ok (.iload 6, 2) := dk_21 6 (dk_at dksX1_rowOf_2 19 rfl rfl)
theorem dX1_rowOf_67 : decode cX1_rowOf 67 = .ok (.iload 4, 2) := dk_21 4 (dk_at dksX1_rowOf_2 21 rfl rfl)
theorem dX1_rowOf_69 : decode cX1_rowOf 69 = .ok (.i2s, 1) := dk_147 (dk_at dksX1_rowOf_2 23 rfl rfl)
theorem dX1_rowOf_70 : decode cX1_rowOf 70 = .ok (.sastore, 1) := dk_86 (dk_at dksX1_rowOf_3 0 rfl rfl)
theorem dX1_rowOf_71 : decode cX1_rowOf 71 = .ok (.iinc 6 1, 3) := dk_132 6 1 (dk_at dksX1_rowOf_3 1 rfl rfl)
theorem dX1_rowOf_74 : decode cX1_rowOf 74 = .ok (.iload 4, 2) := dk_21 4 (dk_at dksX1_rowOf_3 4 rfl rfl)
theorem dX1_rowOf_76 : decode cX1_rowOf 76 = .ok (.iload_n 3, 1) := dk_29 (dk_at dksX1_rowOf_3 6 rfl rfl)
theorem dX1_rowOf_77 : decode cX1_rowOf 77 = .ok (.iadd, 1) := dk_96 (dk_at dksX1_rowOf_3 7 rfl rfl)
theorem dX1_rowOf_78 : decode cX1_rowOf 78 = .ok (.istore 4, 2) := dk_54 4 (dk_at dksX1_rowOf_3 8 rfl rfl)
theorem dX1_rowOf_80 : decode cX1_rowOf 80 = .ok (.goto (-23), 3) := dk_167 255 233 (dk_at dksX1_rowOf_3 10 rfl rfl)
theorem dX1_rowOf_83 : decode cX1_rowOf 83 = .ok (.aload 5, 2) := dk_25 5 (dk_at dksX1_rowOf_3 13 rfl rfl)
theorem dX1_rowOf_85 : decode cX1_rowOf 85 = .ok (.areturn, 1) := dk_176 (dk_at dksX1_rowOf_3 15 rfl rfl)
theorem dX1_rowOf_86 : decode cX1_rowOf 86 = .ok (.iload_n 1, 1) := dk_27 (dk_at dksX1_rowOf_3 16 rfl rfl)
theorem dX1_rowOf_87 : decode cX1_rowOf 87 = .ok (.newarray .int, 2) := dk_188_10 (dk_at dksX1_rowOf_3 17 rfl rfl)
theorem dX1_rowOf_89 : decode cX1_rowOf 89 = .ok (.astore 5, 2) := dk_58 5 (dk_at dksX1_rowOf_3 19 rfl rfl)
theorem dX1_rowOf_91 : decode cX1_rowOf 91 = .ok (.iconst 0, 1) := dk_3 (dk_at dksX1_rowOf_3 21 rfl rfl)
theorem dX1_rowOf_92 : decode cX1_rowOf 92 = .ok (.istore 6, 2) := dk_54 6 (dk_at dksX1_rowOf_3 22 rfl rfl)
theorem dX1_rowOf_94 : decode cX1_rowOf 94 = .ok (.iload 6, 2) := dk_21 6 (dk_at dksX1_rowOf_4 0 rfl rfl)
theorem dX1_rowOf_96 : decode cX1_rowOf 96 = .ok (.iload_n 1, 1) := dk_27 (dk_at dksX1_rowOf_4 2 rfl rfl)
theorem dX1_rowOf_97 : decode cX1_rowOf 97 = .ok (.if_icmp .ge 22, 3) := dk_162 0 22 (dk_at dksX1_rowOf_4 3 rfl rfl)
theorem dX1_rowOf_100 : decode cX1_rowOf 100 = .ok (.aload 5, 2) := dk_25 5 (dk_at dksX1_rowOf_4 6 rfl rfl)
theorem dX1_rowOf_102 : decode cX1_rowOf 102 = .ok (.iload 6, 2) := dk_21 6 (dk_at dksX1_rowOf_4 8 rfl rfl)
theorem dX1_rowOf_104 : decode cX1_rowOf 104 = .ok (.iload 4, 2) := dk_21 4 (dk_at dksX1_rowOf_4 10 rfl rfl)
theorem dX1_rowOf_106 : decode cX1_rowOf 106 = .ok (.iastore, 1) := dk_79 (dk_at dksX1_rowOf_4 12 rfl rfl)
theorem dX1_rowOf_107 : decode cX1_rowOf 107 = .ok (.iinc 6 1, 3) := dk_132 6 1 (dk_at dksX1_rowOf_4 13 rfl rfl)
theorem dX1_rowOf_110 : decode cX1_rowOf 110 = .ok (.iload 4, 2) := dk_21 4 (dk_at dksX1_rowOf_4 16 rfl rfl)
theorem dX1_rowOf_112 : decode cX1_rowOf 112 = .ok (.iload_n 3, 1) := dk_29 (dk_at dksX1_rowOf_4 18 rfl rfl)
theorem dX1_rowOf_113 : decode cX1_rowOf 113 = .ok (.iadd, 1) := dk_96 (dk_at dksX1_rowOf_4 19 rfl rfl)
theorem dX1_rowOf_114 : decode cX1_rowOf 114 = .ok (.istore 4, 2) := dk_54 4 (dk_at dksX1_rowOf_4 20 rfl rfl)
theorem dX1_rowOf_116 : decode cX1_rowOf 116 = .ok (.goto (-22), 3) := dk_167 255 234 (dk_at dksX1_rowOf_5 0 rfl rfl)
theorem dX1_rowOf_119 : decode cX1_rowOf 119 = .ok (.aload 5, 2) := dk_25 5 (dk_at dksX1_rowOf_5 3 rfl rfl)
theorem dX1_rowOf_121 : decode cX1_rowOf 121 = .ok (.areturn, 1) := dk_176 (dk_at dksX1_rowOf_5 5 rfl rfl)
abbrev cX1_entry : ByteArray := prog_1_method_23_code
def yX1_entry : MethodName := ⟨RX1, "entry", "(Ljava/lang/Object;I)I"⟩
def dkwX1_entry_1 : List UInt8 := [192, 1, 16, 27, 53, 167, 0, 9, 42, 192, 1, 18, 27, 46, 172]
abbrev dktX1_entry_1 : List UInt8 := dkwX1_entry_1 ++ []
def dkwX1_entry_0 : List UInt8 := [42, 193, 0, 200, 153, 0, 10, 42, 192, 0, 200, 27, 51, 172, 42, 193, 1, 16, 153, 0, 12, 42]
abbrev dktX1_entry_0 : List UInt8 := dkwX1_entry_0 ++ dktX1_entry_1
theorem dksX1_entry_0 : cX1_entry.data.toList.drop 0 = dktX1_entry_0 := by decide +kernel
theorem dksX1_entry_1 : cX1_entry.data.toList.drop 22 = dktX1_entry_1 := dk_seg dksX1_entry_0 22 rfl rfl
theorem dX1_entry_0 : decode cX1_entry 0 = .ok (.aload_n 0, 1) := dk_42 (dk_at dksX1_entry_0 0 rfl rfl)
theorem dX1_entry_1 : decode cX1_entry 1 = .ok (.instanceof 200, 3) := dk_193 0 200 (dk_at dksX1_entry_0 1 rfl rfl)
theorem dX1_entry_4 : decode cX1_entry 4 = .ok (.ifCond .eq 10, 3) := dk_153 0 10 (dk_at dksX1_entry_0 4 rfl rfl)
theorem dX1_entry_7 : decode cX1_entry 7 = .ok (.aload_n 0, 1) := dk_42 (dk_at dksX1_entry_0 7 rfl rfl)
theorem dX1_entry_8 : decode cX1_entry 8 = .ok (.checkcast 200, 3) := dk_192 0 200 (dk_at dksX1_entry_0 8 rfl rfl)
theorem dX1_entry_11 : decode cX1_entry 11 = .ok (.iload_n 1, 1) := dk_27 (dk_at dksX1_entry_0 11 rfl rfl)
theorem dX1_entry_12 : decode cX1_entry 12 = .ok (.baload, 1) := dk_51 (dk_at dksX1_entry_0 12 rfl rfl)
theorem dX1_entry_13 : decode cX1_entry 13 = .ok (.ireturn, 1) := dk_172 (dk_at dksX1_entry_0 13 rfl rfl)
theorem dX1_entry_14 : decode cX1_entry 14 = .ok (.aload_n 0, 1) := dk_42 (dk_at dksX1_entry_0 14 rfl rfl)
theorem dX1_entry_15 : decode cX1_entry 15 = .ok (.instanceof 272, 3) := dk_193 1 16 (dk_at dksX1_entry_0 15 rfl rfl)
theorem dX1_entry_18 : decode cX1_entry 18 = .ok (.ifCond .eq 12, 3) := dk_153 0 12 (dk_at dksX1_entry_0 18 rfl rfl)
theorem dX1_entry_21 : decode cX1_entry 21 = .ok (.aload_n 0, 1) := dk_42 (dk_at dksX1_entry_0 21 rfl rfl)
theorem dX1_entry_22 : decode cX1_entry 22 = .ok (.checkcast 272, 3) := dk_192 1 16 (dk_at dksX1_entry_1 0 rfl rfl)
theorem dX1_entry_25 : decode cX1_entry 25 = .ok (.iload_n 1, 1) := dk_27 (dk_at dksX1_entry_1 3 rfl rfl)
theorem dX1_entry_26 : decode cX1_entry 26 = .ok (.saload, 1) := dk_53 (dk_at dksX1_entry_1 4 rfl rfl)
theorem dX1_entry_27 : decode cX1_entry 27 = .ok (.goto 9, 3) := dk_167 0 9 (dk_at dksX1_entry_1 5 rfl rfl)
theorem dX1_entry_30 : decode cX1_entry 30 = .ok (.aload_n 0, 1) := dk_42 (dk_at dksX1_entry_1 8 rfl rfl)
theorem dX1_entry_31 : decode cX1_entry 31 = .ok (.checkcast 274, 3) := dk_192 1 18 (dk_at dksX1_entry_1 9 rfl rfl)
theorem dX1_entry_34 : decode cX1_entry 34 = .ok (.iload_n 1, 1) := dk_27 (dk_at dksX1_entry_1 12 rfl rfl)
theorem dX1_entry_35 : decode cX1_entry 35 = .ok (.iaload, 1) := dk_46 (dk_at dksX1_entry_1 13 rfl rfl)
theorem dX1_entry_36 : decode cX1_entry 36 = .ok (.ireturn, 1) := dk_172 (dk_at dksX1_entry_1 14 rfl rfl)
abbrev cX1_days : ByteArray := prog_1_method_29_code
def yX1_days : MethodName := ⟨RX1, "days", "(I)I"⟩
def dkwX1_days_3 : List UInt8 := [28, 42, 180, 0, 49, 180, 1, 46, 100, 172]
abbrev dktX1_days_3 : List UInt8 := dkwX1_days_3 ++ []
def dkwX1_days_2 : List UInt8 := [133, 182, 1, 75, 42, 42, 42, 180, 0, 49, 182, 1, 79, 153, 0, 7, 10, 167, 0, 4, 9, 182, 1, 75]
abbrev dktX1_days_2 : List UInt8 := dkwX1_days_2 ++ dktX1_days_3
def dkwX1_days_1 : List UInt8 := [180, 0, 49, 180, 1, 46, 61, 42, 42, 180, 0, 49, 27, 182, 1, 72, 62, 42, 3, 181, 0, 122, 42, 29]
abbrev dktX1_days_1 : List UInt8 := dkwX1_days_1 ++ dktX1_days_2
def dkwX1_days_0 : List UInt8 := [27, 133, 9, 20, 1, 70, 184, 0, 129, 154, 0, 5, 2, 172, 42, 42, 180, 0, 49, 182, 1, 9, 42]
abbrev dktX1_days_0 : List UInt8 := dkwX1_days_0 ++ dktX1_days_1
theorem dksX1_days_0 : cX1_days.data.toList.drop 0 = dktX1_days_0 := by decide +kernel
theorem dksX1_days_1 : cX1_days.data.toList.drop 23 = dktX1_days_1 := dk_seg dksX1_days_0 23 rfl rfl
theorem dksX1_days_2 : cX1_days.data.toList.drop 47 = dktX1_days_2 := dk_seg dksX1_days_1 24 rfl rfl
theorem dksX1_days_3 : cX1_days.data.toList.drop 71 = dktX1_days_3 := dk_seg dksX1_days_2 24 rfl rfl
theorem dX1_days_0 : decode cX1_days 0 = .ok (.iload_n 1, 1) := dk_27 (dk_at dksX1_days_0 0 rfl rfl)
theorem dX1_days_1 : decode cX1_days 1 = .ok (.i2l, 1) := dk_133 (dk_at dksX1_days_0 1 rfl rfl)
theorem dX1_days_2 : decode cX1_days 2 = .ok (.lconst 0, 1) := dk_9 (dk_at dksX1_days_0 2 rfl rfl)
theorem dX1_days_3 : decode cX1_days 3 = .ok (.ldc2_w 326, 3) := dk_20 1 70 (dk_at dksX1_days_0 3 rfl rfl)
theorem dX1_days_6 : decode cX1_days 6 = .ok (.invokestatic 129, 3) := dk_184 0 129 (dk_at dksX1_days_0 6 rfl rfl)
theorem dX1_days_9 : decode cX1_days 9 = .ok (.ifCond .ne 5, 3) := dk_154 0 5 (dk_at dksX1_days_0 9 rfl rfl)
theorem dX1_days_12 : decode cX1_days 12 = .ok (.iconst (-1), 1) := dk_2 (dk_at dksX1_days_0 12 rfl rfl)
theorem dX1_days_13 : decode cX1_days 13 = .ok (.ireturn, 1) := dk_172 (dk_at dksX1_days_0 13 rfl rfl)
theorem dX1_days_14 : decode cX1_days 14 = .ok (.aload_n 0, 1) := dk_42 (dk_at dksX1_days_0 14 rfl rfl)
theorem dX1_days_15 : decode cX1_days 15 = .ok (.aload_n 0, 1) := dk_42 (dk_at dksX1_days_0 15 rfl rfl)
theorem dX1_days_16 : decode cX1_days 16 = .ok (.getfield 49, 3) := dk_180 0 49 (dk_at dksX1_days_0 16 rfl rfl)
theorem dX1_days_19 : decode cX1_days 19 = .ok (.invokevirtual 265, 3) := dk_182 1 9 (dk_at dksX1_days_0 19 rfl rfl)
theorem dX1_days_22 : decode cX1_days 22 = .ok (.aload_n 0, 1) := dk_42 (dk_at dksX1_days_0 22 rfl rfl)
theorem dX1_days_23 : decode cX1_days 23 = .ok (.getfield 49, 3) := dk_180 0 49 (dk_at dksX1_days_1 0 rfl rfl)
theorem dX1_days_26 : decode cX1_days 26 = .ok (.getfield 302, 3) := dk_180 1 46 (dk_at dksX1_days_1 3 rfl rfl)
theorem dX1_days_29 : decode cX1_days 29 = .ok (.istore_n 2, 1) := dk_61 (dk_at dksX1_days_1 6 rfl rfl)
theorem dX1_days_30 : decode cX1_days 30 = .ok (.aload_n 0, 1) := dk_42 (dk_at dksX1_days_1 7 rfl rfl)
theorem dX1_days_31 : decode cX1_days 31 = .ok (.aload_n 0, 1) := dk_42 (dk_at dksX1_days_1 8 rfl rfl)
theorem dX1_days_32 : decode cX1_days 32 = .ok (.getfield 49, 3) := dk_180 0 49 (dk_at dksX1_days_1 9 rfl rfl)
theorem dX1_days_35 : decode cX1_days 35 = .ok (.iload_n 1, 1) := dk_27 (dk_at dksX1_days_1 12 rfl rfl)
theorem dX1_days_36 : decode cX1_days 36 = .ok (.invokevirtual 328, 3) := dk_182 1 72 (dk_at dksX1_days_1 13 rfl rfl)
theorem dX1_days_39 : decode cX1_days 39 = .ok (.istore_n 3, 1) := dk_62 (dk_at dksX1_days_1 16 rfl rfl)
theorem dX1_days_40 : decode cX1_days 40 = .ok (.aload_n 0, 1) := dk_42 (dk_at dksX1_days_1 17 rfl rfl)
theorem dX1_days_41 : decode cX1_days 41 = .ok (.iconst 0, 1) := dk_3 (dk_at dksX1_days_1 18 rfl rfl)
theorem dX1_days_42 : decode cX1_days 42 = .ok (.putfield 122, 3) := dk_181 0 122 (dk_at dksX1_days_1 19 rfl rfl)
theorem dX1_days_45 : decode cX1_days 45 = .ok (.aload_n 0, 1) := dk_42 (dk_at dksX1_days_1 22 rfl rfl)
theorem dX1_days_46 : decode cX1_days 46 = .ok (.iload_n 3, 1) := dk_29 (dk_at dksX1_days_1 23 rfl rfl)
theorem dX1_days_47 : decode cX1_days 47 = .ok (.i2l, 1) := dk_133 (dk_at dksX1_days_2 0 rfl rfl)
theorem dX1_days_48 : decode cX1_days 48 = .ok (.invokevirtual 331, 3) := dk_182 1 75 (dk_at dksX1_days_2 1 rfl rfl)
theorem dX1_days_51 : decode cX1_days 51 = .ok (.aload_n 0, 1) := dk_42 (dk_at dksX1_days_2 4 rfl rfl)
theorem dX1_days_52 : decode cX1_days 52 = .ok (.aload_n 0, 1) := dk_42 (dk_at dksX1_days_2 5 rfl rfl)
theorem dX1_days_53 : decode cX1_days 53 = .ok (.aload_n 0, 1) := dk_42 (dk_at dksX1_days_2 6 rfl rfl)
theorem dX1_days_54 : decode cX1_days 54 = .ok (.getfield 49, 3) := dk_180 0 49 (dk_at dksX1_days_2 7 rfl rfl)
theorem dX1_days_57 : decode cX1_days 57 = .ok (.invokevirtual 335, 3) := dk_182 1 79 (dk_at dksX1_days_2 10 rfl rfl)
theorem dX1_days_60 : decode cX1_days 60 = .ok (.ifCond .eq 7, 3) := dk_153 0 7 (dk_at dksX1_days_2 13 rfl rfl)
theorem dX1_days_63 : decode cX1_days 63 = .ok (.lconst 1, 1) := dk_10 (dk_at dksX1_days_2 16 rfl rfl)
theorem dX1_days_64 : decode cX1_days 64 = .ok (.goto 4, 3) := dk_167 0 4 (dk_at dksX1_days_2 17 rfl rfl)
theorem dX1_days_67 : decode cX1_days 67 = .ok (.lconst 0, 1) := dk_9 (dk_at dksX1_days_2 20 rfl rfl)
theorem dX1_days_68 : decode cX1_days 68 = .ok (.invokevirtual 331, 3) := dk_182 1 75 (dk_at dksX1_days_2 21 rfl rfl)
theorem dX1_days_71 : decode cX1_days 71 = .ok (.iload_n 2, 1) := dk_28 (dk_at dksX1_days_3 0 rfl rfl)
theorem dX1_days_72 : decode cX1_days 72 = .ok (.aload_n 0, 1) := dk_42 (dk_at dksX1_days_3 1 rfl rfl)
theorem dX1_days_73 : decode cX1_days 73 = .ok (.getfield 49, 3) := dk_180 0 49 (dk_at dksX1_days_3 2 rfl rfl)
theorem dX1_days_76 : decode cX1_days 76 = .ok (.getfield 302, 3) := dk_180 1 46 (dk_at dksX1_days_3 5 rfl rfl)
theorem dX1_days_79 : decode cX1_days 79 = .ok (.isub, 1) := dk_100 (dk_at dksX1_days_3 8 rfl rfl)
theorem dX1_days_80 : decode cX1_days 80 = .ok (.ireturn, 1) := dk_172 (dk_at dksX1_days_3 9 rfl rfl)
abbrev cX1_goDays : ByteArray := prog_1_method_28_code
def yX1_goDays : MethodName := ⟨RX1, "goDays", "(LTreesBeforeMen$Voyage;I)I"⟩
def dkwX1_goDays_1 : List UInt8 := [4, 96, 62, 132, 4, 1, 167, 255, 231, 29, 172]
abbrev dktX1_goDays_1 : List UInt8 := dkwX1_goDays_1 ++ []
def dkwX1_goDays_0 : List UInt8 := [3, 62, 3, 54, 4, 21, 4, 28, 162, 0, 25, 29, 42, 43, 182, 1, 66, 153, 0, 7, 3, 167, 0, 4]
abbrev dktX1_goDays_0 : List UInt8 := dkwX1_goDays_0 ++ dktX1_goDays_1
theorem dksX1_goDays_0 : cX1_goDays.data.toList.drop 0 = dktX1_goDays_0 := by decide +kernel
theorem dksX1_goDays_1 : cX1_goDays.data.toList.drop 24 = dktX1_goDays_1 := dk_seg dksX1_goDays_0 24 rfl rfl
theorem dX1_goDays_0 : decode cX1_goDays 0 = .ok (.iconst 0, 1) := dk_3 (dk_at dksX1_goDays_0 0 rfl rfl)
theorem dX1_goDays_1 : decode cX1_goDays 1 = .ok (.istore_n 3, 1) := dk_62 (dk_at dksX1_goDays_0 1 rfl rfl)
theorem dX1_goDays_2 : decode cX1_goDays 2 = .ok (.iconst 0, 1) := dk_3 (dk_at dksX1_goDays_0 2 rfl rfl)
theorem dX1_goDays_3 : decode cX1_goDays 3 = .ok (.istore 4, 2) := dk_54 4 (dk_at dksX1_goDays_0 3 rfl rfl)
theorem dX1_goDays_5 : decode cX1_goDays 5 = .ok (.iload 4, 2) := dk_21 4 (dk_at dksX1_goDays_0 5 rfl rfl)
theorem dX1_goDays_7 : decode cX1_goDays 7 = .ok (.iload_n 2, 1) := dk_28 (dk_at dksX1_goDays_0 7 rfl rfl)
theorem dX1_goDays_8 : decode cX1_goDays 8 = .ok (.if_icmp .ge 25, 3) := dk_162 0 25 (dk_at dksX1_goDays_0 8 rfl rfl)
theorem dX1_goDays_11 : decode cX1_goDays 11 = .ok (.iload_n 3, 1) := dk_29 (dk_at dksX1_goDays_0 11 rfl rfl)
theorem dX1_goDays_12 : decode cX1_goDays 12 = .ok (.aload_n 0, 1) := dk_42 (dk_at dksX1_goDays_0 12 rfl rfl)
theorem dX1_goDays_13 : decode cX1_goDays 13 = .ok (.aload_n 1, 1) := dk_43 (dk_at dksX1_goDays_0 13 rfl rfl)
theorem dX1_goDays_14 : decode cX1_goDays 14 = .ok (.invokevirtual 322, 3) := dk_182 1 66 (dk_at dksX1_goDays_0 14 rfl rfl)
theorem dX1_goDays_17 : decode cX1_goDays 17 = .ok (.ifCond .eq 7, 3) := dk_153 0 7 (dk_at dksX1_goDays_0 17 rfl rfl)
theorem dX1_goDays_20 : decode cX1_goDays 20 = .ok (.iconst 0, 1) := dk_3 (dk_at dksX1_goDays_0 20 rfl rfl)
theorem dX1_goDays_21 : decode cX1_goDays 21 = .ok (.goto 4, 3) := dk_167 0 4 (dk_at dksX1_goDays_0 21 rfl rfl)
theorem dX1_goDays_24 : decode cX1_goDays 24 = .ok (.iconst 1, 1) := dk_4 (dk_at dksX1_goDays_1 0 rfl rfl)
theorem dX1_goDays_25 : decode cX1_goDays 25 = .ok (.iadd, 1) := dk_96 (dk_at dksX1_goDays_1 1 rfl rfl)
theorem dX1_goDays_26 : decode cX1_goDays 26 = .ok (.istore_n 3, 1) := dk_62 (dk_at dksX1_goDays_1 2 rfl rfl)
theorem dX1_goDays_27 : decode cX1_goDays 27 = .ok (.iinc 4 1, 3) := dk_132 4 1 (dk_at dksX1_goDays_1 3 rfl rfl)
theorem dX1_goDays_30 : decode cX1_goDays 30 = .ok (.goto (-25), 3) := dk_167 255 231 (dk_at dksX1_goDays_1 6 rfl rfl)
theorem dX1_goDays_33 : decode cX1_goDays 33 = .ok (.iload_n 3, 1) := dk_29 (dk_at dksX1_goDays_1 9 rfl rfl)
theorem dX1_goDays_34 : decode cX1_goDays 34 = .ok (.ireturn, 1) := dk_172 (dk_at dksX1_goDays_1 10 rfl rfl)
abbrev cX1_goDay : ByteArray := prog_1_method_27_code
def yX1_goDay : MethodName := ⟨RX1, "goDay", "(LTreesBeforeMen$Voyage;)Z"⟩
def dkwX1_goDay_5 : List UInt8 := [181, 1, 40, 28, 172]
abbrev dktX1_goDay_5 : List UInt8 := dkwX1_goDay_5 ++ []
def dkwX1_goDay_4 : List UInt8 := [182, 1, 43, 16, 114, 160, 0, 10, 43, 16, 20, 182, 1, 63, 87, 43, 89, 180, 1, 40, 4, 96]
abbrev dktX1_goDay_4 : List UInt8 := dkwX1_goDay_4 ++ dktX1_goDay_5
def dkwX1_goDay_3 : List UInt8 := [21, 4, 3, 6, 29, 100, 184, 1, 34, 182, 1, 59, 132, 4, 1, 167, 255, 221, 42, 43, 180, 1, 40]
abbrev dktX1_goDay_3 : List UInt8 := dkwX1_goDay_3 ++ dktX1_goDay_4
def dkwX1_goDay_2 : List UInt8 := [3, 54, 4, 21, 4, 42, 180, 0, 126, 162, 0, 32, 43, 180, 0, 172, 21, 4, 46, 154, 0, 16, 43]
abbrev dktX1_goDay_2 : List UInt8 := dkwX1_goDay_2 ++ dktX1_goDay_3
def dkwX1_goDay_1 : List UInt8 := [167, 0, 4, 3, 182, 1, 56, 100, 181, 1, 46, 28, 153, 0, 10, 43, 180, 1, 1, 167, 0, 4, 3, 62]
abbrev dktX1_goDay_1 : List UInt8 := dkwX1_goDay_1 ++ dktX1_goDay_2
def dkwX1_goDay_0 : List UInt8 := [43, 42, 180, 0, 126, 182, 1, 53, 61, 43, 89, 180, 1, 46, 42, 43, 28, 153, 0, 10, 43, 180, 1, 4]
abbrev dktX1_goDay_0 : List UInt8 := dkwX1_goDay_0 ++ dktX1_goDay_1
theorem dksX1_goDay_0 : cX1_goDay.data.toList.drop 0 = dktX1_goDay_0 := by decide +kernel
theorem dksX1_goDay_1 : cX1_goDay.data.toList.drop 24 = dktX1_goDay_1 := dk_seg dksX1_goDay_0 24 rfl rfl
theorem dksX1_goDay_2 : cX1_goDay.data.toList.drop 48 = dktX1_goDay_2 := dk_seg dksX1_goDay_1 24 rfl rfl
theorem dksX1_goDay_3 : cX1_goDay.data.toList.drop 71 = dktX1_goDay_3 := dk_seg dksX1_goDay_2 23 rfl rfl
theorem dksX1_goDay_4 : cX1_goDay.data.toList.drop 94 = dktX1_goDay_4 := dk_seg dksX1_goDay_3 23 rfl rfl
theorem dksX1_goDay_5 : cX1_goDay.data.toList.drop 116 = dktX1_goDay_5 := dk_seg dksX1_goDay_4 22 rfl rfl
theorem dX1_goDay_0 : decode cX1_goDay 0 = .ok (.aload_n 1, 1) := dk_43 (dk_at dksX1_goDay_0 0 rfl rfl)
theorem dX1_goDay_1 : decode cX1_goDay 1 = .ok (.aload_n 0, 1) := dk_42 (dk_at dksX1_goDay_0 1 rfl rfl)
theorem dX1_goDay_2 : decode cX1_goDay 2 = .ok (.getfield 126, 3) := dk_180 0 126 (dk_at dksX1_goDay_0 2 rfl rfl)
theorem dX1_goDay_5 : decode cX1_goDay 5 = .ok (.invokevirtual 309, 3) := dk_182 1 53 (dk_at dksX1_goDay_0 5 rfl rfl)
theorem dX1_goDay_8 : decode cX1_goDay 8 = .ok (.istore_n 2, 1) := dk_61 (dk_at dksX1_goDay_0 8 rfl rfl)
theorem dX1_goDay_9 : decode cX1_goDay 9 = .ok (.aload_n 1, 1) := dk_43 (dk_at dksX1_goDay_0 9 rfl rfl)
theorem dX1_goDay_10 : decode cX1_goDay 10 = .ok (.dup, 1) := dk_89 (dk_at dksX1_goDay_0 10 rfl rfl)
theorem dX1_goDay_11 : decode cX1_goDay 11 = .ok (.getfield 302, 3) := dk_180 1 46 (dk_at dksX1_goDay_0 11 rfl rfl)
theorem dX1_goDay_14 : decode cX1_goDay 14 = .ok (.aload_n 0, 1) := dk_42 (dk_at dksX1_goDay_0 14 rfl rfl)
theorem dX1_goDay_15 : decode cX1_goDay 15 = .ok (.aload_n 1, 1) := dk_43 (dk_at dksX1_goDay_0 15 rfl rfl)
theorem dX1_goDay_16 : decode cX1_goDay 16 = .ok (.iload_n 2, 1) := dk_28 (dk_at dksX1_goDay_0 16 rfl rfl)
theorem dX1_goDay_17 : decode cX1_goDay 17 = .ok (.ifCond .eq 10, 3) := dk_153 0 10 (dk_at dksX1_goDay_0 17 rfl rfl)
theorem dX1_goDay_20 : decode cX1_goDay 20 = .ok (.aload_n 1, 1) := dk_43 (dk_at dksX1_goDay_0 20 rfl rfl)
theorem dX1_goDay_21 : decode cX1_goDay 21 = .ok (.getfield 260, 3) := dk_180 1 4 (dk_at dksX1_goDay_0 21 rfl rfl)
theorem dX1_goDay_24 : decode cX1_goDay 24 = .ok (.goto 4, 3) := dk_167 0 4 (dk_at dksX1_goDay_1 0 rfl rfl)
theorem dX1_goDay_27 : decode cX1_goDay 27 = .ok (.iconst 0, 1) := dk_3 (dk_at dksX1_goDay_1 3 rfl rfl)
theorem dX1_goDay_28 : decode cX1_goDay 28 = .ok (.invokevirtual 312, 3) := dk_182 1 56 (dk_at dksX1_goDay_1 4 rfl rfl)
theorem dX1_goDay_31 : decode cX1_goDay 31 = .ok (.isub, 1) := dk_100 (dk_at dksX1_goDay_1 7 rfl rfl)
theorem dX1_goDay_32 : decode cX1_goDay 32 = .ok (.putfield 302, 3) := dk_181 1 46 (dk_at dksX1_goDay_1 8 rfl rfl)
theorem dX1_goDay_35 : decode cX1_goDay 35 = .ok (.iload_n 2, 1) := dk_28 (dk_at dksX1_goDay_1 11 rfl rfl)
theorem dX1_goDay_36 : decode cX1_goDay 36 = .ok (.ifCond .eq 10, 3) := dk_153 0 10 (dk_at dksX1_goDay_1 12 rfl rfl)
theorem dX1_goDay_39 : decode cX1_goDay 39 = .ok (.aload_n 1, 1) := dk_43 (dk_at dksX1_goDay_1 15 rfl rfl)
theorem dX1_goDay_40 : decode cX1_goDay 40 = .ok (.getfield 257, 3) := dk_180 1 1 (dk_at dksX1_goDay_1 16 rfl rfl)
theorem dX1_goDay_43 : decode cX1_goDay 43 = .ok (.goto 4, 3) := dk_167 0 4 (dk_at dksX1_goDay_1 19 rfl rfl)
theorem dX1_goDay_46 : decode cX1_goDay 46 = .ok (.iconst 0, 1) := dk_3 (dk_at dksX1_goDay_1 22 rfl rfl)
theorem dX1_goDay_47 : decode cX1_goDay 47 = .ok (.istore_n 3, 1) := dk_62 (dk_at dksX1_goDay_1 23 rfl rfl)
theorem dX1_goDay_48 : decode cX1_goDay 48 = .ok (.iconst 0, 1) := dk_3 (dk_at dksX1_goDay_2 0 rfl rfl)
theorem dX1_goDay_49 : decode cX1_goDay 49 = .ok (.istore 4, 2) := dk_54 4 (dk_at dksX1_goDay_2 1 rfl rfl)
theorem dX1_goDay_51 : decode cX1_goDay 51 = .ok (.iload 4, 2) := dk_21 4 (dk_at dksX1_goDay_2 3 rfl rfl)
theorem dX1_goDay_53 : decode cX1_goDay 53 = .ok (.aload_n 0, 1) := dk_42 (dk_at dksX1_goDay_2 5 rfl rfl)
theorem dX1_goDay_54 : decode cX1_goDay 54 = .ok (.getfield 126, 3) := dk_180 0 126 (dk_at dksX1_goDay_2 6 rfl rfl)
theorem dX1_goDay_57 : decode cX1_goDay 57 = .ok (.if_icmp .ge 32, 3) := dk_162 0 32 (dk_at dksX1_goDay_2 9 rfl rfl)
theorem dX1_goDay_60 : decode cX1_goDay 60 = .ok (.aload_n 1, 1) := dk_43 (dk_at dksX1_goDay_2 12 rfl rfl)
theorem dX1_goDay_61 : decode cX1_goDay 61 = .ok (.getfield 172, 3) := dk_180 0 172 (dk_at dksX1_goDay_2 13 rfl rfl)
theorem dX1_goDay_64 : decode cX1_goDay 64 = .ok (.iload 4, 2) := dk_21 4 (dk_at dksX1_goDay_2 16 rfl rfl)
theorem dX1_goDay_66 : decode cX1_goDay 66 = .ok (.iaload, 1) := dk_46 (dk_at dksX1_goDay_2 18 rfl rfl)
theorem dX1_goDay_67 : decode cX1_goDay 67 = .ok (.ifCond .ne 16, 3) := dk_154 0 16 (dk_at dksX1_goDay_2 19 rfl rfl)
theorem dX1_goDay_70 : decode cX1_goDay 70 = .ok (.aload_n 1, 1) := dk_43 (dk_at dksX1_goDay_2 22 rfl rfl)
theorem dX1_goDay_71 : decode cX1_goDay 71 = .ok (.iload 4, 2) := dk_21 4 (dk_at dksX1_goDay_3 0 rfl rfl)
theorem dX1_goDay_73 : decode cX1_goDay 73 = .ok (.iconst 0, 1) := dk_3 (dk_at dksX1_goDay_3 2 rfl rfl)
theorem dX1_goDay_74 : decode cX1_goDay 74 = .ok (.iconst 3, 1) := dk_6 (dk_at dksX1_goDay_3 3 rfl rfl)
theorem dX1_goDay_75 : decode cX1_goDay 75 = .ok (.iload_n 3, 1) := dk_29 (dk_at dksX1_goDay_3 4 rfl rfl)
theorem dX1_goDay_76 : decode cX1_goDay 76 = .ok (.isub, 1) := dk_100 (dk_at dksX1_goDay_3 5 rfl rfl)
theorem dX1_goDay_77 : decode cX1_goDay 77 = .ok (.invokestatic 290, 3) := dk_184 1 34 (dk_at dksX1_goDay_3 6 rfl rfl)
theorem dX1_goDay_80 : decode cX1_goDay 80 = .ok (.invokevirtual 315, 3) := dk_182 1 59 (dk_at dksX1_goDay_3 9 rfl rfl)
theorem dX1_goDay_83 : decode cX1_goDay 83 = .ok (.iinc 4 1, 3) := dk_132 4 1 (dk_at dksX1_goDay_3 12 rfl rfl)
theorem dX1_goDay_86 : decode cX1_goDay 86 = .ok (.goto (-35), 3) := dk_167 255 221 (dk_at dksX1_goDay_3 15 rfl rfl)
theorem dX1_goDay_89 : decode cX1_goDay 89 = .ok (.aload_n 0, 1) := dk_42 (dk_at dksX1_goDay_3 18 rfl rfl)
theorem dX1_goDay_90 : decode cX1_goDay 90 = .ok (.aload_n 1, 1) := dk_43 (dk_at dksX1_goDay_3 19 rfl rfl)
theorem dX1_goDay_91 : decode cX1_goDay 91 = .ok (.getfield 296, 3) := dk_180 1 40 (dk_at dksX1_goDay_3 20 rfl rfl)
theorem dX1_goDay_94 : decode cX1_goDay 94 = .ok (.invokevirtual 299, 3) := dk_182 1 43 (dk_at dksX1_goDay_4 0 rfl rfl)
theorem dX1_goDay_97 : decode cX1_goDay 97 = .ok (.bipush 114, 2) := dk_16 114 (dk_at dksX1_goDay_4 3 rfl rfl)
theorem dX1_goDay_99 : decode cX1_goDay 99 = .ok (.if_icmp .ne 10, 3) := dk_160 0 10 (dk_at dksX1_goDay_4 5 rfl rfl)
theorem dX1_goDay_102 : decode cX1_goDay 102 = .ok (.aload_n 1, 1) := dk_43 (dk_at dksX1_goDay_4 8 rfl rfl)
theorem dX1_goDay_103 : decode cX1_goDay 103 = .ok (.bipush 20, 2) := dk_16 20 (dk_at dksX1_goDay_4 9 rfl rfl)
theorem dX1_goDay_105 : decode cX1_goDay 105 = .ok (.invokevirtual 319, 3) := dk_182 1 63 (dk_at dksX1_goDay_4 11 rfl rfl)
theorem dX1_goDay_108 : decode cX1_goDay 108 = .ok (.pop, 1) := dk_87 (dk_at dksX1_goDay_4 14 rfl rfl)
theorem dX1_goDay_109 : decode cX1_goDay 109 = .ok (.aload_n 1, 1) := dk_43 (dk_at dksX1_goDay_4 15 rfl rfl)
theorem dX1_goDay_110 : decode cX1_goDay 110 = .ok (.dup, 1) := dk_89 (dk_at dksX1_goDay_4 16 rfl rfl)
theorem dX1_goDay_111 : decode cX1_goDay 111 = .ok (.getfield 296, 3) := dk_180 1 40 (dk_at dksX1_goDay_4 17 rfl rfl)
theorem dX1_goDay_114 : decode cX1_goDay 114 = .ok (.iconst 1, 1) := dk_4 (dk_at dksX1_goDay_4 20 rfl rfl)
theorem dX1_goDay_115 : decode cX1_goDay 115 = .ok (.iadd, 1) := dk_96 (dk_at dksX1_goDay_4 21 rfl rfl)
theorem dX1_goDay_116 : decode cX1_goDay 116 = .ok (.putfield 296, 3) := dk_181 1 40 (dk_at dksX1_goDay_5 0 rfl rfl)
theorem dX1_goDay_119 : decode cX1_goDay 119 = .ok (.iload_n 2, 1) := dk_28 (dk_at dksX1_goDay_5 3 rfl rfl)
theorem dX1_goDay_120 : decode cX1_goDay 120 = .ok (.ireturn, 1) := dk_172 (dk_at dksX1_goDay_5 4 rfl rfl)
abbrev cX1_deathsOf : ByteArray := prog_1_method_26_code
def yX1_deathsOf : MethodName := ⟨RX1, "deathsOf", "(LTreesBeforeMen$Voyage;I)I"⟩
def dkwX1_deathsOf_3 : List UInt8 := [3, 43, 180, 1, 46, 21, 4, 184, 1, 29, 184, 1, 34, 172]
abbrev dktX1_deathsOf_3 : List UInt8 := dkwX1_deathsOf_3 ++ []
def dkwX1_deathsOf_2 : List UInt8 := [7, 167, 0, 4, 3, 96, 104, 16, 10, 108, 167, 0, 12, 42, 180, 0, 204, 43, 28, 182, 1, 49, 54, 4]
abbrev dktX1_deathsOf_2 : List UInt8 := dkwX1_deathsOf_2 ++ dktX1_deathsOf_3
def dkwX1_deathsOf_1 : List UInt8 := [160, 0, 7, 4, 167, 0, 4, 3, 29, 16, 115, 160, 0, 7, 5, 167, 0, 4, 3, 96, 28, 154, 0, 7]
abbrev dktX1_deathsOf_1 : List UInt8 := dkwX1_deathsOf_1 ++ dktX1_deathsOf_2
def dkwX1_deathsOf_0 : List UInt8 := [42, 43, 180, 1, 40, 182, 1, 43, 62, 42, 180, 0, 204, 199, 0, 47, 43, 180, 1, 46, 29, 16, 104]
abbrev dktX1_deathsOf_0 : List UInt8 := dkwX1_deathsOf_0 ++ dktX1_deathsOf_1
theorem dksX1_deathsOf_0 : cX1_deathsOf.data.toList.drop 0 = dktX1_deathsOf_0 := by decide +kernel
theorem dksX1_deathsOf_1 : cX1_deathsOf.data.toList.drop 23 = dktX1_deathsOf_1 := dk_seg dksX1_deathsOf_0 23 rfl rfl
theorem dksX1_deathsOf_2 : cX1_deathsOf.data.toList.drop 47 = dktX1_deathsOf_2 := dk_seg dksX1_deathsOf_1 24 rfl rfl
theorem dksX1_deathsOf_3 : cX1_deathsOf.data.toList.drop 71 = dktX1_deathsOf_3 := dk_seg dksX1_deathsOf_2 24 rfl rfl
theorem dX1_deathsOf_0 : decode cX1_deathsOf 0 = .ok (.aload_n 0, 1) := dk_42 (dk_at dksX1_deathsOf_0 0 rfl rfl)
theorem dX1_deathsOf_1 : decode cX1_deathsOf 1 = .ok (.aload_n 1, 1) := dk_43 (dk_at dksX1_deathsOf_0 1 rfl rfl)
theorem dX1_deathsOf_2 : decode cX1_deathsOf 2 = .ok (.getfield 296, 3) := dk_180 1 40 (dk_at dksX1_deathsOf_0 2 rfl rfl)
theorem dX1_deathsOf_5 : decode cX1_deathsOf 5 = .ok (.invokevirtual 299, 3) := dk_182 1 43 (dk_at dksX1_deathsOf_0 5 rfl rfl)
theorem dX1_deathsOf_8 : decode cX1_deathsOf 8 = .ok (.istore_n 3, 1) := dk_62 (dk_at dksX1_deathsOf_0 8 rfl rfl)
theorem dX1_deathsOf_9 : decode cX1_deathsOf 9 = .ok (.aload_n 0, 1) := dk_42 (dk_at dksX1_deathsOf_0 9 rfl rfl)
theorem dX1_deathsOf_10 : decode cX1_deathsOf 10 = .ok (.getfield 204, 3) := dk_180 0 204 (dk_at dksX1_deathsOf_0 10 rfl rfl)
theorem dX1_deathsOf_13 : decode cX1_deathsOf 13 = .ok (.ifnonnull 47, 3) := dk_199 0 47 (dk_at dksX1_deathsOf_0 13 rfl rfl)
theorem dX1_deathsOf_16 : decode cX1_deathsOf 16 = .ok (.aload_n 1, 1) := dk_43 (dk_at dksX1_deathsOf_0 16 rfl rfl)
theorem dX1_deathsOf_17 : decode cX1_deathsOf 17 = .ok (.getfield 302, 3) := dk_180 1 46 (dk_at dksX1_deathsOf_0 17 rfl rfl)
theorem dX1_deathsOf_20 : decode cX1_deathsOf 20 = .ok (.iload_n 3, 1) := dk_29 (dk_at dksX1_deathsOf_0 20 rfl rfl)
theorem dX1_deathsOf_21 : decode cX1_deathsOf 21 = .ok (.bipush 104, 2) := dk_16 104 (dk_at dksX1_deathsOf_0 21 rfl rfl)
theorem dX1_deathsOf_23 : decode cX1_deathsOf 23 = .ok (.if_icmp .ne 7, 3) := dk_160 0 7 (dk_at dksX1_deathsOf_1 0 rfl rfl)
theorem dX1_deathsOf_26 : decode cX1_deathsOf 26 = .ok (.iconst 1, 1) := dk_4 (dk_at dksX1_deathsOf_1 3 rfl rfl)
theorem dX1_deathsOf_27 : decode cX1_deathsOf 27 = .ok (.goto 4, 3) := dk_167 0 4 (dk_at dksX1_deathsOf_1 4 rfl rfl)
theorem dX1_deathsOf_30 : decode cX1_deathsOf 30 = .ok (.iconst 0, 1) := dk_3 (dk_at dksX1_deathsOf_1 7 rfl rfl)
theorem dX1_deathsOf_31 : decode cX1_deathsOf 31 = .ok (.iload_n 3, 1) := dk_29 (dk_at dksX1_deathsOf_1 8 rfl rfl)
theorem dX1_deathsOf_32 : decode cX1_deathsOf 32 = .ok (.bipush 115, 2) := dk_16 115 (dk_at dksX1_deathsOf_1 9 rfl rfl)
theorem dX1_deathsOf_34 : decode cX1_deathsOf 34 = .ok (.if_icmp .ne 7, 3) := dk_160 0 7 (dk_at dksX1_deathsOf_1 11 rfl rfl)
theorem dX1_deathsOf_37 : decode cX1_deathsOf 37 = .ok (.iconst 2, 1) := dk_5 (dk_at dksX1_deathsOf_1 14 rfl rfl)
theorem dX1_deathsOf_38 : decode cX1_deathsOf 38 = .ok (.goto 4, 3) := dk_167 0 4 (dk_at dksX1_deathsOf_1 15 rfl rfl)
theorem dX1_deathsOf_41 : decode cX1_deathsOf 41 = .ok (.iconst 0, 1) := dk_3 (dk_at dksX1_deathsOf_1 18 rfl rfl)
theorem dX1_deathsOf_42 : decode cX1_deathsOf 42 = .ok (.iadd, 1) := dk_96 (dk_at dksX1_deathsOf_1 19 rfl rfl)
theorem dX1_deathsOf_43 : decode cX1_deathsOf 43 = .ok (.iload_n 2, 1) := dk_28 (dk_at dksX1_deathsOf_1 20 rfl rfl)
theorem dX1_deathsOf_44 : decode cX1_deathsOf 44 = .ok (.ifCond .ne 7, 3) := dk_154 0 7 (dk_at dksX1_deathsOf_1 21 rfl rfl)
theorem dX1_deathsOf_47 : decode cX1_deathsOf 47 = .ok (.iconst 4, 1) := dk_7 (dk_at dksX1_deathsOf_2 0 rfl rfl)
theorem dX1_deathsOf_48 : decode cX1_deathsOf 48 = .ok (.goto 4, 3) := dk_167 0 4 (dk_at dksX1_deathsOf_2 1 rfl rfl)
theorem dX1_deathsOf_51 : decode cX1_deathsOf 51 = .ok (.iconst 0, 1) := dk_3 (dk_at dksX1_deathsOf_2 4 rfl rfl)
theorem dX1_deathsOf_52 : decode cX1_deathsOf 52 = .ok (.iadd, 1) := dk_96 (dk_at dksX1_deathsOf_2 5 rfl rfl)
theorem dX1_deathsOf_53 : decode cX1_deathsOf 53 = .ok (.imul, 1) := dk_104 (dk_at dksX1_deathsOf_2 6 rfl rfl)
theorem dX1_deathsOf_54 : decode cX1_deathsOf 54 = .ok (.bipush 10, 2) := dk_16 10 (dk_at dksX1_deathsOf_2 7 rfl rfl)
theorem dX1_deathsOf_56 : decode cX1_deathsOf 56 = .ok (.idiv, 1) := dk_108 (dk_at dksX1_deathsOf_2 9 rfl rfl)
theorem dX1_deathsOf_57 : decode cX1_deathsOf 57 = .ok (.goto 12, 3) := dk_167 0 12 (dk_at dksX1_deathsOf_2 10 rfl rfl)
theorem dX1_deathsOf_60 : decode cX1_deathsOf 60 = .ok (.aload_n 0, 1) := dk_42 (dk_at dksX1_deathsOf_2 13 rfl rfl)
theorem dX1_deathsOf_61 : decode cX1_deathsOf 61 = .ok (.getfield 204, 3) := dk_180 0 204 (dk_at dksX1_deathsOf_2 14 rfl rfl)
theorem dX1_deathsOf_64 : decode cX1_deathsOf 64 = .ok (.aload_n 1, 1) := dk_43 (dk_at dksX1_deathsOf_2 17 rfl rfl)
theorem dX1_deathsOf_65 : decode cX1_deathsOf 65 = .ok (.iload_n 2, 1) := dk_28 (dk_at dksX1_deathsOf_2 18 rfl rfl)
theorem dX1_deathsOf_66 : decode cX1_deathsOf 66 = .ok (.invokevirtual 305, 3) := dk_182 1 49 (dk_at dksX1_deathsOf_2 19 rfl rfl)
theorem dX1_deathsOf_69 : decode cX1_deathsOf 69 = .ok (.istore 4, 2) := dk_54 4 (dk_at dksX1_deathsOf_2 22 rfl rfl)
theorem dX1_deathsOf_71 : decode cX1_deathsOf 71 = .ok (.iconst 0, 1) := dk_3 (dk_at dksX1_deathsOf_3 0 rfl rfl)
theorem dX1_deathsOf_72 : decode cX1_deathsOf 72 = .ok (.aload_n 1, 1) := dk_43 (dk_at dksX1_deathsOf_3 1 rfl rfl)
theorem dX1_deathsOf_73 : decode cX1_deathsOf 73 = .ok (.getfield 302, 3) := dk_180 1 46 (dk_at dksX1_deathsOf_3 2 rfl rfl)
theorem dX1_deathsOf_76 : decode cX1_deathsOf 76 = .ok (.iload 4, 2) := dk_21 4 (dk_at dksX1_deathsOf_3 5 rfl rfl)
theorem dX1_deathsOf_78 : decode cX1_deathsOf 78 = .ok (.invokestatic 285, 3) := dk_184 1 29 (dk_at dksX1_deathsOf_3 7 rfl rfl)
theorem dX1_deathsOf_81 : decode cX1_deathsOf 81 = .ok (.invokestatic 290, 3) := dk_184 1 34 (dk_at dksX1_deathsOf_3 10 rfl rfl)
theorem dX1_deathsOf_84 : decode cX1_deathsOf 84 = .ok (.ireturn, 1) := dk_172 (dk_at dksX1_deathsOf_3 13 rfl rfl)
abbrev cX1_tell : ByteArray := prog_1_method_5_code
def yX1_tell : MethodName := ⟨RX1, "tell", "(J)V"⟩
def dkwX1_tell_0 : List UInt8 := [42, 180, 0, 94, 42, 180, 0, 122, 31, 80, 42, 89, 180, 0, 122, 4, 96, 181, 0, 122, 177]
abbrev dktX1_tell_0 : List UInt8 := dkwX1_tell_0 ++ []
theorem dksX1_tell_0 : cX1_tell.data.toList.drop 0 = dktX1_tell_0 := by decide +kernel
theorem dX1_tell_0 : decode cX1_tell 0 = .ok (.aload_n 0, 1) := dk_42 (dk_at dksX1_tell_0 0 rfl rfl)
theorem dX1_tell_1 : decode cX1_tell 1 = .ok (.getfield 94, 3) := dk_180 0 94 (dk_at dksX1_tell_0 1 rfl rfl)
theorem dX1_tell_4 : decode cX1_tell 4 = .ok (.aload_n 0, 1) := dk_42 (dk_at dksX1_tell_0 4 rfl rfl)
theorem dX1_tell_5 : decode cX1_tell 5 = .ok (.getfield 122, 3) := dk_180 0 122 (dk_at dksX1_tell_0 5 rfl rfl)
theorem dX1_tell_8 : decode cX1_tell 8 = .ok (.lload_n 1, 1) := dk_31 (dk_at dksX1_tell_0 8 rfl rfl)
theorem dX1_tell_9 : decode cX1_tell 9 = .ok (.lastore, 1) := dk_80 (dk_at dksX1_tell_0 9 rfl rfl)
theorem dX1_tell_10 : decode cX1_tell 10 = .ok (.aload_n 0, 1) := dk_42 (dk_at dksX1_tell_0 10 rfl rfl)
theorem dX1_tell_11 : decode cX1_tell 11 = .ok (.dup, 1) := dk_89 (dk_at dksX1_tell_0 11 rfl rfl)
theorem dX1_tell_12 : decode cX1_tell 12 = .ok (.getfield 122, 3) := dk_180 0 122 (dk_at dksX1_tell_0 12 rfl rfl)
theorem dX1_tell_15 : decode cX1_tell 15 = .ok (.iconst 1, 1) := dk_4 (dk_at dksX1_tell_0 15 rfl rfl)
theorem dX1_tell_16 : decode cX1_tell 16 = .ok (.iadd, 1) := dk_96 (dk_at dksX1_tell_0 16 rfl rfl)
theorem dX1_tell_17 : decode cX1_tell 17 = .ok (.putfield 122, 3) := dk_181 0 122 (dk_at dksX1_tell_0 17 rfl rfl)
theorem dX1_tell_20 : decode cX1_tell 20 = .ok (.return_, 1) := dk_177 (dk_at dksX1_tell_0 20 rfl rfl)
abbrev cX1_isMutiny : ByteArray := prog_1_method_17_code
def yX1_isMutiny : MethodName := ⟨RX1, "isMutiny", "(LTreesBeforeMen$Voyage;)Z"⟩
def dkwX1_isMutiny_0 : List UInt8 := [42, 43, 42, 43, 3, 3, 182, 0, 240, 182, 0, 244, 172]
abbrev dktX1_isMutiny_0 : List UInt8 := dkwX1_isMutiny_0 ++ []
theorem dksX1_isMutiny_0 : cX1_isMutiny.data.toList.drop 0 = dktX1_isMutiny_0 := by decide +kernel
theorem dX1_isMutiny_0 : decode cX1_isMutiny 0 = .ok (.aload_n 0, 1) := dk_42 (dk_at dksX1_isMutiny_0 0 rfl rfl)
theorem dX1_isMutiny_1 : decode cX1_isMutiny 1 = .ok (.aload_n 1, 1) := dk_43 (dk_at dksX1_isMutiny_0 1 rfl rfl)
theorem dX1_isMutiny_2 : decode cX1_isMutiny 2 = .ok (.aload_n 0, 1) := dk_42 (dk_at dksX1_isMutiny_0 2 rfl rfl)
theorem dX1_isMutiny_3 : decode cX1_isMutiny 3 = .ok (.aload_n 1, 1) := dk_43 (dk_at dksX1_isMutiny_0 3 rfl rfl)
theorem dX1_isMutiny_4 : decode cX1_isMutiny 4 = .ok (.iconst 0, 1) := dk_3 (dk_at dksX1_isMutiny_0 4 rfl rfl)
theorem dX1_isMutiny_5 : decode cX1_isMutiny 5 = .ok (.iconst 0, 1) := dk_3 (dk_at dksX1_isMutiny_0 5 rfl rfl)
theorem dX1_isMutiny_6 : decode cX1_isMutiny 6 = .ok (.invokevirtual 240, 3) := dk_182 0 240 (dk_at dksX1_isMutiny_0 6 rfl rfl)
theorem dX1_isMutiny_9 : decode cX1_isMutiny 9 = .ok (.invokevirtual 244, 3) := dk_182 0 244 (dk_at dksX1_isMutiny_0 9 rfl rfl)
theorem dX1_isMutiny_12 : decode cX1_isMutiny 12 = .ok (.ireturn, 1) := dk_172 (dk_at dksX1_isMutiny_0 12 rfl rfl)
abbrev cX1_risesOf : ByteArray := prog_1_method_15_code
def yX1_risesOf : MethodName := ⟨RX1, "risesOf", "(LTreesBeforeMen$Voyage;II)I"⟩
def dkwX1_risesOf_4 : List UInt8 := [132, 7, 1, 167, 255, 195, 167, 255, 178, 21, 4, 172]
abbrev dktX1_risesOf_4 : List UInt8 := dkwX1_risesOf_4 ++ []
def dkwX1_risesOf_3 : List UInt8 := [43, 21, 7, 21, 5, 184, 0, 229, 182, 0, 234, 153, 0, 12, 21, 4, 4, 21, 7, 120, 128, 54, 4]
abbrev dktX1_risesOf_3 : List UInt8 := dkwX1_risesOf_3 ++ dktX1_risesOf_4
def dkwX1_risesOf_2 : List UInt8 := [21, 7, 184, 0, 221, 153, 0, 42, 21, 4, 21, 7, 184, 0, 221, 154, 0, 32, 42, 21, 7, 182, 0, 225]
abbrev dktX1_risesOf_2 : List UInt8 := dkwX1_risesOf_2 ++ dktX1_risesOf_3
def dkwX1_risesOf_1 : List UInt8 := [21, 5, 159, 0, 77, 21, 4, 54, 5, 3, 54, 7, 21, 7, 42, 180, 0, 126, 162, 0, 58, 21, 6]
abbrev dktX1_risesOf_1 : List UInt8 := dkwX1_risesOf_1 ++ dktX1_risesOf_2
def dkwX1_risesOf_0 : List UInt8 := [28, 54, 4, 2, 54, 5, 43, 42, 180, 0, 126, 3, 182, 0, 217, 29, 2, 130, 126, 54, 6, 21, 4]
abbrev dktX1_risesOf_0 : List UInt8 := dkwX1_risesOf_0 ++ dktX1_risesOf_1
theorem dksX1_risesOf_0 : cX1_risesOf.data.toList.drop 0 = dktX1_risesOf_0 := by decide +kernel
theorem dksX1_risesOf_1 : cX1_risesOf.data.toList.drop 23 = dktX1_risesOf_1 := dk_seg dksX1_risesOf_0 23 rfl rfl
theorem dksX1_risesOf_2 : cX1_risesOf.data.toList.drop 46 = dktX1_risesOf_2 := dk_seg dksX1_risesOf_1 23 rfl rfl
theorem dksX1_risesOf_3 : cX1_risesOf.data.toList.drop 70 = dktX1_risesOf_3 := dk_seg dksX1_risesOf_2 24 rfl rfl
theorem dksX1_risesOf_4 : cX1_risesOf.data.toList.drop 93 = dktX1_risesOf_4 := dk_seg dksX1_risesOf_3 23 rfl rfl
theorem dX1_risesOf_0 : decode cX1_risesOf 0 = .ok (.iload_n 2, 1) := dk_28 (dk_at dksX1_risesOf_0 0 rfl rfl)
theorem dX1_risesOf_1 : decode cX1_risesOf 1 = .ok (.istore 4, 2) := dk_54 4 (dk_at dksX1_risesOf_0 1 rfl rfl)
theorem dX1_risesOf_3 : decode cX1_risesOf 3 = .ok (.iconst (-1), 1) := dk_2 (dk_at dksX1_risesOf_0 3 rfl rfl)
theorem dX1_risesOf_4 : decode cX1_risesOf 4 = .ok (.istore 5, 2) := dk_54 5 (dk_at dksX1_risesOf_0 4 rfl rfl)
theorem dX1_risesOf_6 : decode cX1_risesOf 6 = .ok (.aload_n 1, 1) := dk_43 (dk_at dksX1_risesOf_0 6 rfl rfl)
theorem dX1_risesOf_7 : decode cX1_risesOf 7 = .ok (.aload_n 0, 1) := dk_42 (dk_at dksX1_risesOf_0 7 rfl rfl)
theorem dX1_risesOf_8 : decode cX1_risesOf 8 = .ok (.getfield 126, 3) := dk_180 0 126 (dk_at dksX1_risesOf_0 8 rfl rfl)
theorem dX1_risesOf_11 : decode cX1_risesOf 11 = .ok (.iconst 0, 1) := dk_3 (dk_at dksX1_risesOf_0 11 rfl rfl)
theorem dX1_risesOf_12 : decode cX1_risesOf 12 = .ok (.invokevirtual 217, 3) := dk_182 0 217 (dk_at dksX1_risesOf_0 12 rfl rfl)
theorem dX1_risesOf_15 : decode cX1_risesOf 15 = .ok (.iload_n 3, 1) := dk_29 (dk_at dksX1_risesOf_0 15 rfl rfl)
theorem dX1_risesOf_16 : decode cX1_risesOf 16 = .ok (.iconst (-1), 1) := dk_2 (dk_at dksX1_risesOf_0 16 rfl rfl)
theorem dX1_risesOf_17 : decode cX1_risesOf 17 = .ok (.ixor, 1) := dk_130 (dk_at dksX1_risesOf_0 17 rfl rfl)
theorem dX1_risesOf_18 : decode cX1_risesOf 18 = .ok (.iand, 1) := dk_126 (dk_at dksX1_risesOf_0 18 rfl rfl)
theorem dX1_risesOf_19 : decode cX1_risesOf 19 = .ok (.istore 6, 2) := dk_54 6 (dk_at dksX1_risesOf_0 19 rfl rfl)
theorem dX1_risesOf_21 : decode cX1_risesOf 21 = .ok (.iload 4, 2) := dk_21 4 (dk_at dksX1_risesOf_0 21 rfl rfl)
theorem dX1_risesOf_23 : decode cX1_risesOf 23 = .ok (.iload 5, 2) := dk_21 5 (dk_at dksX1_risesOf_1 0 rfl rfl)
theorem dX1_risesOf_25 : decode cX1_risesOf 25 = .ok (.if_icmp .eq 77, 3) := dk_159 0 77 (dk_at dksX1_risesOf_1 2 rfl rfl)
theorem dX1_risesOf_28 : decode cX1_risesOf 28 = .ok (.iload 4, 2) := dk_21 4 (dk_at dksX1_risesOf_1 5 rfl rfl)
theorem dX1_risesOf_30 : decode cX1_risesOf 30 = .ok (.istore 5, 2) := dk_54 5 (dk_at dksX1_risesOf_1 7 rfl rfl)
theorem dX1_risesOf_32 : decode cX1_risesOf 32 = .ok (.iconst 0, 1) := dk_3 (dk_at dksX1_risesOf_1 9 rfl rfl)
theorem dX1_risesOf_33 : decode cX1_risesOf 33 = .ok (.istore 7, 2) := dk_54 7 (dk_at dksX1_risesOf_1 10 rfl rfl)
theorem dX1_risesOf_35 : decode cX1_risesOf 35 = .ok (.iload 7, 2) := dk_21 7 (dk_at dksX1_risesOf_1 12 rfl rfl)
theorem dX1_risesOf_37 : decode cX1_risesOf 37 = .ok (.aload_n 0, 1) := dk_42 (dk_at dksX1_risesOf_1 14 rfl rfl)
theorem dX1_risesOf_38 : decode cX1_risesOf 38 = .ok (.getfield 126, 3) := dk_180 0 126 (dk_at dksX1_risesOf_1 15 rfl rfl)
theorem dX1_risesOf_41 : decode cX1_risesOf 41 = .ok (.if_icmp .ge 58, 3) := dk_162 0 58 (dk_at dksX1_risesOf_1 18 rfl rfl)
theorem dX1_risesOf_44 : decode cX1_risesOf 44 = .ok (.iload 6, 2) := dk_21 6 (dk_at dksX1_risesOf_1 21 rfl rfl)
theorem dX1_risesOf_46 : decode cX1_risesOf 46 = .ok (.iload 7, 2) := dk_21 7 (dk_at dksX1_risesOf_2 0 rfl rfl)
theorem dX1_risesOf_48 : decode cX1_risesOf 48 = .ok (.invokestatic 221, 3) := dk_184 0 221 (dk_at dksX1_risesOf_2 2 rfl rfl)
theorem dX1_risesOf_51 : decode cX1_risesOf 51 = .ok (.ifCond .eq 42, 3) := dk_153 0 42 (dk_at dksX1_risesOf_2 5 rfl rfl)
theorem dX1_risesOf_54 : decode cX1_risesOf 54 = .ok (.iload 4, 2) := dk_21 4 (dk_at dksX1_risesOf_2 8 rfl rfl)
theorem dX1_risesOf_56 : decode cX1_risesOf 56 = .ok (.iload 7, 2) := dk_21 7 (dk_at dksX1_risesOf_2 10 rfl rfl)
theorem dX1_risesOf_58 : decode cX1_risesOf 58 = .ok (.invokestatic 221, 3) := dk_184 0 221 (dk_at dksX1_risesOf_2 12 rfl rfl)
theorem dX1_risesOf_61 : decode cX1_risesOf 61 = .ok (.ifCond .ne 32, 3) := dk_154 0 32 (dk_at dksX1_risesOf_2 15 rfl rfl)
theorem dX1_risesOf_64 : decode cX1_risesOf 64 = .ok (.aload_n 0, 1) := dk_42 (dk_at dksX1_risesOf_2 18 rfl rfl)
theorem dX1_risesOf_65 : decode cX1_risesOf 65 = .ok (.iload 7, 2) := dk_21 7 (dk_at dksX1_risesOf_2 19 rfl rfl)
theorem dX1_risesOf_67 : decode cX1_risesOf 67 = .ok (.invokevirtual 225, 3) := dk_182 0 225 (dk_at dksX1_risesOf_2 21 rfl rfl)
theorem dX1_risesOf_70 : decode cX1_risesOf 70 = .ok (.aload_n 1, 1) := dk_43 (dk_at dksX1_risesOf_3 0 rfl rfl)
theorem dX1_risesOf_71 : decode cX1_risesOf 71 = .ok (.iload 7, 2) := dk_21 7 (dk_at dksX1_risesOf_3 1 rfl rfl)
theorem dX1_risesOf_73 : decode cX1_risesOf 73 = .ok (.iload 5, 2) := dk_21 5 (dk_at dksX1_risesOf_3 3 rfl rfl)
theorem dX1_risesOf_75 : decode cX1_risesOf 75 = .ok (.invokestatic 229, 3) := dk_184 0 229 (dk_at dksX1_risesOf_3 5 rfl rfl)
theorem dX1_risesOf_78 : decode cX1_risesOf 78 = .ok (.invokevirtual 234, 3) := dk_182 0 234 (dk_at dksX1_risesOf_3 8 rfl rfl)
theorem dX1_risesOf_81 : decode cX1_risesOf 81 = .ok (.ifCond .eq 12, 3) := dk_153 0 12 (dk_at dksX1_risesOf_3 11 rfl rfl)
theorem dX1_risesOf_84 : decode cX1_risesOf 84 = .ok (.iload 4, 2) := dk_21 4 (dk_at dksX1_risesOf_3 14 rfl rfl)
theorem dX1_risesOf_86 : decode cX1_risesOf 86 = .ok (.iconst 1, 1) := dk_4 (dk_at dksX1_risesOf_3 16 rfl rfl)
theorem dX1_risesOf_87 : decode cX1_risesOf 87 = .ok (.iload 7, 2) := dk_21 7 (dk_at dksX1_risesOf_3 17 rfl rfl)
theorem dX1_risesOf_89 : decode cX1_risesOf 89 = .ok (.ishl, 1) := dk_120 (dk_at dksX1_risesOf_3 19 rfl rfl)
theorem dX1_risesOf_90 : decode cX1_risesOf 90 = .ok (.ior, 1) := dk_128 (dk_at dksX1_risesOf_3 20 rfl rfl)
theorem dX1_risesOf_91 : decode cX1_risesOf 91 = .ok (.istore 4, 2) := dk_54 4 (dk_at dksX1_risesOf_3 21 rfl rfl)
theorem dX1_risesOf_93 : decode cX1_risesOf 93 = .ok (.iinc 7 1, 3) := dk_132 7 1 (dk_at dksX1_risesOf_4 0 rfl rfl)
theorem dX1_risesOf_96 : decode cX1_risesOf 96 = .ok (.goto (-61), 3) := dk_167 255 195 (dk_at dksX1_risesOf_4 3 rfl rfl)
theorem dX1_risesOf_99 : decode cX1_risesOf 99 = .ok (.goto (-78), 3) := dk_167 255 178 (dk_at dksX1_risesOf_4 6 rfl rfl)
theorem dX1_risesOf_102 : decode cX1_risesOf 102 = .ok (.iload 4, 2) := dk_21 4 (dk_at dksX1_risesOf_4 9 rfl rfl)
theorem dX1_risesOf_104 : decode cX1_risesOf 104 = .ok (.ireturn, 1) := dk_172 (dk_at dksX1_risesOf_4 11 rfl rfl)
abbrev cX1_has : ByteArray := prog_1_method_2_code
def yX1_has : MethodName := ⟨RX1, "has", "(II)Z"⟩
def dkwX1_has_0 : List UInt8 := [26, 27, 122, 4, 126, 4, 160, 0, 7, 4, 167, 0, 4, 3, 172]
abbrev dktX1_has_0 : List UInt8 := dkwX1_has_0 ++ []
theorem dksX1_has_0 : cX1_has.data.toList.drop 0 = dktX1_has_0 := by decide +kernel
theorem dX1_has_0 : decode cX1_has 0 = .ok (.iload_n 0, 1) := dk_26 (dk_at dksX1_has_0 0 rfl rfl)
theorem dX1_has_1 : decode cX1_has 1 = .ok (.iload_n 1, 1) := dk_27 (dk_at dksX1_has_0 1 rfl rfl)
theorem dX1_has_2 : decode cX1_has 2 = .ok (.ishr, 1) := dk_122 (dk_at dksX1_has_0 2 rfl rfl)
theorem dX1_has_3 : decode cX1_has 3 = .ok (.iconst 1, 1) := dk_4 (dk_at dksX1_has_0 3 rfl rfl)
theorem dX1_has_4 : decode cX1_has 4 = .ok (.iand, 1) := dk_126 (dk_at dksX1_has_0 4 rfl rfl)
theorem dX1_has_5 : decode cX1_has 5 = .ok (.iconst 1, 1) := dk_4 (dk_at dksX1_has_0 5 rfl rfl)
theorem dX1_has_6 : decode cX1_has 6 = .ok (.if_icmp .ne 7, 3) := dk_160 0 7 (dk_at dksX1_has_0 6 rfl rfl)
theorem dX1_has_9 : decode cX1_has 9 = .ok (.iconst 1, 1) := dk_4 (dk_at dksX1_has_0 9 rfl rfl)
theorem dX1_has_10 : decode cX1_has 10 = .ok (.goto 4, 3) := dk_167 0 4 (dk_at dksX1_has_0 10 rfl rfl)
theorem dX1_has_13 : decode cX1_has 13 = .ok (.iconst 0, 1) := dk_3 (dk_at dksX1_has_0 13 rfl rfl)
theorem dX1_has_14 : decode cX1_has 14 = .ok (.ireturn, 1) := dk_172 (dk_at dksX1_has_0 14 rfl rfl)
abbrev cX1_kindOf : ByteArray := prog_1_method_3_code
def yX1_kindOf : MethodName := ⟨RX1, "kindOf", "(I)LTreesBeforeMen$Kind;"⟩
def dkwX1_kindOf_3 : List UInt8 := [176]
abbrev dktX1_kindOf_3 : List UInt8 := dkwX1_kindOf_3 ++ []
def dkwX1_kindOf_2 : List UInt8 := [42, 180, 0, 7, 176, 42, 180, 0, 11, 176, 42, 180, 0, 14, 176, 42, 180, 0, 17, 176, 42, 180, 0, 20]
abbrev dktX1_kindOf_2 : List UInt8 := dkwX1_kindOf_2 ++ dktX1_kindOf_3
def dkwX1_kindOf_1 : List UInt8 := [170, 0, 0, 0, 0, 50, 0, 0, 0, 1, 0, 0, 0, 4, 0, 0, 0, 30, 0, 0, 0, 35, 0, 0, 0, 40, 0, 0, 0, 45]
abbrev dktX1_kindOf_1 : List UInt8 := dkwX1_kindOf_1 ++ dktX1_kindOf_2
def dkwX1_kindOf_0 : List UInt8 := [42, 180, 0, 1, 27, 46]
abbrev dktX1_kindOf_0 : List UInt8 := dkwX1_kindOf_0 ++ dktX1_kindOf_1
theorem dksX1_kindOf_0 : cX1_kindOf.data.toList.drop 0 = dktX1_kindOf_0 := by decide +kernel
theorem dksX1_kindOf_1 : cX1_kindOf.data.toList.drop 6 = dktX1_kindOf_1 := dk_seg dksX1_kindOf_0 6 rfl rfl
theorem dksX1_kindOf_2 : cX1_kindOf.data.toList.drop 36 = dktX1_kindOf_2 := dk_seg dksX1_kindOf_1 30 rfl rfl
theorem dksX1_kindOf_3 : cX1_kindOf.data.toList.drop 60 = dktX1_kindOf_3 := dk_seg dksX1_kindOf_2 24 rfl rfl
theorem dX1_kindOf_0 : decode cX1_kindOf 0 = .ok (.aload_n 0, 1) := dk_42 (dk_at dksX1_kindOf_0 0 rfl rfl)
theorem dX1_kindOf_1 : decode cX1_kindOf 1 = .ok (.getfield 1, 3) := dk_180 0 1 (dk_at dksX1_kindOf_0 1 rfl rfl)
theorem dX1_kindOf_4 : decode cX1_kindOf 4 = .ok (.iload_n 1, 1) := dk_27 (dk_at dksX1_kindOf_0 4 rfl rfl)
theorem dX1_kindOf_5 : decode cX1_kindOf 5 = .ok (.iaload, 1) := dk_46 (dk_at dksX1_kindOf_0 5 rfl rfl)
theorem dX1_kindOf_6 : decode cX1_kindOf 6 = .ok (.tableswitch 50 1 4 #[30, 35, 40, 45], 30) := by decide +kernel
theorem dX1_kindOf_36 : decode cX1_kindOf 36 = .ok (.aload_n 0, 1) := dk_42 (dk_at dksX1_kindOf_2 0 rfl rfl)
theorem dX1_kindOf_37 : decode cX1_kindOf 37 = .ok (.getfield 7, 3) := dk_180 0 7 (dk_at dksX1_kindOf_2 1 rfl rfl)
theorem dX1_kindOf_40 : decode cX1_kindOf 40 = .ok (.areturn, 1) := dk_176 (dk_at dksX1_kindOf_2 4 rfl rfl)
theorem dX1_kindOf_41 : decode cX1_kindOf 41 = .ok (.aload_n 0, 1) := dk_42 (dk_at dksX1_kindOf_2 5 rfl rfl)
theorem dX1_kindOf_42 : decode cX1_kindOf 42 = .ok (.getfield 11, 3) := dk_180 0 11 (dk_at dksX1_kindOf_2 6 rfl rfl)
theorem dX1_kindOf_45 : decode cX1_kindOf 45 = .ok (.areturn, 1) := dk_176 (dk_at dksX1_kindOf_2 9 rfl rfl)
theorem dX1_kindOf_46 : decode cX1_kindOf 46 = .ok (.aload_n 0, 1) := dk_42 (dk_at dksX1_kindOf_2 10 rfl rfl)
theorem dX1_kindOf_47 : decode cX1_kindOf 47 = .ok (.getfield 14, 3) := dk_180 0 14 (dk_at dksX1_kindOf_2 11 rfl rfl)
theorem dX1_kindOf_50 : decode cX1_kindOf 50 = .ok (.areturn, 1) := dk_176 (dk_at dksX1_kindOf_2 14 rfl rfl)
theorem dX1_kindOf_51 : decode cX1_kindOf 51 = .ok (.aload_n 0, 1) := dk_42 (dk_at dksX1_kindOf_2 15 rfl rfl)
theorem dX1_kindOf_52 : decode cX1_kindOf 52 = .ok (.getfield 17, 3) := dk_180 0 17 (dk_at dksX1_kindOf_2 16 rfl rfl)
theorem dX1_kindOf_55 : decode cX1_kindOf 55 = .ok (.areturn, 1) := dk_176 (dk_at dksX1_kindOf_2 19 rfl rfl)
theorem dX1_kindOf_56 : decode cX1_kindOf 56 = .ok (.aload_n 0, 1) := dk_42 (dk_at dksX1_kindOf_2 20 rfl rfl)
theorem dX1_kindOf_57 : decode cX1_kindOf 57 = .ok (.getfield 20, 3) := dk_180 0 20 (dk_at dksX1_kindOf_2 21 rfl rfl)
theorem dX1_kindOf_60 : decode cX1_kindOf 60 = .ok (.areturn, 1) := dk_176 (dk_at dksX1_kindOf_3 0 rfl rfl)
abbrev cX1_isMutiny_2 : ByteArray := prog_1_method_16_code
def yX1_isMutiny_2 : MethodName := ⟨RX1, "isMutiny", "(LTreesBeforeMen$Voyage;I)Z"⟩
def dkwX1_isMutiny_2_1 : List UInt8 := [167, 0, 4, 3, 172]
abbrev dktX1_isMutiny_2_1 : List UInt8 := dkwX1_isMutiny_2_1 ++ []
def dkwX1_isMutiny_2_0 : List UInt8 := [5, 28, 184, 0, 229, 104, 43, 42, 180, 0, 126, 3, 182, 0, 217, 184, 0, 229, 164, 0, 7, 4]
abbrev dktX1_isMutiny_2_0 : List UInt8 := dkwX1_isMutiny_2_0 ++ dktX1_isMutiny_2_1
theorem dksX1_isMutiny_2_0 : cX1_isMutiny_2.data.toList.drop 0 = dktX1_isMutiny_2_0 := by decide +kernel
theorem dksX1_isMutiny_2_1 : cX1_isMutiny_2.data.toList.drop 22 = dktX1_isMutiny_2_1 := dk_seg dksX1_isMutiny_2_0 22 rfl rfl
theorem dX1_isMutiny_2_0 : decode cX1_isMutiny_2 0 = .ok (.iconst 2, 1) := dk_5 (dk_at dksX1_isMutiny_2_0 0 rfl rfl)
theorem dX1_isMutiny_2_1 : decode cX1_isMutiny_2 1 = .ok (.iload_n 2, 1) := dk_28 (dk_at dksX1_isMutiny_2_0 1 rfl rfl)
theorem dX1_isMutiny_2_2 : decode cX1_isMutiny_2 2 = .ok (.invokestatic 229, 3) := dk_184 0 229 (dk_at dksX1_isMutiny_2_0 2 rfl rfl)
theorem dX1_isMutiny_2_5 : decode cX1_isMutiny_2 5 = .ok (.imul, 1) := dk_104 (dk_at dksX1_isMutiny_2_0 5 rfl rfl)
theorem dX1_isMutiny_2_6 : decode cX1_isMutiny_2 6 = .ok (.aload_n 1, 1) := dk_43 (dk_at dksX1_isMutiny_2_0 6 rfl rfl)
theorem dX1_isMutiny_2_7 : decode cX1_isMutiny_2 7 = .ok (.aload_n 0, 1) := dk_42 (dk_at dksX1_isMutiny_2_0 7 rfl rfl)
theorem dX1_isMutiny_2_8 : decode cX1_isMutiny_2 8 = .ok (.getfield 126, 3) := dk_180 0 126 (dk_at dksX1_isMutiny_2_0 8 rfl rfl)
theorem dX1_isMutiny_2_11 : decode cX1_isMutiny_2 11 = .ok (.iconst 0, 1) := dk_3 (dk_at dksX1_isMutiny_2_0 11 rfl rfl)
theorem dX1_isMutiny_2_12 : decode cX1_isMutiny_2 12 = .ok (.invokevirtual 217, 3) := dk_182 0 217 (dk_at dksX1_isMutiny_2_0 12 rfl rfl)
theorem dX1_isMutiny_2_15 : decode cX1_isMutiny_2 15 = .ok (.invokestatic 229, 3) := dk_184 0 229 (dk_at dksX1_isMutiny_2_0 15 rfl rfl)
theorem dX1_isMutiny_2_18 : decode cX1_isMutiny_2 18 = .ok (.if_icmp .le 7, 3) := dk_164 0 7 (dk_at dksX1_isMutiny_2_0 18 rfl rfl)
theorem dX1_isMutiny_2_21 : decode cX1_isMutiny_2 21 = .ok (.iconst 1, 1) := dk_4 (dk_at dksX1_isMutiny_2_0 21 rfl rfl)
theorem dX1_isMutiny_2_22 : decode cX1_isMutiny_2 22 = .ok (.goto 4, 3) := dk_167 0 4 (dk_at dksX1_isMutiny_2_1 0 rfl rfl)
theorem dX1_isMutiny_2_25 : decode cX1_isMutiny_2 25 = .ok (.iconst 0, 1) := dk_3 (dk_at dksX1_isMutiny_2_1 3 rfl rfl)
theorem dX1_isMutiny_2_26 : decode cX1_isMutiny_2 26 = .ok (.ireturn, 1) := dk_172 (dk_at dksX1_isMutiny_2_1 4 rfl rfl)
abbrev cX1_fill : ByteArray := prog_1_method_30_code
def yX1_fill : MethodName := ⟨RX1, "fill", "(I)I"⟩
def dkwX1_fill_1 : List UInt8 := [180, 0, 49, 27, 182, 1, 63, 172]
abbrev dktX1_fill_1 : List UInt8 := dkwX1_fill_1 ++ []
def dkwX1_fill_0 : List UInt8 := [27, 133, 10, 20, 1, 81, 184, 0, 129, 154, 0, 5, 2, 172, 42, 42, 180, 0, 49, 182, 1, 9, 42]
abbrev dktX1_fill_0 : List UInt8 := dkwX1_fill_0 ++ dktX1_fill_1
theorem dksX1_fill_0 : cX1_fill.data.toList.drop 0 = dktX1_fill_0 := by decide +kernel
theorem dksX1_fill_1 : cX1_fill.data.toList.drop 23 = dktX1_fill_1 := dk_seg dksX1_fill_0 23 rfl rfl
theorem dX1_fill_0 : decode cX1_fill 0 = .ok (.iload_n 1, 1) := dk_27 (dk_at dksX1_fill_0 0 rfl rfl)
theorem dX1_fill_1 : decode cX1_fill 1 = .ok (.i2l, 1) := dk_133 (dk_at dksX1_fill_0 1 rfl rfl)
theorem dX1_fill_2 : decode cX1_fill 2 = .ok (.lconst 1, 1) := dk_10 (dk_at dksX1_fill_0 2 rfl rfl)
theorem dX1_fill_3 : decode cX1_fill 3 = .ok (.ldc2_w 337, 3) := dk_20 1 81 (dk_at dksX1_fill_0 3 rfl rfl)
theorem dX1_fill_6 : decode cX1_fill 6 = .ok (.invokestatic 129, 3) := dk_184 0 129 (dk_at dksX1_fill_0 6 rfl rfl)
theorem dX1_fill_9 : decode cX1_fill 9 = .ok (.ifCond .ne 5, 3) := dk_154 0 5 (dk_at dksX1_fill_0 9 rfl rfl)
theorem dX1_fill_12 : decode cX1_fill 12 = .ok (.iconst (-1), 1) := dk_2 (dk_at dksX1_fill_0 12 rfl rfl)
theorem dX1_fill_13 : decode cX1_fill 13 = .ok (.ireturn, 1) := dk_172 (dk_at dksX1_fill_0 13 rfl rfl)
theorem dX1_fill_14 : decode cX1_fill 14 = .ok (.aload_n 0, 1) := dk_42 (dk_at dksX1_fill_0 14 rfl rfl)
theorem dX1_fill_15 : decode cX1_fill 15 = .ok (.aload_n 0, 1) := dk_42 (dk_at dksX1_fill_0 15 rfl rfl)
theorem dX1_fill_16 : decode cX1_fill 16 = .ok (.getfield 49, 3) := dk_180 0 49 (dk_at dksX1_fill_0 16 rfl rfl)
theorem dX1_fill_19 : decode cX1_fill 19 = .ok (.invokevirtual 265, 3) := dk_182 1 9 (dk_at dksX1_fill_0 19 rfl rfl)
theorem dX1_fill_22 : decode cX1_fill 22 = .ok (.aload_n 0, 1) := dk_42 (dk_at dksX1_fill_0 22 rfl rfl)
theorem dX1_fill_23 : decode cX1_fill 23 = .ok (.getfield 49, 3) := dk_180 0 49 (dk_at dksX1_fill_1 0 rfl rfl)
theorem dX1_fill_26 : decode cX1_fill 26 = .ok (.iload_n 1, 1) := dk_27 (dk_at dksX1_fill_1 3 rfl rfl)
theorem dX1_fill_27 : decode cX1_fill 27 = .ok (.invokevirtual 319, 3) := dk_182 1 63 (dk_at dksX1_fill_1 4 rfl rfl)
theorem dX1_fill_30 : decode cX1_fill 30 = .ok (.ireturn, 1) := dk_172 (dk_at dksX1_fill_1 7 rfl rfl)
abbrev cX1_plant : ByteArray := prog_1_method_31_code
def yX1_plant : MethodName := ⟨RX1, "plant", "(I)I"⟩
def dkwX1_plant_2 : List UInt8 := [180, 1, 46, 172]
abbrev dktX1_plant_2 : List UInt8 := dkwX1_plant_2 ++ []
def dkwX1_plant_1 : List UInt8 := [180, 0, 49, 16, 99, 42, 180, 0, 49, 180, 1, 46, 27, 96, 184, 1, 29, 181, 1, 46, 42, 180, 0, 49]
abbrev dktX1_plant_1 : List UInt8 := dkwX1_plant_1 ++ dktX1_plant_2
def dkwX1_plant_0 : List UInt8 := [27, 133, 10, 20, 1, 81, 184, 0, 129, 154, 0, 5, 2, 172, 42, 42, 180, 0, 49, 182, 1, 9, 42]
abbrev dktX1_plant_0 : List UInt8 := dkwX1_plant_0 ++ dktX1_plant_1
theorem dksX1_plant_0 : cX1_plant.data.toList.drop 0 = dktX1_plant_0 := by decide +kernel
theorem dksX1_plant_1 : cX1_plant.data.toList.drop 23 = dktX1_plant_1 := dk_seg dksX1_plant_0 23 rfl rfl
theorem dksX1_plant_2 : cX1_plant.data.toList.drop 47 = dktX1_plant_2 := dk_seg dksX1_plant_1 24 rfl rfl
theorem dX1_plant_0 : decode cX1_plant 0 = .ok (.iload_n 1, 1) := dk_27 (dk_at dksX1_plant_0 0 rfl rfl)
theorem dX1_plant_1 : decode cX1_plant 1 = .ok (.i2l, 1) := dk_133 (dk_at dksX1_plant_0 1 rfl rfl)
theorem dX1_plant_2 : decode cX1_plant 2 = .ok (.lconst 1, 1) := dk_10 (dk_at dksX1_plant_0 2 rfl rfl)
theorem dX1_plant_3 : decode cX1_plant 3 = .ok (.ldc2_w 337, 3) := dk_20 1 81 (dk_at dksX1_plant_0 3 rfl rfl)
theorem dX1_plant_6 : decode cX1_plant 6 = .ok (.invokestatic 129, 3) := dk_184 0 129 (dk_at dksX1_plant_0 6 rfl rfl)
theorem dX1_plant_9 : decode cX1_plant 9 = .ok (.ifCond .ne 5, 3) := dk_154 0 5 (dk_at dksX1_plant_0 9 rfl rfl)
theorem dX1_plant_12 : decode cX1_plant 12 = .ok (.iconst (-1), 1) := dk_2 (dk_at dksX1_plant_0 12 rfl rfl)
theorem dX1_plant_13 : decode cX1_plant 13 = .ok (.ireturn, 1) := dk_172 (dk_at dksX1_plant_0 13 rfl rfl)
theorem dX1_plant_14 : decode cX1_plant 14 = .ok (.aload_n 0, 1) := dk_42 (dk_at dksX1_plant_0 14 rfl rfl)
theorem dX1_plant_15 : decode cX1_plant 15 = .ok (.aload_n 0, 1) := dk_42 (dk_at dksX1_plant_0 15 rfl rfl)
theorem dX1_plant_16 : decode cX1_plant 16 = .ok (.getfield 49, 3) := dk_180 0 49 (dk_at dksX1_plant_0 16 rfl rfl)
theorem dX1_plant_19 : decode cX1_plant 19 = .ok (.invokevirtual 265, 3) := dk_182 1 9 (dk_at dksX1_plant_0 19 rfl rfl)
theorem dX1_plant_22 : decode cX1_plant 22 = .ok (.aload_n 0, 1) := dk_42 (dk_at dksX1_plant_0 22 rfl rfl)
theorem dX1_plant_23 : decode cX1_plant 23 = .ok (.getfield 49, 3) := dk_180 0 49 (dk_at dksX1_plant_1 0 rfl rfl)
theorem dX1_plant_26 : decode cX1_plant 26 = .ok (.bipush 99, 2) := dk_16 99 (dk_at dksX1_plant_1 3 rfl rfl)
theorem dX1_plant_28 : decode cX1_plant 28 = .ok (.aload_n 0, 1) := dk_42 (dk_at dksX1_plant_1 5 rfl rfl)
theorem dX1_plant_29 : decode cX1_plant 29 = .ok (.getfield 49, 3) := dk_180 0 49 (dk_at dksX1_plant_1 6 rfl rfl)
theorem dX1_plant_32 : decode cX1_plant 32 = .ok (.getfield 302, 3) := dk_180 1 46 (dk_at dksX1_plant_1 9 rfl rfl)
theorem dX1_plant_35 : decode cX1_plant 35 = .ok (.iload_n 1, 1) := dk_27 (dk_at dksX1_plant_1 12 rfl rfl)
theorem dX1_plant_36 : decode cX1_plant 36 = .ok (.iadd, 1) := dk_96 (dk_at dksX1_plant_1 13 rfl rfl)
theorem dX1_plant_37 : decode cX1_plant 37 = .ok (.invokestatic 285, 3) := dk_184 1 29 (dk_at dksX1_plant_1 14 rfl rfl)
theorem dX1_plant_40 : decode cX1_plant 40 = .ok (.putfield 302, 3) := dk_181 1 46 (dk_at dksX1_plant_1 17 rfl rfl)
theorem dX1_plant_43 : decode cX1_plant 43 = .ok (.aload_n 0, 1) := dk_42 (dk_at dksX1_plant_1 20 rfl rfl)
theorem dX1_plant_44 : decode cX1_plant 44 = .ok (.getfield 49, 3) := dk_180 0 49 (dk_at dksX1_plant_1 21 rfl rfl)
theorem dX1_plant_47 : decode cX1_plant 47 = .ok (.getfield 302, 3) := dk_180 1 46 (dk_at dksX1_plant_2 0 rfl rfl)
theorem dX1_plant_50 : decode cX1_plant 50 = .ok (.ireturn, 1) := dk_172 (dk_at dksX1_plant_2 3 rfl rfl)
abbrev cX1_scold : ByteArray := prog_1_method_34_code
def yX1_scold : MethodName := ⟨RX1, "scold", "(II)I"⟩
def dkwX1_scold_0 : List UInt8 := [42, 27, 28, 4, 182, 1, 86, 172]
abbrev dktX1_scold_0 : List UInt8 := dkwX1_scold_0 ++ []
theorem dksX1_scold_0 : cX1_scold.data.toList.drop 0 = dktX1_scold_0 := by decide +kernel
theorem dX1_scold_0 : decode cX1_scold 0 = .ok (.aload_n 0, 1) := dk_42 (dk_at dksX1_scold_0 0 rfl rfl)
theorem dX1_scold_1 : decode cX1_scold 1 = .ok (.iload_n 1, 1) := dk_27 (dk_at dksX1_scold_0 1 rfl rfl)
theorem dX1_scold_2 : decode cX1_scold 2 = .ok (.iload_n 2, 1) := dk_28 (dk_at dksX1_scold_0 2 rfl rfl)
theorem dX1_scold_3 : decode cX1_scold 3 = .ok (.iconst 1, 1) := dk_4 (dk_at dksX1_scold_0 3 rfl rfl)
theorem dX1_scold_4 : decode cX1_scold 4 = .ok (.invokevirtual 342, 3) := dk_182 1 86 (dk_at dksX1_scold_0 4 rfl rfl)
theorem dX1_scold_7 : decode cX1_scold 7 = .ok (.ireturn, 1) := dk_172 (dk_at dksX1_scold_0 7 rfl rfl)
abbrev cX1_speaks : ByteArray := prog_1_method_33_code
def yX1_speaks : MethodName := ⟨RX1, "speaks", "(III)I"⟩
def dkwX1_speaks_1 : List UInt8 := [42, 180, 0, 49, 27, 29, 28, 104, 182, 1, 59, 42, 180, 0, 49, 180, 0, 169, 27, 46, 172]
abbrev dktX1_speaks_1 : List UInt8 := dkwX1_speaks_1 ++ []
def dkwX1_speaks_0 : List UInt8 := [42, 27, 28, 182, 1, 83, 54, 4, 21, 4, 156, 0, 6, 21, 4, 172, 42, 42, 180, 0, 49, 182, 1, 9]
abbrev dktX1_speaks_0 : List UInt8 := dkwX1_speaks_0 ++ dktX1_speaks_1
theorem dksX1_speaks_0 : cX1_speaks.data.toList.drop 0 = dktX1_speaks_0 := by decide +kernel
theorem dksX1_speaks_1 : cX1_speaks.data.toList.drop 24 = dktX1_speaks_1 := dk_seg dksX1_speaks_0 24 rfl rfl
theorem dX1_speaks_0 : decode cX1_speaks 0 = .ok (.aload_n 0, 1) := dk_42 (dk_at dksX1_speaks_0 0 rfl rfl)
theorem dX1_speaks_1 : decode cX1_speaks 1 = .ok (.iload_n 1, 1) := dk_27 (dk_at dksX1_speaks_0 1 rfl rfl)
theorem dX1_speaks_2 : decode cX1_speaks 2 = .ok (.iload_n 2, 1) := dk_28 (dk_at dksX1_speaks_0 2 rfl rfl)
theorem dX1_speaks_3 : decode cX1_speaks 3 = .ok (.invokevirtual 339, 3) := dk_182 1 83 (dk_at dksX1_speaks_0 3 rfl rfl)
theorem dX1_speaks_6 : decode cX1_speaks 6 = .ok (.istore 4, 2) := dk_54 4 (dk_at dksX1_speaks_0 6 rfl rfl)
theorem dX1_speaks_8 : decode cX1_speaks 8 = .ok (.iload 4, 2) := dk_21 4 (dk_at dksX1_speaks_0 8 rfl rfl)
theorem dX1_speaks_10 : decode cX1_speaks 10 = .ok (.ifCond .ge 6, 3) := dk_156 0 6 (dk_at dksX1_speaks_0 10 rfl rfl)
theorem dX1_speaks_13 : decode cX1_speaks 13 = .ok (.iload 4, 2) := dk_21 4 (dk_at dksX1_speaks_0 13 rfl rfl)
theorem dX1_speaks_15 : decode cX1_speaks 15 = .ok (.ireturn, 1) := dk_172 (dk_at dksX1_speaks_0 15 rfl rfl)
theorem dX1_speaks_16 : decode cX1_speaks 16 = .ok (.aload_n 0, 1) := dk_42 (dk_at dksX1_speaks_0 16 rfl rfl)
theorem dX1_speaks_17 : decode cX1_speaks 17 = .ok (.aload_n 0, 1) := dk_42 (dk_at dksX1_speaks_0 17 rfl rfl)
theorem dX1_speaks_18 : decode cX1_speaks 18 = .ok (.getfield 49, 3) := dk_180 0 49 (dk_at dksX1_speaks_0 18 rfl rfl)
theorem dX1_speaks_21 : decode cX1_speaks 21 = .ok (.invokevirtual 265, 3) := dk_182 1 9 (dk_at dksX1_speaks_0 21 rfl rfl)
theorem dX1_speaks_24 : decode cX1_speaks 24 = .ok (.aload_n 0, 1) := dk_42 (dk_at dksX1_speaks_1 0 rfl rfl)
theorem dX1_speaks_25 : decode cX1_speaks 25 = .ok (.getfield 49, 3) := dk_180 0 49 (dk_at dksX1_speaks_1 1 rfl rfl)
theorem dX1_speaks_28 : decode cX1_speaks 28 = .ok (.iload_n 1, 1) := dk_27 (dk_at dksX1_speaks_1 4 rfl rfl)
theorem dX1_speaks_29 : decode cX1_speaks 29 = .ok (.iload_n 3, 1) := dk_29 (dk_at dksX1_speaks_1 5 rfl rfl)
theorem dX1_speaks_30 : decode cX1_speaks 30 = .ok (.iload_n 2, 1) := dk_28 (dk_at dksX1_speaks_1 6 rfl rfl)
theorem dX1_speaks_31 : decode cX1_speaks 31 = .ok (.imul, 1) := dk_104 (dk_at dksX1_speaks_1 7 rfl rfl)
theorem dX1_speaks_32 : decode cX1_speaks 32 = .ok (.invokevirtual 315, 3) := dk_182 1 59 (dk_at dksX1_speaks_1 8 rfl rfl)
theorem dX1_speaks_35 : decode cX1_speaks 35 = .ok (.aload_n 0, 1) := dk_42 (dk_at dksX1_speaks_1 11 rfl rfl)
theorem dX1_speaks_36 : decode cX1_speaks 36 = .ok (.getfield 49, 3) := dk_180 0 49 (dk_at dksX1_speaks_1 12 rfl rfl)
theorem dX1_speaks_39 : decode cX1_speaks 39 = .ok (.getfield 169, 3) := dk_180 0 169 (dk_at dksX1_speaks_1 15 rfl rfl)
theorem dX1_speaks_42 : decode cX1_speaks 42 = .ok (.iload_n 1, 1) := dk_27 (dk_at dksX1_speaks_1 18 rfl rfl)
theorem dX1_speaks_43 : decode cX1_speaks 43 = .ok (.iaload, 1) := dk_46 (dk_at dksX1_speaks_1 19 rfl rfl)
theorem dX1_speaks_44 : decode cX1_speaks 44 = .ok (.ireturn, 1) := dk_172 (dk_at dksX1_speaks_1 20 rfl rfl)
abbrev cX1_refusesWords : ByteArray := prog_1_method_32_code
def yX1_refusesWords : MethodName := ⟨RX1, "refusesWords", "(II)I"⟩
def dkwX1_refusesWords_1 : List UInt8 := [180, 0, 49, 180, 0, 172, 27, 46, 154, 0, 7, 3, 167, 0, 5, 16, 254, 172]
abbrev dktX1_refusesWords_1 : List UInt8 := dkwX1_refusesWords_1 ++ []
def dkwX1_refusesWords_0 : List UInt8 := [42, 27, 182, 0, 248, 153, 0, 15, 28, 133, 10, 20, 1, 7, 184, 0, 129, 154, 0, 5, 2, 172, 42]
abbrev dktX1_refusesWords_0 : List UInt8 := dkwX1_refusesWords_0 ++ dktX1_refusesWords_1
theorem dksX1_refusesWords_0 : cX1_refusesWords.data.toList.drop 0 = dktX1_refusesWords_0 := by decide +kernel
theorem dksX1_refusesWords_1 : cX1_refusesWords.data.toList.drop 23 = dktX1_refusesWords_1 := dk_seg dksX1_refusesWords_0 23 rfl rfl
theorem dX1_refusesWords_0 : decode cX1_refusesWords 0 = .ok (.aload_n 0, 1) := dk_42 (dk_at dksX1_refusesWords_0 0 rfl rfl)
theorem dX1_refusesWords_1 : decode cX1_refusesWords 1 = .ok (.iload_n 1, 1) := dk_27 (dk_at dksX1_refusesWords_0 1 rfl rfl)
theorem dX1_refusesWords_2 : decode cX1_refusesWords 2 = .ok (.invokevirtual 248, 3) := dk_182 0 248 (dk_at dksX1_refusesWords_0 2 rfl rfl)
theorem dX1_refusesWords_5 : decode cX1_refusesWords 5 = .ok (.ifCond .eq 15, 3) := dk_153 0 15 (dk_at dksX1_refusesWords_0 5 rfl rfl)
theorem dX1_refusesWords_8 : decode cX1_refusesWords 8 = .ok (.iload_n 2, 1) := dk_28 (dk_at dksX1_refusesWords_0 8 rfl rfl)
theorem dX1_refusesWords_9 : decode cX1_refusesWords 9 = .ok (.i2l, 1) := dk_133 (dk_at dksX1_refusesWords_0 9 rfl rfl)
theorem dX1_refusesWords_10 : decode cX1_refusesWords 10 = .ok (.lconst 1, 1) := dk_10 (dk_at dksX1_refusesWords_0 10 rfl rfl)
theorem dX1_refusesWords_11 : decode cX1_refusesWords 11 = .ok (.ldc2_w 263, 3) := dk_20 1 7 (dk_at dksX1_refusesWords_0 11 rfl rfl)
theorem dX1_refusesWords_14 : decode cX1_refusesWords 14 = .ok (.invokestatic 129, 3) := dk_184 0 129 (dk_at dksX1_refusesWords_0 14 rfl rfl)
theorem dX1_refusesWords_17 : decode cX1_refusesWords 17 = .ok (.ifCond .ne 5, 3) := dk_154 0 5 (dk_at dksX1_refusesWords_0 17 rfl rfl)
theorem dX1_refusesWords_20 : decode cX1_refusesWords 20 = .ok (.iconst (-1), 1) := dk_2 (dk_at dksX1_refusesWords_0 20 rfl rfl)
theorem dX1_refusesWords_21 : decode cX1_refusesWords 21 = .ok (.ireturn, 1) := dk_172 (dk_at dksX1_refusesWords_0 21 rfl rfl)
theorem dX1_refusesWords_22 : decode cX1_refusesWords 22 = .ok (.aload_n 0, 1) := dk_42 (dk_at dksX1_refusesWords_0 22 rfl rfl)
theorem dX1_refusesWords_23 : decode cX1_refusesWords 23 = .ok (.getfield 49, 3) := dk_180 0 49 (dk_at dksX1_refusesWords_1 0 rfl rfl)
theorem dX1_refusesWords_26 : decode cX1_refusesWords 26 = .ok (.getfield 172, 3) := dk_180 0 172 (dk_at dksX1_refusesWords_1 3 rfl rfl)
theorem dX1_refusesWords_29 : decode cX1_refusesWords 29 = .ok (.iload_n 1, 1) := dk_27 (dk_at dksX1_refusesWords_1 6 rfl rfl)
theorem dX1_refusesWords_30 : decode cX1_refusesWords 30 = .ok (.iaload, 1) := dk_46 (dk_at dksX1_refusesWords_1 7 rfl rfl)
theorem dX1_refusesWords_31 : decode cX1_refusesWords 31 = .ok (.ifCond .ne 7, 3) := dk_154 0 7 (dk_at dksX1_refusesWords_1 8 rfl rfl)
theorem dX1_refusesWords_34 : decode cX1_refusesWords 34 = .ok (.iconst 0, 1) := dk_3 (dk_at dksX1_refusesWords_1 11 rfl rfl)
theorem dX1_refusesWords_35 : decode cX1_refusesWords 35 = .ok (.goto 5, 3) := dk_167 0 5 (dk_at dksX1_refusesWords_1 12 rfl rfl)
theorem dX1_refusesWords_38 : decode cX1_refusesWords 38 = .ok (.bipush (-2), 2) := dk_16 254 (dk_at dksX1_refusesWords_1 15 rfl rfl)
theorem dX1_refusesWords_40 : decode cX1_refusesWords 40 = .ok (.ireturn, 1) := dk_172 (dk_at dksX1_refusesWords_1 17 rfl rfl)
abbrev cX1_isMan : ByteArray := prog_1_method_6_code
def yX1_isMan : MethodName := ⟨RX1, "isMan", "(I)Z"⟩
def dkwX1_isMan_0 : List UInt8 := [27, 133, 9, 42, 180, 0, 126, 4, 100, 133, 184, 0, 129, 172]
abbrev dktX1_isMan_0 : List UInt8 := dkwX1_isMan_0 ++ []
theorem dksX1_isMan_0 : cX1_isMan.data.toList.drop 0 = dktX1_isMan_0 := by decide +kernel
theorem dX1_isMan_0 : decode cX1_isMan 0 = .ok (.iload_n 1, 1) := dk_27 (dk_at dksX1_isMan_0 0 rfl rfl)
theorem dX1_isMan_1 : decode cX1_isMan 1 = .ok (.i2l, 1) := dk_133 (dk_at dksX1_isMan_0 1 rfl rfl)
theorem dX1_isMan_2 : decode cX1_isMan 2 = .ok (.lconst 0, 1) := dk_9 (dk_at dksX1_isMan_0 2 rfl rfl)
theorem dX1_isMan_3 : decode cX1_isMan 3 = .ok (.aload_n 0, 1) := dk_42 (dk_at dksX1_isMan_0 3 rfl rfl)
theorem dX1_isMan_4 : decode cX1_isMan 4 = .ok (.getfield 126, 3) := dk_180 0 126 (dk_at dksX1_isMan_0 4 rfl rfl)
theorem dX1_isMan_7 : decode cX1_isMan 7 = .ok (.iconst 1, 1) := dk_4 (dk_at dksX1_isMan_0 7 rfl rfl)
theorem dX1_isMan_8 : decode cX1_isMan 8 = .ok (.isub, 1) := dk_100 (dk_at dksX1_isMan_0 8 rfl rfl)
theorem dX1_isMan_9 : decode cX1_isMan 9 = .ok (.i2l, 1) := dk_133 (dk_at dksX1_isMan_0 9 rfl rfl)
theorem dX1_isMan_10 : decode cX1_isMan 10 = .ok (.invokestatic 129, 3) := dk_184 0 129 (dk_at dksX1_isMan_0 10 rfl rfl)
theorem dX1_isMan_13 : decode cX1_isMan 13 = .ok (.ireturn, 1) := dk_172 (dk_at dksX1_isMan_0 13 rfl rfl)
abbrev cX1_soothe : ByteArray := prog_1_method_35_code
def yX1_soothe : MethodName := ⟨RX1, "soothe", "(II)I"⟩
def dkwX1_soothe_0 : List UInt8 := [42, 27, 28, 2, 182, 1, 86, 172]
abbrev dktX1_soothe_0 : List UInt8 := dkwX1_soothe_0 ++ []
theorem dksX1_soothe_0 : cX1_soothe.data.toList.drop 0 = dktX1_soothe_0 := by decide +kernel
theorem dX1_soothe_0 : decode cX1_soothe 0 = .ok (.aload_n 0, 1) := dk_42 (dk_at dksX1_soothe_0 0 rfl rfl)
theorem dX1_soothe_1 : decode cX1_soothe 1 = .ok (.iload_n 1, 1) := dk_27 (dk_at dksX1_soothe_0 1 rfl rfl)
theorem dX1_soothe_2 : decode cX1_soothe 2 = .ok (.iload_n 2, 1) := dk_28 (dk_at dksX1_soothe_0 2 rfl rfl)
theorem dX1_soothe_3 : decode cX1_soothe 3 = .ok (.iconst (-1), 1) := dk_2 (dk_at dksX1_soothe_0 3 rfl rfl)
theorem dX1_soothe_4 : decode cX1_soothe 4 = .ok (.invokevirtual 342, 3) := dk_182 1 86 (dk_at dksX1_soothe_0 4 rfl rfl)
theorem dX1_soothe_7 : decode cX1_soothe 7 = .ok (.ireturn, 1) := dk_172 (dk_at dksX1_soothe_0 7 rfl rfl)
abbrev cX1_runs : ByteArray := prog_1_method_38_code
def yX1_runs : MethodName := ⟨RX1, "runs", "(I)I"⟩
def dkwX1_runs_1 : List UInt8 := [182, 1, 93, 172]
abbrev dktX1_runs_1 : List UInt8 := dkwX1_runs_1 ++ []
def dkwX1_runs_0 : List UInt8 := [42, 27, 182, 1, 90, 61, 28, 156, 0, 5, 28, 172, 42, 42, 180, 0, 49, 182, 1, 9, 42, 27]
abbrev dktX1_runs_0 : List UInt8 := dkwX1_runs_0 ++ dktX1_runs_1
theorem dksX1_runs_0 : cX1_runs.data.toList.drop 0 = dktX1_runs_0 := by decide +kernel
theorem dksX1_runs_1 : cX1_runs.data.toList.drop 22 = dktX1_runs_1 := dk_seg dksX1_runs_0 22 rfl rfl
theorem dX1_runs_0 : decode cX1_runs 0 = .ok (.aload_n 0, 1) := dk_42 (dk_at dksX1_runs_0 0 rfl rfl)
theorem dX1_runs_1 : decode cX1_runs 1 = .ok (.iload_n 1, 1) := dk_27 (dk_at dksX1_runs_0 1 rfl rfl)
theorem dX1_runs_2 : decode cX1_runs 2 = .ok (.invokevirtual 346, 3) := dk_182 1 90 (dk_at dksX1_runs_0 2 rfl rfl)
theorem dX1_runs_5 : decode cX1_runs 5 = .ok (.istore_n 2, 1) := dk_61 (dk_at dksX1_runs_0 5 rfl rfl)
theorem dX1_runs_6 : decode cX1_runs 6 = .ok (.iload_n 2, 1) := dk_28 (dk_at dksX1_runs_0 6 rfl rfl)
theorem dX1_runs_7 : decode cX1_runs 7 = .ok (.ifCond .ge 5, 3) := dk_156 0 5 (dk_at dksX1_runs_0 7 rfl rfl)
theorem dX1_runs_10 : decode cX1_runs 10 = .ok (.iload_n 2, 1) := dk_28 (dk_at dksX1_runs_0 10 rfl rfl)
theorem dX1_runs_11 : decode cX1_runs 11 = .ok (.ireturn, 1) := dk_172 (dk_at dksX1_runs_0 11 rfl rfl)
theorem dX1_runs_12 : decode cX1_runs 12 = .ok (.aload_n 0, 1) := dk_42 (dk_at dksX1_runs_0 12 rfl rfl)
theorem dX1_runs_13 : decode cX1_runs 13 = .ok (.aload_n 0, 1) := dk_42 (dk_at dksX1_runs_0 13 rfl rfl)
theorem dX1_runs_14 : decode cX1_runs 14 = .ok (.getfield 49, 3) := dk_180 0 49 (dk_at dksX1_runs_0 14 rfl rfl)
theorem dX1_runs_17 : decode cX1_runs 17 = .ok (.invokevirtual 265, 3) := dk_182 1 9 (dk_at dksX1_runs_0 17 rfl rfl)
theorem dX1_runs_20 : decode cX1_runs 20 = .ok (.aload_n 0, 1) := dk_42 (dk_at dksX1_runs_0 20 rfl rfl)
theorem dX1_runs_21 : decode cX1_runs 21 = .ok (.iload_n 1, 1) := dk_27 (dk_at dksX1_runs_0 21 rfl rfl)
theorem dX1_runs_22 : decode cX1_runs 22 = .ok (.invokevirtual 349, 3) := dk_182 1 93 (dk_at dksX1_runs_1 0 rfl rfl)
theorem dX1_runs_25 : decode cX1_runs 25 = .ok (.ireturn, 1) := dk_172 (dk_at dksX1_runs_1 3 rfl rfl)
abbrev cX1_refusesRun : ByteArray := prog_1_method_36_code
def yX1_refusesRun : MethodName := ⟨RX1, "refusesRun", "(I)I"⟩
def dkwX1_refusesRun_1 : List UInt8 := [160, 0, 8, 16, 254, 167, 0, 4, 3, 172]
abbrev dktX1_refusesRun_1 : List UInt8 := dkwX1_refusesRun_1 ++ []
def dkwX1_refusesRun_0 : List UInt8 := [42, 27, 182, 0, 248, 154, 0, 7, 2, 167, 0, 22, 42, 180, 0, 49, 180, 0, 172, 27, 46, 5]
abbrev dktX1_refusesRun_0 : List UInt8 := dkwX1_refusesRun_0 ++ dktX1_refusesRun_1
theorem dksX1_refusesRun_0 : cX1_refusesRun.data.toList.drop 0 = dktX1_refusesRun_0 := by decide +kernel
theorem dksX1_refusesRun_1 : cX1_refusesRun.data.toList.drop 22 = dktX1_refusesRun_1 := dk_seg dksX1_refusesRun_0 22 rfl rfl
theorem dX1_refusesRun_0 : decode cX1_refusesRun 0 = .ok (.aload_n 0, 1) := dk_42 (dk_at dksX1_refusesRun_0 0 rfl rfl)
theorem dX1_refusesRun_1 : decode cX1_refusesRun 1 = .ok (.iload_n 1, 1) := dk_27 (dk_at dksX1_refusesRun_0 1 rfl rfl)
theorem dX1_refusesRun_2 : decode cX1_refusesRun 2 = .ok (.invokevirtual 248, 3) := dk_182 0 248 (dk_at dksX1_refusesRun_0 2 rfl rfl)
theorem dX1_refusesRun_5 : decode cX1_refusesRun 5 = .ok (.ifCond .ne 7, 3) := dk_154 0 7 (dk_at dksX1_refusesRun_0 5 rfl rfl)
theorem dX1_refusesRun_8 : decode cX1_refusesRun 8 = .ok (.iconst (-1), 1) := dk_2 (dk_at dksX1_refusesRun_0 8 rfl rfl)
theorem dX1_refusesRun_9 : decode cX1_refusesRun 9 = .ok (.goto 22, 3) := dk_167 0 22 (dk_at dksX1_refusesRun_0 9 rfl rfl)
theorem dX1_refusesRun_12 : decode cX1_refusesRun 12 = .ok (.aload_n 0, 1) := dk_42 (dk_at dksX1_refusesRun_0 12 rfl rfl)
theorem dX1_refusesRun_13 : decode cX1_refusesRun 13 = .ok (.getfield 49, 3) := dk_180 0 49 (dk_at dksX1_refusesRun_0 13 rfl rfl)
theorem dX1_refusesRun_16 : decode cX1_refusesRun 16 = .ok (.getfield 172, 3) := dk_180 0 172 (dk_at dksX1_refusesRun_0 16 rfl rfl)
theorem dX1_refusesRun_19 : decode cX1_refusesRun 19 = .ok (.iload_n 1, 1) := dk_27 (dk_at dksX1_refusesRun_0 19 rfl rfl)
theorem dX1_refusesRun_20 : decode cX1_refusesRun 20 = .ok (.iaload, 1) := dk_46 (dk_at dksX1_refusesRun_0 20 rfl rfl)
theorem dX1_refusesRun_21 : decode cX1_refusesRun 21 = .ok (.iconst 2, 1) := dk_5 (dk_at dksX1_refusesRun_0 21 rfl rfl)
theorem dX1_refusesRun_22 : decode cX1_refusesRun 22 = .ok (.if_icmp .ne 8, 3) := dk_160 0 8 (dk_at dksX1_refusesRun_1 0 rfl rfl)
theorem dX1_refusesRun_25 : decode cX1_refusesRun 25 = .ok (.bipush (-2), 2) := dk_16 254 (dk_at dksX1_refusesRun_1 3 rfl rfl)
theorem dX1_refusesRun_27 : decode cX1_refusesRun 27 = .ok (.goto 4, 3) := dk_167 0 4 (dk_at dksX1_refusesRun_1 5 rfl rfl)
theorem dX1_refusesRun_30 : decode cX1_refusesRun 30 = .ok (.iconst 0, 1) := dk_3 (dk_at dksX1_refusesRun_1 8 rfl rfl)
theorem dX1_refusesRun_31 : decode cX1_refusesRun 31 = .ok (.ireturn, 1) := dk_172 (dk_at dksX1_refusesRun_1 9 rfl rfl)
abbrev cX1_goRun : ByteArray := prog_1_method_37_code
def yX1_goRun : MethodName := ⟨RX1, "goRun", "(I)I"⟩
def dkwX1_goRun_1 : List UInt8 := [180, 0, 49, 27, 16, 10, 182, 1, 59, 3, 172, 42, 180, 0, 49, 180, 0, 172, 27, 4, 79, 4, 172]
abbrev dktX1_goRun_1 : List UInt8 := dkwX1_goRun_1 ++ []
def dkwX1_goRun_0 : List UInt8 := [42, 180, 0, 49, 180, 0, 172, 27, 46, 4, 160, 0, 25, 42, 180, 0, 49, 180, 0, 172, 27, 3, 79, 42]
abbrev dktX1_goRun_0 : List UInt8 := dkwX1_goRun_0 ++ dktX1_goRun_1
theorem dksX1_goRun_0 : cX1_goRun.data.toList.drop 0 = dktX1_goRun_0 := by decide +kernel
theorem dksX1_goRun_1 : cX1_goRun.data.toList.drop 24 = dktX1_goRun_1 := dk_seg dksX1_goRun_0 24 rfl rfl
theorem dX1_goRun_0 : decode cX1_goRun 0 = .ok (.aload_n 0, 1) := dk_42 (dk_at dksX1_goRun_0 0 rfl rfl)
theorem dX1_goRun_1 : decode cX1_goRun 1 = .ok (.getfield 49, 3) := dk_180 0 49 (dk_at dksX1_goRun_0 1 rfl rfl)
theorem dX1_goRun_4 : decode cX1_goRun 4 = .ok (.getfield 172, 3) := dk_180 0 172 (dk_at dksX1_goRun_0 4 rfl rfl)
theorem dX1_goRun_7 : decode cX1_goRun 7 = .ok (.iload_n 1, 1) := dk_27 (dk_at dksX1_goRun_0 7 rfl rfl)
theorem dX1_goRun_8 : decode cX1_goRun 8 = .ok (.iaload, 1) := dk_46 (dk_at dksX1_goRun_0 8 rfl rfl)
theorem dX1_goRun_9 : decode cX1_goRun 9 = .ok (.iconst 1, 1) := dk_4 (dk_at dksX1_goRun_0 9 rfl rfl)
theorem dX1_goRun_10 : decode cX1_goRun 10 = .ok (.if_icmp .ne 25, 3) := dk_160 0 25 (dk_at dksX1_goRun_0 10 rfl rfl)
theorem dX1_goRun_13 : decode cX1_goRun 13 = .ok (.aload_n 0, 1) := dk_42 (dk_at dksX1_goRun_0 13 rfl rfl)
theorem dX1_goRun_14 : decode cX1_goRun 14 = .ok (.getfield 49, 3) := dk_180 0 49 (dk_at dksX1_goRun_0 14 rfl rfl)
theorem dX1_goRun_17 : decode cX1_goRun 17 = .ok (.getfield 172, 3) := dk_180 0 172 (dk_at dksX1_goRun_0 17 rfl rfl)
theorem dX1_goRun_20 : decode cX1_goRun 20 = .ok (.iload_n 1, 1) := dk_27 (dk_at dksX1_goRun_0 20 rfl rfl)
theorem dX1_goRun_21 : decode cX1_goRun 21 = .ok (.iconst 0, 1) := dk_3 (dk_at dksX1_goRun_0 21 rfl rfl)
theorem dX1_goRun_22 : decode cX1_goRun 22 = .ok (.iastore, 1) := dk_79 (dk_at dksX1_goRun_0 22 rfl rfl)
theorem dX1_goRun_23 : decode cX1_goRun 23 = .ok (.aload_n 0, 1) := dk_42 (dk_at dksX1_goRun_0 23 rfl rfl)
theorem dX1_goRun_24 : decode cX1_goRun 24 = .ok (.getfield 49, 3) := dk_180 0 49 (dk_at dksX1_goRun_1 0 rfl rfl)
theorem dX1_goRun_27 : decode cX1_goRun 27 = .ok (.iload_n 1, 1) := dk_27 (dk_at dksX1_goRun_1 3 rfl rfl)
theorem dX1_goRun_28 : decode cX1_goRun 28 = .ok (.bipush 10, 2) := dk_16 10 (dk_at dksX1_goRun_1 4 rfl rfl)
theorem dX1_goRun_30 : decode cX1_goRun 30 = .ok (.invokevirtual 315, 3) := dk_182 1 59 (dk_at dksX1_goRun_1 6 rfl rfl)
theorem dX1_goRun_33 : decode cX1_goRun 33 = .ok (.iconst 0, 1) := dk_3 (dk_at dksX1_goRun_1 9 rfl rfl)
theorem dX1_goRun_34 : decode cX1_goRun 34 = .ok (.ireturn, 1) := dk_172 (dk_at dksX1_goRun_1 10 rfl rfl)
theorem dX1_goRun_35 : decode cX1_goRun 35 = .ok (.aload_n 0, 1) := dk_42 (dk_at dksX1_goRun_1 11 rfl rfl)
theorem dX1_goRun_36 : decode cX1_goRun 36 = .ok (.getfield 49, 3) := dk_180 0 49 (dk_at dksX1_goRun_1 12 rfl rfl)
theorem dX1_goRun_39 : decode cX1_goRun 39 = .ok (.getfield 172, 3) := dk_180 0 172 (dk_at dksX1_goRun_1 15 rfl rfl)
theorem dX1_goRun_42 : decode cX1_goRun 42 = .ok (.iload_n 1, 1) := dk_27 (dk_at dksX1_goRun_1 18 rfl rfl)
theorem dX1_goRun_43 : decode cX1_goRun 43 = .ok (.iconst 1, 1) := dk_4 (dk_at dksX1_goRun_1 19 rfl rfl)
theorem dX1_goRun_44 : decode cX1_goRun 44 = .ok (.iastore, 1) := dk_79 (dk_at dksX1_goRun_1 20 rfl rfl)
theorem dX1_goRun_45 : decode cX1_goRun 45 = .ok (.iconst 1, 1) := dk_4 (dk_at dksX1_goRun_1 21 rfl rfl)
theorem dX1_goRun_46 : decode cX1_goRun 46 = .ok (.ireturn, 1) := dk_172 (dk_at dksX1_goRun_1 22 rfl rfl)
abbrev cX1_put : ByteArray := prog_1_method_40_code
def yX1_put : MethodName := ⟨RX1, "put", "()I"⟩
def dkwX1_put_2 : List UInt8 := [42, 3, 181, 0, 122, 42, 28, 133, 182, 1, 75, 28, 184, 0, 229, 172]
abbrev dktX1_put_2 : List UInt8 := dkwX1_put_2 ++ []
def dkwX1_put_1 : List UInt8 := [16, 254, 172, 42, 42, 180, 0, 49, 182, 1, 9, 42, 180, 0, 49, 42, 180, 0, 126, 27, 184, 1, 96, 61]
abbrev dktX1_put_1 : List UInt8 := dkwX1_put_1 ++ dktX1_put_2
def dkwX1_put_0 : List UInt8 := [42, 42, 180, 0, 49, 3, 3, 182, 0, 240, 60, 42, 42, 180, 0, 49, 27, 182, 0, 244, 154, 0, 6]
abbrev dktX1_put_0 : List UInt8 := dkwX1_put_0 ++ dktX1_put_1
theorem dksX1_put_0 : cX1_put.data.toList.drop 0 = dktX1_put_0 := by decide +kernel
theorem dksX1_put_1 : cX1_put.data.toList.drop 23 = dktX1_put_1 := dk_seg dksX1_put_0 23 rfl rfl
theorem dksX1_put_2 : cX1_put.data.toList.drop 47 = dktX1_put_2 := dk_seg dksX1_put_1 24 rfl rfl
theorem dX1_put_0 : decode cX1_put 0 = .ok (.aload_n 0, 1) := dk_42 (dk_at dksX1_put_0 0 rfl rfl)
theorem dX1_put_1 : decode cX1_put 1 = .ok (.aload_n 0, 1) := dk_42 (dk_at dksX1_put_0 1 rfl rfl)
theorem dX1_put_2 : decode cX1_put 2 = .ok (.getfield 49, 3) := dk_180 0 49 (dk_at dksX1_put_0 2 rfl rfl)
theorem dX1_put_5 : decode cX1_put 5 = .ok (.iconst 0, 1) := dk_3 (dk_at dksX1_put_0 5 rfl rfl)
theorem dX1_put_6 : decode cX1_put 6 = .ok (.iconst 0, 1) := dk_3 (dk_at dksX1_put_0 6 rfl rfl)
theorem dX1_put_7 : decode cX1_put 7 = .ok (.invokevirtual 240, 3) := dk_182 0 240 (dk_at dksX1_put_0 7 rfl rfl)
theorem dX1_put_10 : decode cX1_put 10 = .ok (.istore_n 1, 1) := dk_60 (dk_at dksX1_put_0 10 rfl rfl)
theorem dX1_put_11 : decode cX1_put 11 = .ok (.aload_n 0, 1) := dk_42 (dk_at dksX1_put_0 11 rfl rfl)
theorem dX1_put_12 : decode cX1_put 12 = .ok (.aload_n 0, 1) := dk_42 (dk_at dksX1_put_0 12 rfl rfl)
theorem dX1_put_13 : decode cX1_put 13 = .ok (.getfield 49, 3) := dk_180 0 49 (dk_at dksX1_put_0 13 rfl rfl)
theorem dX1_put_16 : decode cX1_put 16 = .ok (.iload_n 1, 1) := dk_27 (dk_at dksX1_put_0 16 rfl rfl)
theorem dX1_put_17 : decode cX1_put 17 = .ok (.invokevirtual 244, 3) := dk_182 0 244 (dk_at dksX1_put_0 17 rfl rfl)
theorem dX1_put_20 : decode cX1_put 20 = .ok (.ifCond .ne 6, 3) := dk_154 0 6 (dk_at dksX1_put_0 20 rfl rfl)
theorem dX1_put_23 : decode cX1_put 23 = .ok (.bipush (-2), 2) := dk_16 254 (dk_at dksX1_put_1 0 rfl rfl)
theorem dX1_put_25 : decode cX1_put 25 = .ok (.ireturn, 1) := dk_172 (dk_at dksX1_put_1 2 rfl rfl)
theorem dX1_put_26 : decode cX1_put 26 = .ok (.aload_n 0, 1) := dk_42 (dk_at dksX1_put_1 3 rfl rfl)
theorem dX1_put_27 : decode cX1_put 27 = .ok (.aload_n 0, 1) := dk_42 (dk_at dksX1_put_1 4 rfl rfl)
theorem dX1_put_28 : decode cX1_put 28 = .ok (.getfield 49, 3) := dk_180 0 49 (dk_at dksX1_put_1 5 rfl rfl)
theorem dX1_put_31 : decode cX1_put 31 = .ok (.invokevirtual 265, 3) := dk_182 1 9 (dk_at dksX1_put_1 8 rfl rfl)
theorem dX1_put_34 : decode cX1_put 34 = .ok (.aload_n 0, 1) := dk_42 (dk_at dksX1_put_1 11 rfl rfl)
theorem dX1_put_35 : decode cX1_put 35 = .ok (.getfield 49, 3) := dk_180 0 49 (dk_at dksX1_put_1 12 rfl rfl)
theorem dX1_put_38 : decode cX1_put 38 = .ok (.aload_n 0, 1) := dk_42 (dk_at dksX1_put_1 15 rfl rfl)
theorem dX1_put_39 : decode cX1_put 39 = .ok (.getfield 126, 3) := dk_180 0 126 (dk_at dksX1_put_1 16 rfl rfl)
theorem dX1_put_42 : decode cX1_put 42 = .ok (.iload_n 1, 1) := dk_27 (dk_at dksX1_put_1 19 rfl rfl)
theorem dX1_put_43 : decode cX1_put 43 = .ok (.invokestatic 352, 3) := dk_184 1 96 (dk_at dksX1_put_1 20 rfl rfl)
theorem dX1_put_46 : decode cX1_put 46 = .ok (.istore_n 2, 1) := dk_61 (dk_at dksX1_put_1 23 rfl rfl)
theorem dX1_put_47 : decode cX1_put 47 = .ok (.aload_n 0, 1) := dk_42 (dk_at dksX1_put_2 0 rfl rfl)
theorem dX1_put_48 : decode cX1_put 48 = .ok (.iconst 0, 1) := dk_3 (dk_at dksX1_put_2 1 rfl rfl)
theorem dX1_put_49 : decode cX1_put 49 = .ok (.putfield 122, 3) := dk_181 0 122 (dk_at dksX1_put_2 2 rfl rfl)
theorem dX1_put_52 : decode cX1_put 52 = .ok (.aload_n 0, 1) := dk_42 (dk_at dksX1_put_2 5 rfl rfl)
theorem dX1_put_53 : decode cX1_put 53 = .ok (.iload_n 2, 1) := dk_28 (dk_at dksX1_put_2 6 rfl rfl)
theorem dX1_put_54 : decode cX1_put 54 = .ok (.i2l, 1) := dk_133 (dk_at dksX1_put_2 7 rfl rfl)
theorem dX1_put_55 : decode cX1_put 55 = .ok (.invokevirtual 331, 3) := dk_182 1 75 (dk_at dksX1_put_2 8 rfl rfl)
theorem dX1_put_58 : decode cX1_put 58 = .ok (.iload_n 2, 1) := dk_28 (dk_at dksX1_put_2 11 rfl rfl)
theorem dX1_put_59 : decode cX1_put 59 = .ok (.invokestatic 229, 3) := dk_184 0 229 (dk_at dksX1_put_2 12 rfl rfl)
theorem dX1_put_62 : decode cX1_put 62 = .ok (.ireturn, 1) := dk_172 (dk_at dksX1_put_2 15 rfl rfl)
abbrev cX1_goPut : ByteArray := prog_1_method_39_code
def yX1_goPut : MethodName := ⟨RX1, "goPut", "(LTreesBeforeMen$Voyage;II)I"⟩
def dkwX1_goPut_1 : List UInt8 := [184, 0, 221, 153, 0, 11, 42, 180, 0, 172, 21, 4, 5, 79, 132, 4, 1, 167, 255, 230, 29, 172]
abbrev dktX1_goPut_1 : List UInt8 := dkwX1_goPut_1 ++ []
def dkwX1_goPut_0 : List UInt8 := [42, 27, 3, 182, 0, 217, 28, 2, 130, 126, 62, 3, 54, 4, 21, 4, 27, 162, 0, 26, 29, 21, 4]
abbrev dktX1_goPut_0 : List UInt8 := dkwX1_goPut_0 ++ dktX1_goPut_1
theorem dksX1_goPut_0 : cX1_goPut.data.toList.drop 0 = dktX1_goPut_0 := by decide +kernel
theorem dksX1_goPut_1 : cX1_goPut.data.toList.drop 23 = dktX1_goPut_1 := dk_seg dksX1_goPut_0 23 rfl rfl
theorem dX1_goPut_0 : decode cX1_goPut 0 = .ok (.aload_n 0, 1) := dk_42 (dk_at dksX1_goPut_0 0 rfl rfl)
theorem dX1_goPut_1 : decode cX1_goPut 1 = .ok (.iload_n 1, 1) := dk_27 (dk_at dksX1_goPut_0 1 rfl rfl)
theorem dX1_goPut_2 : decode cX1_goPut 2 = .ok (.iconst 0, 1) := dk_3 (dk_at dksX1_goPut_0 2 rfl rfl)
theorem dX1_goPut_3 : decode cX1_goPut 3 = .ok (.invokevirtual 217, 3) := dk_182 0 217 (dk_at dksX1_goPut_0 3 rfl rfl)
theorem dX1_goPut_6 : decode cX1_goPut 6 = .ok (.iload_n 2, 1) := dk_28 (dk_at dksX1_goPut_0 6 rfl rfl)
theorem dX1_goPut_7 : decode cX1_goPut 7 = .ok (.iconst (-1), 1) := dk_2 (dk_at dksX1_goPut_0 7 rfl rfl)
theorem dX1_goPut_8 : decode cX1_goPut 8 = .ok (.ixor, 1) := dk_130 (dk_at dksX1_goPut_0 8 rfl rfl)
theorem dX1_goPut_9 : decode cX1_goPut 9 = .ok (.iand, 1) := dk_126 (dk_at dksX1_goPut_0 9 rfl rfl)
theorem dX1_goPut_10 : decode cX1_goPut 10 = .ok (.istore_n 3, 1) := dk_62 (dk_at dksX1_goPut_0 10 rfl rfl)
theorem dX1_goPut_11 : decode cX1_goPut 11 = .ok (.iconst 0, 1) := dk_3 (dk_at dksX1_goPut_0 11 rfl rfl)
theorem dX1_goPut_12 : decode cX1_goPut 12 = .ok (.istore 4, 2) := dk_54 4 (dk_at dksX1_goPut_0 12 rfl rfl)
theorem dX1_goPut_14 : decode cX1_goPut 14 = .ok (.iload 4, 2) := dk_21 4 (dk_at dksX1_goPut_0 14 rfl rfl)
theorem dX1_goPut_16 : decode cX1_goPut 16 = .ok (.iload_n 1, 1) := dk_27 (dk_at dksX1_goPut_0 16 rfl rfl)
theorem dX1_goPut_17 : decode cX1_goPut 17 = .ok (.if_icmp .ge 26, 3) := dk_162 0 26 (dk_at dksX1_goPut_0 17 rfl rfl)
theorem dX1_goPut_20 : decode cX1_goPut 20 = .ok (.iload_n 3, 1) := dk_29 (dk_at dksX1_goPut_0 20 rfl rfl)
theorem dX1_goPut_21 : decode cX1_goPut 21 = .ok (.iload 4, 2) := dk_21 4 (dk_at dksX1_goPut_0 21 rfl rfl)
theorem dX1_goPut_23 : decode cX1_goPut 23 = .ok (.invokestatic 221, 3) := dk_184 0 221 (dk_at dksX1_goPut_1 0 rfl rfl)
theorem dX1_goPut_26 : decode cX1_goPut 26 = .ok (.ifCond .eq 11, 3) := dk_153 0 11 (dk_at dksX1_goPut_1 3 rfl rfl)
theorem dX1_goPut_29 : decode cX1_goPut 29 = .ok (.aload_n 0, 1) := dk_42 (dk_at dksX1_goPut_1 6 rfl rfl)
theorem dX1_goPut_30 : decode cX1_goPut 30 = .ok (.getfield 172, 3) := dk_180 0 172 (dk_at dksX1_goPut_1 7 rfl rfl)
theorem dX1_goPut_33 : decode cX1_goPut 33 = .ok (.iload 4, 2) := dk_21 4 (dk_at dksX1_goPut_1 10 rfl rfl)
theorem dX1_goPut_35 : decode cX1_goPut 35 = .ok (.iconst 2, 1) := dk_5 (dk_at dksX1_goPut_1 12 rfl rfl)
theorem dX1_goPut_36 : decode cX1_goPut 36 = .ok (.iastore, 1) := dk_79 (dk_at dksX1_goPut_1 13 rfl rfl)
theorem dX1_goPut_37 : decode cX1_goPut 37 = .ok (.iinc 4 1, 3) := dk_132 4 1 (dk_at dksX1_goPut_1 14 rfl rfl)
theorem dX1_goPut_40 : decode cX1_goPut 40 = .ok (.goto (-26), 3) := dk_167 255 230 (dk_at dksX1_goPut_1 17 rfl rfl)
theorem dX1_goPut_43 : decode cX1_goPut 43 = .ok (.iload_n 3, 1) := dk_29 (dk_at dksX1_goPut_1 20 rfl rfl)
theorem dX1_goPut_44 : decode cX1_goPut 44 = .ok (.ireturn, 1) := dk_172 (dk_at dksX1_goPut_1 21 rfl rfl)
abbrev cX1_log : ByteArray := prog_1_method_41_code
def yX1_log : MethodName := ⟨RX1, "log", "()I"⟩
def dkwX1_log_5 : List UInt8 := [167, 0, 4, 9, 182, 1, 75, 42, 42, 180, 0, 49, 180, 1, 46, 133, 182, 1, 75, 28, 172]
abbrev dktX1_log_5 : List UInt8 := dkwX1_log_5 ++ []
def dkwX1_log_4 : List UInt8 := [42, 42, 180, 0, 53, 182, 1, 9, 42, 3, 181, 0, 122, 42, 28, 43, 180, 1, 106, 162, 0, 7, 10]
abbrev dktX1_log_4 : List UInt8 := dkwX1_log_4 ++ dktX1_log_5
def dkwX1_log_3 : List UInt8 := [28, 46, 43, 180, 1, 116, 28, 46, 182, 1, 119, 153, 0, 9, 132, 2, 1, 167, 255, 220, 28, 158, 0, 11]
abbrev dktX1_log_3 : List UInt8 := dkwX1_log_3 ++ dktX1_log_4
def dkwX1_log_2 : List UInt8 := [182, 1, 37, 3, 61, 28, 43, 180, 1, 106, 162, 0, 34, 42, 43, 180, 1, 109, 28, 52, 43, 180, 1, 113]
abbrev dktX1_log_2 : List UInt8 := dkwX1_log_2 ++ dktX1_log_3
def dkwX1_log_1 : List UInt8 := [182, 1, 104, 167, 0, 11, 77, 2, 44, 180, 0, 166, 100, 172, 42, 180, 0, 53, 42, 180, 0, 49]
abbrev dktX1_log_1 : List UInt8 := dkwX1_log_1 ++ dktX1_log_2
def dkwX1_log_0 : List UInt8 := [187, 1, 99, 89, 42, 180, 0, 91, 42, 180, 0, 135, 183, 1, 101, 76, 42, 3, 181, 0, 135, 43]
abbrev dktX1_log_0 : List UInt8 := dkwX1_log_0 ++ dktX1_log_1
theorem dksX1_log_0 : cX1_log.data.toList.drop 0 = dktX1_log_0 := by decide +kernel
theorem dksX1_log_1 : cX1_log.data.toList.drop 22 = dktX1_log_1 := dk_seg dksX1_log_0 22 rfl rfl
theorem dksX1_log_2 : cX1_log.data.toList.drop 44 = dktX1_log_2 := dk_seg dksX1_log_1 22 rfl rfl
theorem dksX1_log_3 : cX1_log.data.toList.drop 68 = dktX1_log_3 := dk_seg dksX1_log_2 24 rfl rfl
theorem dksX1_log_4 : cX1_log.data.toList.drop 92 = dktX1_log_4 := dk_seg dksX1_log_3 24 rfl rfl
theorem dksX1_log_5 : cX1_log.data.toList.drop 115 = dktX1_log_5 := dk_seg dksX1_log_4 23 rfl rfl
theorem dX1_log_0 : decode cX1_log 0 = .ok (.new 355, 3) := dk_187 1 99 (dk_at dksX1_log_0 0 rfl rfl)
theorem dX1_log_3 : decode cX1_log 3 = .ok (.dup, 1) := dk_89 (dk_at dksX1_log_0 3 rfl rfl)
theorem dX1_log_4 : decode cX1_log 4 = .ok (.aload_n 0, 1) := dk_42 (dk_at dksX1_log_0 4 rfl rfl)
theorem dX1_log_5 : decode cX1_log 5 = .ok (.getfield 91, 3) := dk_180 0 91 (dk_at dksX1_log_0 5 rfl rfl)
theorem dX1_log_8 : decode cX1_log 8 = .ok (.aload_n 0, 1) := dk_42 (dk_at dksX1_log_0 8 rfl rfl)
theorem dX1_log_9 : decode cX1_log 9 = .ok (.getfield 135, 3) := dk_180 0 135 (dk_at dksX1_log_0 9 rfl rfl)
theorem dX1_log_12 : decode cX1_log 12 = .ok (.invokespecial 357, 3) := dk_183 1 101 (dk_at dksX1_log_0 12 rfl rfl)
theorem dX1_log_15 : decode cX1_log 15 = .ok (.astore_n 1, 1) := dk_76 (dk_at dksX1_log_0 15 rfl rfl)
theorem dX1_log_16 : decode cX1_log 16 = .ok (.aload_n 0, 1) := dk_42 (dk_at dksX1_log_0 16 rfl rfl)
theorem dX1_log_17 : decode cX1_log 17 = .ok (.iconst 0, 1) := dk_3 (dk_at dksX1_log_0 17 rfl rfl)
theorem dX1_log_18 : decode cX1_log 18 = .ok (.putfield 135, 3) := dk_181 0 135 (dk_at dksX1_log_0 18 rfl rfl)
theorem dX1_log_21 : decode cX1_log 21 = .ok (.aload_n 1, 1) := dk_43 (dk_at dksX1_log_0 21 rfl rfl)
theorem dX1_log_22 : decode cX1_log 22 = .ok (.invokevirtual 360, 3) := dk_182 1 104 (dk_at dksX1_log_1 0 rfl rfl)
theorem dX1_log_25 : decode cX1_log 25 = .ok (.goto 11, 3) := dk_167 0 11 (dk_at dksX1_log_1 3 rfl rfl)
theorem dX1_log_28 : decode cX1_log 28 = .ok (.astore_n 2, 1) := dk_77 (dk_at dksX1_log_1 6 rfl rfl)
theorem dX1_log_29 : decode cX1_log 29 = .ok (.iconst (-1), 1) := dk_2 (dk_at dksX1_log_1 7 rfl rfl)
theorem dX1_log_30 : decode cX1_log 30 = .ok (.aload_n 2, 1) := dk_44 (dk_at dksX1_log_1 8 rfl rfl)
theorem dX1_log_31 : decode cX1_log 31 = .ok (.getfield 166, 3) := dk_180 0 166 (dk_at dksX1_log_1 9 rfl rfl)
theorem dX1_log_34 : decode cX1_log 34 = .ok (.isub, 1) := dk_100 (dk_at dksX1_log_1 12 rfl rfl)
theorem dX1_log_35 : decode cX1_log 35 = .ok (.ireturn, 1) := dk_172 (dk_at dksX1_log_1 13 rfl rfl)
theorem dX1_log_36 : decode cX1_log 36 = .ok (.aload_n 0, 1) := dk_42 (dk_at dksX1_log_1 14 rfl rfl)
theorem dX1_log_37 : decode cX1_log 37 = .ok (.getfield 53, 3) := dk_180 0 53 (dk_at dksX1_log_1 15 rfl rfl)
theorem dX1_log_40 : decode cX1_log 40 = .ok (.aload_n 0, 1) := dk_42 (dk_at dksX1_log_1 18 rfl rfl)
theorem dX1_log_41 : decode cX1_log 41 = .ok (.getfield 49, 3) := dk_180 0 49 (dk_at dksX1_log_1 19 rfl rfl)
theorem dX1_log_44 : decode cX1_log 44 = .ok (.invokevirtual 293, 3) := dk_182 1 37 (dk_at dksX1_log_2 0 rfl rfl)
theorem dX1_log_47 : decode cX1_log 47 = .ok (.iconst 0, 1) := dk_3 (dk_at dksX1_log_2 3 rfl rfl)
theorem dX1_log_48 : decode cX1_log 48 = .ok (.istore_n 2, 1) := dk_61 (dk_at dksX1_log_2 4 rfl rfl)
theorem dX1_log_49 : decode cX1_log 49 = .ok (.iload_n 2, 1) := dk_28 (dk_at dksX1_log_2 5 rfl rfl)
theorem dX1_log_50 : decode cX1_log 50 = .ok (.aload_n 1, 1) := dk_43 (dk_at dksX1_log_2 6 rfl rfl)
theorem dX1_log_51 : decode cX1_log 51 = .ok (.getfield 362, 3) := dk_180 1 106 (dk_at dksX1_log_2 7 rfl rfl)
theorem dX1_log_54 : decode cX1_log 54 = .ok (.if_icmp .ge 34, 3) := dk_162 0 34 (dk_at dksX1_log_2 10 rfl rfl)
theorem dX1_log_57 : decode cX1_log 57 = .ok (.aload_n 0, 1) := dk_42 (dk_at dksX1_log_2 13 rfl rfl)
theorem dX1_log_58 : decode cX1_log 58 = .ok (.aload_n 1, 1) := dk_43 (dk_at dksX1_log_2 14 rfl rfl)
theorem dX1_log_59 : decode cX1_log 59 = .ok (.getfield 365, 3) := dk_180 1 109 (dk_at dksX1_log_2 15 rfl rfl)
theorem dX1_log_62 : decode cX1_log 62 = .ok (.iload_n 2, 1) := dk_28 (dk_at dksX1_log_2 18 rfl rfl)
theorem dX1_log_63 : decode cX1_log 63 = .ok (.caload, 1) := dk_52 (dk_at dksX1_log_2 19 rfl rfl)
theorem dX1_log_64 : decode cX1_log 64 = .ok (.aload_n 1, 1) := dk_43 (dk_at dksX1_log_2 20 rfl rfl)
theorem dX1_log_65 : decode cX1_log 65 = .ok (.getfield 369, 3) := dk_180 1 113 (dk_at dksX1_log_2 21 rfl rfl)
theorem dX1_log_68 : decode cX1_log 68 = .ok (.iload_n 2, 1) := dk_28 (dk_at dksX1_log_3 0 rfl rfl)
theorem dX1_log_69 : decode cX1_log 69 = .ok (.iaload, 1) := dk_46 (dk_at dksX1_log_3 1 rfl rfl)
theorem dX1_log_70 : decode cX1_log 70 = .ok (.aload_n 1, 1) := dk_43 (dk_at dksX1_log_3 2 rfl rfl)
theorem dX1_log_71 : decode cX1_log 71 = .ok (.getfield 372, 3) := dk_180 1 116 (dk_at dksX1_log_3 3 rfl rfl)
theorem dX1_log_74 : decode cX1_log 74 = .ok (.iload_n 2, 1) := dk_28 (dk_at dksX1_log_3 6 rfl rfl)
theorem dX1_log_75 : decode cX1_log 75 = .ok (.iaload, 1) := dk_46 (dk_at dksX1_log_3 7 rfl rfl)
theorem dX1_log_76 : decode cX1_log 76 = .ok (.invokevirtual 375, 3) := dk_182 1 119 (dk_at dksX1_log_3 8 rfl rfl)
theorem dX1_log_79 : decode cX1_log 79 = .ok (.ifCond .eq 9, 3) := dk_153 0 9 (dk_at dksX1_log_3 11 rfl rfl)
theorem dX1_log_82 : decode cX1_log 82 = .ok (.iinc 2 1, 3) := dk_132 2 1 (dk_at dksX1_log_3 14 rfl rfl)
theorem dX1_log_85 : decode cX1_log 85 = .ok (.goto (-36), 3) := dk_167 255 220 (dk_at dksX1_log_3 17 rfl rfl)
theorem dX1_log_88 : decode cX1_log 88 = .ok (.iload_n 2, 1) := dk_28 (dk_at dksX1_log_3 20 rfl rfl)
theorem dX1_log_89 : decode cX1_log 89 = .ok (.ifCond .le 11, 3) := dk_158 0 11 (dk_at dksX1_log_3 21 rfl rfl)
theorem dX1_log_92 : decode cX1_log 92 = .ok (.aload_n 0, 1) := dk_42 (dk_at dksX1_log_4 0 rfl rfl)
theorem dX1_log_93 : decode cX1_log 93 = .ok (.aload_n 0, 1) := dk_42 (dk_at dksX1_log_4 1 rfl rfl)
theorem dX1_log_94 : decode cX1_log 94 = .ok (.getfield 53, 3) := dk_180 0 53 (dk_at dksX1_log_4 2 rfl rfl)
theorem dX1_log_97 : decode cX1_log 97 = .ok (.invokevirtual 265, 3) := dk_182 1 9 (dk_at dksX1_log_4 5 rfl rfl)
theorem dX1_log_100 : decode cX1_log 100 = .ok (.aload_n 0, 1) := dk_42 (dk_at dksX1_log_4 8 rfl rfl)
theorem dX1_log_101 : decode cX1_log 101 = .ok (.iconst 0, 1) := dk_3 (dk_at dksX1_log_4 9 rfl rfl)
theorem dX1_log_102 : decode cX1_log 102 = .ok (.putfield 122, 3) := dk_181 0 122 (dk_at dksX1_log_4 10 rfl rfl)
theorem dX1_log_105 : decode cX1_log 105 = .ok (.aload_n 0, 1) := dk_42 (dk_at dksX1_log_4 13 rfl rfl)
theorem dX1_log_106 : decode cX1_log 106 = .ok (.iload_n 2, 1) := dk_28 (dk_at dksX1_log_4 14 rfl rfl)
theorem dX1_log_107 : decode cX1_log 107 = .ok (.aload_n 1, 1) := dk_43 (dk_at dksX1_log_4 15 rfl rfl)
theorem dX1_log_108 : decode cX1_log 108 = .ok (.getfield 362, 3) := dk_180 1 106 (dk_at dksX1_log_4 16 rfl rfl)
theorem dX1_log_111 : decode cX1_log 111 = .ok (.if_icmp .ge 7, 3) := dk_162 0 7 (dk_at dksX1_log_4 19 rfl rfl)
theorem dX1_log_114 : decode cX1_log 114 = .ok (.lconst 1, 1) := dk_10 (dk_at dksX1_log_4 22 rfl rfl)
theorem dX1_log_115 : decode cX1_log 115 = .ok (.goto 4, 3) := dk_167 0 4 (dk_at dksX1_log_5 0 rfl rfl)
theorem dX1_log_118 : decode cX1_log 118 = .ok (.lconst 0, 1) := dk_9 (dk_at dksX1_log_5 3 rfl rfl)
theorem dX1_log_119 : decode cX1_log 119 = .ok (.invokevirtual 331, 3) := dk_182 1 75 (dk_at dksX1_log_5 4 rfl rfl)
theorem dX1_log_122 : decode cX1_log 122 = .ok (.aload_n 0, 1) := dk_42 (dk_at dksX1_log_5 7 rfl rfl)
theorem dX1_log_123 : decode cX1_log 123 = .ok (.aload_n 0, 1) := dk_42 (dk_at dksX1_log_5 8 rfl rfl)
theorem dX1_log_124 : decode cX1_log 124 = .ok (.getfield 49, 3) := dk_180 0 49 (dk_at dksX1_log_5 9 rfl rfl)
theorem dX1_log_127 : decode cX1_log 127 = .ok (.getfield 302, 3) := dk_180 1 46 (dk_at dksX1_log_5 12 rfl rfl)
theorem dX1_log_130 : decode cX1_log 130 = .ok (.i2l, 1) := dk_133 (dk_at dksX1_log_5 15 rfl rfl)
theorem dX1_log_131 : decode cX1_log 131 = .ok (.invokevirtual 331, 3) := dk_182 1 75 (dk_at dksX1_log_5 16 rfl rfl)
theorem dX1_log_134 : decode cX1_log 134 = .ok (.iload_n 2, 1) := dk_28 (dk_at dksX1_log_5 19 rfl rfl)
theorem dX1_log_135 : decode cX1_log 135 = .ok (.ireturn, 1) := dk_172 (dk_at dksX1_log_5 20 rfl rfl)
abbrev cX1_act : ByteArray := prog_1_method_42_code
def yX1_act : MethodName := ⟨RX1, "act", "(CII)Z"⟩
def dkwX1_act_7 : List UInt8 := [4, 172, 42, 180, 0, 49, 27, 16, 97, 160, 0, 7, 3, 167, 0, 4, 4, 28, 184, 1, 13, 87, 4, 172]
abbrev dktX1_act_7 : List UInt8 := dkwX1_act_7 ++ []
def dkwX1_act_6 : List UInt8 := [21, 4, 182, 0, 244, 154, 0, 5, 3, 172, 42, 180, 0, 49, 42, 180, 0, 126, 21, 4, 184, 1, 96, 87]
abbrev dktX1_act_6 : List UInt8 := dkwX1_act_6 ++ dktX1_act_7
def dkwX1_act_5 : List UInt8 := [182, 1, 93, 87, 4, 172, 42, 42, 180, 0, 49, 3, 3, 182, 0, 240, 54, 4, 42, 42, 180, 0, 49]
abbrev dktX1_act_5 : List UInt8 := dkwX1_act_5 ++ dktX1_act_6
def dkwX1_act_4 : List UInt8 := [167, 0, 5, 29, 116, 182, 1, 59, 4, 172, 42, 28, 182, 1, 90, 156, 0, 5, 3, 172, 42, 28]
abbrev dktX1_act_4 : List UInt8 := dkwX1_act_4 ++ dktX1_act_5
def dkwX1_act_3 : List UInt8 := [28, 29, 182, 1, 83, 156, 0, 5, 3, 172, 42, 180, 0, 49, 28, 27, 16, 99, 160, 0, 7, 29]
abbrev dktX1_act_3 : List UInt8 := dkwX1_act_3 ++ dktX1_act_4
def dkwX1_act_2 : List UInt8 := [42, 42, 180, 0, 49, 28, 182, 1, 72, 87, 4, 172, 42, 180, 0, 49, 28, 182, 1, 63, 87, 4, 172, 42]
abbrev dktX1_act_2 : List UInt8 := dkwX1_act_2 ++ dktX1_act_3
def dkwX1_act_1 : List UInt8 := [171, 0, 0, 0, 0, 0, 176, 0, 0, 0, 6, 0, 0, 0, 99, 0, 0, 0, 82, 0, 0, 0, 100, 0, 0, 0, 59, 0, 0, 0, 107, 0, 0, 0, 82, 0, 0, 0, 112, 0, 0, 0, 133, 0, 0, 0, 114, 0, 0, 0, 115, 0, 0, 0, 119, 0, 0, 0, 71]
abbrev dktX1_act_1 : List UInt8 := dkwX1_act_1 ++ dktX1_act_2
def dkwX1_act_0 : List UInt8 := [27]
abbrev dktX1_act_0 : List UInt8 := dkwX1_act_0 ++ dktX1_act_1
theorem dksX1_act_0 : cX1_act.data.toList.drop 0 = dktX1_act_0 := by decide +kernel
theorem dksX1_act_1 : cX1_act.data.toList.drop 1 = dktX1_act_1 := dk_seg dksX1_act_0 1 rfl rfl
theorem dksX1_act_2 : cX1_act.data.toList.drop 60 = dktX1_act_2 := dk_seg dksX1_act_1 59 rfl rfl
theorem dksX1_act_3 : cX1_act.data.toList.drop 84 = dktX1_act_3 := dk_seg dksX1_act_2 24 rfl rfl
theorem dksX1_act_4 : cX1_act.data.toList.drop 106 = dktX1_act_4 := dk_seg dksX1_act_3 22 rfl rfl
theorem dksX1_act_5 : cX1_act.data.toList.drop 128 = dktX1_act_5 := dk_seg dksX1_act_4 22 rfl rfl
theorem dksX1_act_6 : cX1_act.data.toList.drop 151 = dktX1_act_6 := dk_seg dksX1_act_5 23 rfl rfl
theorem dksX1_act_7 : cX1_act.data.toList.drop 175 = dktX1_act_7 := dk_seg dksX1_act_6 24 rfl rfl
theorem dX1_act_0 : decode cX1_act 0 = .ok (.iload_n 1, 1) := dk_27 (dk_at dksX1_act_0 0 rfl rfl)
theorem dX1_act_1 : decode cX1_act 1 = .ok (.lookupswitch 176 #[(99, 82), (100, 59), (107, 82), (112, 133), (114, 115), (119, 71)], 59) := by decide +kernel
theorem dX1_act_60 : decode cX1_act 60 = .ok (.aload_n 0, 1) := dk_42 (dk_at dksX1_act_2 0 rfl rfl)
theorem dX1_act_61 : decode cX1_act 61 = .ok (.aload_n 0, 1) := dk_42 (dk_at dksX1_act_2 1 rfl rfl)
theorem dX1_act_62 : decode cX1_act 62 = .ok (.getfield 49, 3) := dk_180 0 49 (dk_at dksX1_act_2 2 rfl rfl)
theorem dX1_act_65 : decode cX1_act 65 = .ok (.iload_n 2, 1) := dk_28 (dk_at dksX1_act_2 5 rfl rfl)
theorem dX1_act_66 : decode cX1_act 66 = .ok (.invokevirtual 328, 3) := dk_182 1 72 (dk_at dksX1_act_2 6 rfl rfl)
theorem dX1_act_69 : decode cX1_act 69 = .ok (.pop, 1) := dk_87 (dk_at dksX1_act_2 9 rfl rfl)
theorem dX1_act_70 : decode cX1_act 70 = .ok (.iconst 1, 1) := dk_4 (dk_at dksX1_act_2 10 rfl rfl)
theorem dX1_act_71 : decode cX1_act 71 = .ok (.ireturn, 1) := dk_172 (dk_at dksX1_act_2 11 rfl rfl)
theorem dX1_act_72 : decode cX1_act 72 = .ok (.aload_n 0, 1) := dk_42 (dk_at dksX1_act_2 12 rfl rfl)
theorem dX1_act_73 : decode cX1_act 73 = .ok (.getfield 49, 3) := dk_180 0 49 (dk_at dksX1_act_2 13 rfl rfl)
theorem dX1_act_76 : decode cX1_act 76 = .ok (.iload_n 2, 1) := dk_28 (dk_at dksX1_act_2 16 rfl rfl)
theorem dX1_act_77 : decode cX1_act 77 = .ok (.invokevirtual 319, 3) := dk_182 1 63 (dk_at dksX1_act_2 17 rfl rfl)
theorem dX1_act_80 : decode cX1_act 80 = .ok (.pop, 1) := dk_87 (dk_at dksX1_act_2 20 rfl rfl)
theorem dX1_act_81 : decode cX1_act 81 = .ok (.iconst 1, 1) := dk_4 (dk_at dksX1_act_2 21 rfl rfl)
theorem dX1_act_82 : decode cX1_act 82 = .ok (.ireturn, 1) := dk_172 (dk_at dksX1_act_2 22 rfl rfl)
theorem dX1_act_83 : decode cX1_act 83 = .ok (.aload_n 0, 1) := dk_42 (dk_at dksX1_act_2 23 rfl rfl)
theorem dX1_act_84 : decode cX1_act 84 = .ok (.iload_n 2, 1) := dk_28 (dk_at dksX1_act_3 0 rfl rfl)
theorem dX1_act_85 : decode cX1_act 85 = .ok (.iload_n 3, 1) := dk_29 (dk_at dksX1_act_3 1 rfl rfl)
theorem dX1_act_86 : decode cX1_act 86 = .ok (.invokevirtual 339, 3) := dk_182 1 83 (dk_at dksX1_act_3 2 rfl rfl)
theorem dX1_act_89 : decode cX1_act 89 = .ok (.ifCond .ge 5, 3) := dk_156 0 5 (dk_at dksX1_act_3 5 rfl rfl)
theorem dX1_act_92 : decode cX1_act 92 = .ok (.iconst 0, 1) := dk_3 (dk_at dksX1_act_3 8 rfl rfl)
theorem dX1_act_93 : decode cX1_act 93 = .ok (.ireturn, 1) := dk_172 (dk_at dksX1_act_3 9 rfl rfl)
theorem dX1_act_94 : decode cX1_act 94 = .ok (.aload_n 0, 1) := dk_42 (dk_at dksX1_act_3 10 rfl rfl)
theorem dX1_act_95 : decode cX1_act 95 = .ok (.getfield 49, 3) := dk_180 0 49 (dk_at dksX1_act_3 11 rfl rfl)
theorem dX1_act_98 : decode cX1_act 98 = .ok (.iload_n 2, 1) := dk_28 (dk_at dksX1_act_3 14 rfl rfl)
theorem dX1_act_99 : decode cX1_act 99 = .ok (.iload_n 1, 1) := dk_27 (dk_at dksX1_act_3 15 rfl rfl)
theorem dX1_act_100 : decode cX1_act 100 = .ok (.bipush 99, 2) := dk_16 99 (dk_at dksX1_act_3 16 rfl rfl)
theorem dX1_act_102 : decode cX1_act 102 = .ok (.if_icmp .ne 7, 3) := dk_160 0 7 (dk_at dksX1_act_3 18 rfl rfl)
theorem dX1_act_105 : decode cX1_act 105 = .ok (.iload_n 3, 1) := dk_29 (dk_at dksX1_act_3 21 rfl rfl)
theorem dX1_act_106 : decode cX1_act 106 = .ok (.goto 5, 3) := dk_167 0 5 (dk_at dksX1_act_4 0 rfl rfl)
theorem dX1_act_109 : decode cX1_act 109 = .ok (.iload_n 3, 1) := dk_29 (dk_at dksX1_act_4 3 rfl rfl)
theorem dX1_act_110 : decode cX1_act 110 = .ok (.ineg, 1) := dk_116 (dk_at dksX1_act_4 4 rfl rfl)
theorem dX1_act_111 : decode cX1_act 111 = .ok (.invokevirtual 315, 3) := dk_182 1 59 (dk_at dksX1_act_4 5 rfl rfl)
theorem dX1_act_114 : decode cX1_act 114 = .ok (.iconst 1, 1) := dk_4 (dk_at dksX1_act_4 8 rfl rfl)
theorem dX1_act_115 : decode cX1_act 115 = .ok (.ireturn, 1) := dk_172 (dk_at dksX1_act_4 9 rfl rfl)
theorem dX1_act_116 : decode cX1_act 116 = .ok (.aload_n 0, 1) := dk_42 (dk_at dksX1_act_4 10 rfl rfl)
theorem dX1_act_117 : decode cX1_act 117 = .ok (.iload_n 2, 1) := dk_28 (dk_at dksX1_act_4 11 rfl rfl)
theorem dX1_act_118 : decode cX1_act 118 = .ok (.invokevirtual 346, 3) := dk_182 1 90 (dk_at dksX1_act_4 12 rfl rfl)
theorem dX1_act_121 : decode cX1_act 121 = .ok (.ifCond .ge 5, 3) := dk_156 0 5 (dk_at dksX1_act_4 15 rfl rfl)
theorem dX1_act_124 : decode cX1_act 124 = .ok (.iconst 0, 1) := dk_3 (dk_at dksX1_act_4 18 rfl rfl)
theorem dX1_act_125 : decode cX1_act 125 = .ok (.ireturn, 1) := dk_172 (dk_at dksX1_act_4 19 rfl rfl)
theorem dX1_act_126 : decode cX1_act 126 = .ok (.aload_n 0, 1) := dk_42 (dk_at dksX1_act_4 20 rfl rfl)
theorem dX1_act_127 : decode cX1_act 127 = .ok (.iload_n 2, 1) := dk_28 (dk_at dksX1_act_4 21 rfl rfl)
theorem dX1_act_128 : decode cX1_act 128 = .ok (.invokevirtual 349, 3) := dk_182 1 93 (dk_at dksX1_act_5 0 rfl rfl)
theorem dX1_act_131 : decode cX1_act 131 = .ok (.pop, 1) := dk_87 (dk_at dksX1_act_5 3 rfl rfl)
theorem dX1_act_132 : decode cX1_act 132 = .ok (.iconst 1, 1) := dk_4 (dk_at dksX1_act_5 4 rfl rfl)
theorem dX1_act_133 : decode cX1_act 133 = .ok (.ireturn, 1) := dk_172 (dk_at dksX1_act_5 5 rfl rfl)
theorem dX1_act_134 : decode cX1_act 134 = .ok (.aload_n 0, 1) := dk_42 (dk_at dksX1_act_5 6 rfl rfl)
theorem dX1_act_135 : decode cX1_act 135 = .ok (.aload_n 0, 1) := dk_42 (dk_at dksX1_act_5 7 rfl rfl)
theorem dX1_act_136 : decode cX1_act 136 = .ok (.getfield 49, 3) := dk_180 0 49 (dk_at dksX1_act_5 8 rfl rfl)
theorem dX1_act_139 : decode cX1_act 139 = .ok (.iconst 0, 1) := dk_3 (dk_at dksX1_act_5 11 rfl rfl)
theorem dX1_act_140 : decode cX1_act 140 = .ok (.iconst 0, 1) := dk_3 (dk_at dksX1_act_5 12 rfl rfl)
theorem dX1_act_141 : decode cX1_act 141 = .ok (.invokevirtual 240, 3) := dk_182 0 240 (dk_at dksX1_act_5 13 rfl rfl)
theorem dX1_act_144 : decode cX1_act 144 = .ok (.istore 4, 2) := dk_54 4 (dk_at dksX1_act_5 16 rfl rfl)
theorem dX1_act_146 : decode cX1_act 146 = .ok (.aload_n 0, 1) := dk_42 (dk_at dksX1_act_5 18 rfl rfl)
theorem dX1_act_147 : decode cX1_act 147 = .ok (.aload_n 0, 1) := dk_42 (dk_at dksX1_act_5 19 rfl rfl)
theorem dX1_act_148 : decode cX1_act 148 = .ok (.getfield 49, 3) := dk_180 0 49 (dk_at dksX1_act_5 20 rfl rfl)
theorem dX1_act_151 : decode cX1_act 151 = .ok (.iload 4, 2) := dk_21 4 (dk_at dksX1_act_6 0 rfl rfl)
theorem dX1_act_153 : decode cX1_act 153 = .ok (.invokevirtual 244, 3) := dk_182 0 244 (dk_at dksX1_act_6 2 rfl rfl)
theorem dX1_act_156 : decode cX1_act 156 = .ok (.ifCond .ne 5, 3) := dk_154 0 5 (dk_at dksX1_act_6 5 rfl rfl)
theorem dX1_act_159 : decode cX1_act 159 = .ok (.iconst 0, 1) := dk_3 (dk_at dksX1_act_6 8 rfl rfl)
theorem dX1_act_160 : decode cX1_act 160 = .ok (.ireturn, 1) := dk_172 (dk_at dksX1_act_6 9 rfl rfl)
theorem dX1_act_161 : decode cX1_act 161 = .ok (.aload_n 0, 1) := dk_42 (dk_at dksX1_act_6 10 rfl rfl)
theorem dX1_act_162 : decode cX1_act 162 = .ok (.getfield 49, 3) := dk_180 0 49 (dk_at dksX1_act_6 11 rfl rfl)
theorem dX1_act_165 : decode cX1_act 165 = .ok (.aload_n 0, 1) := dk_42 (dk_at dksX1_act_6 14 rfl rfl)
theorem dX1_act_166 : decode cX1_act 166 = .ok (.getfield 126, 3) := dk_180 0 126 (dk_at dksX1_act_6 15 rfl rfl)
theorem dX1_act_169 : decode cX1_act 169 = .ok (.iload 4, 2) := dk_21 4 (dk_at dksX1_act_6 18 rfl rfl)
theorem dX1_act_171 : decode cX1_act 171 = .ok (.invokestatic 352, 3) := dk_184 1 96 (dk_at dksX1_act_6 20 rfl rfl)
theorem dX1_act_174 : decode cX1_act 174 = .ok (.pop, 1) := dk_87 (dk_at dksX1_act_6 23 rfl rfl)
theorem dX1_act_175 : decode cX1_act 175 = .ok (.iconst 1, 1) := dk_4 (dk_at dksX1_act_7 0 rfl rfl)
theorem dX1_act_176 : decode cX1_act 176 = .ok (.ireturn, 1) := dk_172 (dk_at dksX1_act_7 1 rfl rfl)
theorem dX1_act_177 : decode cX1_act 177 = .ok (.aload_n 0, 1) := dk_42 (dk_at dksX1_act_7 2 rfl rfl)
theorem dX1_act_178 : decode cX1_act 178 = .ok (.getfield 49, 3) := dk_180 0 49 (dk_at dksX1_act_7 3 rfl rfl)
theorem dX1_act_181 : decode cX1_act 181 = .ok (.iload_n 1, 1) := dk_27 (dk_at dksX1_act_7 6 rfl rfl)
theorem dX1_act_182 : decode cX1_act 182 = .ok (.bipush 97, 2) := dk_16 97 (dk_at dksX1_act_7 7 rfl rfl)
theorem dX1_act_184 : decode cX1_act 184 = .ok (.if_icmp .ne 7, 3) := dk_160 0 7 (dk_at dksX1_act_7 9 rfl rfl)
theorem dX1_act_187 : decode cX1_act 187 = .ok (.iconst 0, 1) := dk_3 (dk_at dksX1_act_7 12 rfl rfl)
theorem dX1_act_188 : decode cX1_act 188 = .ok (.goto 4, 3) := dk_167 0 4 (dk_at dksX1_act_7 13 rfl rfl)
theorem dX1_act_191 : decode cX1_act 191 = .ok (.iconst 1, 1) := dk_4 (dk_at dksX1_act_7 16 rfl rfl)
theorem dX1_act_192 : decode cX1_act 192 = .ok (.iload_n 2, 1) := dk_28 (dk_at dksX1_act_7 17 rfl rfl)
theorem dX1_act_193 : decode cX1_act 193 = .ok (.invokestatic 269, 3) := dk_184 1 13 (dk_at dksX1_act_7 18 rfl rfl)
theorem dX1_act_196 : decode cX1_act 196 = .ok (.pop, 1) := dk_87 (dk_at dksX1_act_7 21 rfl rfl)
theorem dX1_act_197 : decode cX1_act 197 = .ok (.iconst 1, 1) := dk_4 (dk_at dksX1_act_7 22 rfl rfl)
theorem dX1_act_198 : decode cX1_act 198 = .ok (.ireturn, 1) := dk_172 (dk_at dksX1_act_7 23 rfl rfl)
abbrev cX1_undo : ByteArray := prog_1_method_43_code
def yX1_undo : MethodName := ⟨RX1, "undo", "()I"⟩
def dkwX1_undo_1 : List UInt8 := [180, 0, 62, 42, 180, 0, 175, 50, 182, 1, 37, 42, 180, 0, 175, 172]
abbrev dktX1_undo_1 : List UInt8 := dkwX1_undo_1 ++ []
def dkwX1_undo_0 : List UInt8 := [42, 180, 0, 175, 154, 0, 5, 2, 172, 42, 89, 180, 0, 175, 4, 100, 181, 0, 175, 42, 180, 0, 49, 42]
abbrev dktX1_undo_0 : List UInt8 := dkwX1_undo_0 ++ dktX1_undo_1
theorem dksX1_undo_0 : cX1_undo.data.toList.drop 0 = dktX1_undo_0 := by decide +kernel
theorem dksX1_undo_1 : cX1_undo.data.toList.drop 24 = dktX1_undo_1 := dk_seg dksX1_undo_0 24 rfl rfl
theorem dX1_undo_0 : decode cX1_undo 0 = .ok (.aload_n 0, 1) := dk_42 (dk_at dksX1_undo_0 0 rfl rfl)
theorem dX1_undo_1 : decode cX1_undo 1 = .ok (.getfield 175, 3) := dk_180 0 175 (dk_at dksX1_undo_0 1 rfl rfl)
theorem dX1_undo_4 : decode cX1_undo 4 = .ok (.ifCond .ne 5, 3) := dk_154 0 5 (dk_at dksX1_undo_0 4 rfl rfl)
theorem dX1_undo_7 : decode cX1_undo 7 = .ok (.iconst (-1), 1) := dk_2 (dk_at dksX1_undo_0 7 rfl rfl)
theorem dX1_undo_8 : decode cX1_undo 8 = .ok (.ireturn, 1) := dk_172 (dk_at dksX1_undo_0 8 rfl rfl)
theorem dX1_undo_9 : decode cX1_undo 9 = .ok (.aload_n 0, 1) := dk_42 (dk_at dksX1_undo_0 9 rfl rfl)
theorem dX1_undo_10 : decode cX1_undo 10 = .ok (.dup, 1) := dk_89 (dk_at dksX1_undo_0 10 rfl rfl)
theorem dX1_undo_11 : decode cX1_undo 11 = .ok (.getfield 175, 3) := dk_180 0 175 (dk_at dksX1_undo_0 11 rfl rfl)
theorem dX1_undo_14 : decode cX1_undo 14 = .ok (.iconst 1, 1) := dk_4 (dk_at dksX1_undo_0 14 rfl rfl)
theorem dX1_undo_15 : decode cX1_undo 15 = .ok (.isub, 1) := dk_100 (dk_at dksX1_undo_0 15 rfl rfl)
theorem dX1_undo_16 : decode cX1_undo 16 = .ok (.putfield 175, 3) := dk_181 0 175 (dk_at dksX1_undo_0 16 rfl rfl)
theorem dX1_undo_19 : decode cX1_undo 19 = .ok (.aload_n 0, 1) := dk_42 (dk_at dksX1_undo_0 19 rfl rfl)
theorem dX1_undo_20 : decode cX1_undo 20 = .ok (.getfield 49, 3) := dk_180 0 49 (dk_at dksX1_undo_0 20 rfl rfl)
theorem dX1_undo_23 : decode cX1_undo 23 = .ok (.aload_n 0, 1) := dk_42 (dk_at dksX1_undo_0 23 rfl rfl)
theorem dX1_undo_24 : decode cX1_undo 24 = .ok (.getfield 62, 3) := dk_180 0 62 (dk_at dksX1_undo_1 0 rfl rfl)
theorem dX1_undo_27 : decode cX1_undo 27 = .ok (.aload_n 0, 1) := dk_42 (dk_at dksX1_undo_1 3 rfl rfl)
theorem dX1_undo_28 : decode cX1_undo 28 = .ok (.getfield 175, 3) := dk_180 0 175 (dk_at dksX1_undo_1 4 rfl rfl)
theorem dX1_undo_31 : decode cX1_undo 31 = .ok (.aaload, 1) := dk_50 (dk_at dksX1_undo_1 7 rfl rfl)
theorem dX1_undo_32 : decode cX1_undo 32 = .ok (.invokevirtual 293, 3) := dk_182 1 37 (dk_at dksX1_undo_1 8 rfl rfl)
theorem dX1_undo_35 : decode cX1_undo 35 = .ok (.aload_n 0, 1) := dk_42 (dk_at dksX1_undo_1 11 rfl rfl)
theorem dX1_undo_36 : decode cX1_undo 36 = .ok (.getfield 175, 3) := dk_180 0 175 (dk_at dksX1_undo_1 12 rfl rfl)
theorem dX1_undo_39 : decode cX1_undo 39 = .ok (.ireturn, 1) := dk_172 (dk_at dksX1_undo_1 15 rfl rfl)
abbrev cX1_rises : ByteArray := prog_1_method_44_code
def yX1_rises : MethodName := ⟨RX1, "rises", "()I"⟩
def dkwX1_rises_2 : List UInt8 := [27, 172]
abbrev dktX1_rises_2 : List UInt8 := dkwX1_rises_2 ++ []
def dkwX1_rises_1 : List UInt8 := [182, 1, 75, 42, 42, 42, 180, 0, 49, 27, 182, 0, 244, 153, 0, 7, 10, 167, 0, 4, 9, 182, 1, 75]
abbrev dktX1_rises_1 : List UInt8 := dkwX1_rises_1 ++ dktX1_rises_2
def dkwX1_rises_0 : List UInt8 := [42, 42, 180, 0, 49, 3, 3, 182, 0, 240, 60, 42, 3, 181, 0, 122, 42, 27, 184, 0, 229, 133]
abbrev dktX1_rises_0 : List UInt8 := dkwX1_rises_0 ++ dktX1_rises_1
theorem dksX1_rises_0 : cX1_rises.data.toList.drop 0 = dktX1_rises_0 := by decide +kernel
theorem dksX1_rises_1 : cX1_rises.data.toList.drop 22 = dktX1_rises_1 := dk_seg dksX1_rises_0 22 rfl rfl
theorem dksX1_rises_2 : cX1_rises.data.toList.drop 46 = dktX1_rises_2 := dk_seg dksX1_rises_1 24 rfl rfl
theorem dX1_rises_0 : decode cX1_rises 0 = .ok (.aload_n 0, 1) := dk_42 (dk_at dksX1_rises_0 0 rfl rfl)
theorem dX1_rises_1 : decode cX1_rises 1 = .ok (.aload_n 0, 1) := dk_42 (dk_at dksX1_rises_0 1 rfl rfl)
theorem dX1_rises_2 : decode cX1_rises 2 = .ok (.getfield 49, 3) := dk_180 0 49 (dk_at dksX1_rises_0 2 rfl rfl)
theorem dX1_rises_5 : decode cX1_rises 5 = .ok (.iconst 0, 1) := dk_3 (dk_at dksX1_rises_0 5 rfl rfl)
theorem dX1_rises_6 : decode cX1_rises 6 = .ok (.iconst 0, 1) := dk_3 (dk_at dksX1_rises_0 6 rfl rfl)
theorem dX1_rises_7 : decode cX1_rises 7 = .ok (.invokevirtual 240, 3) := dk_182 0 240 (dk_at dksX1_rises_0 7 rfl rfl)
theorem dX1_rises_10 : decode cX1_rises 10 = .ok (.istore_n 1, 1) := dk_60 (dk_at dksX1_rises_0 10 rfl rfl)
theorem dX1_rises_11 : decode cX1_rises 11 = .ok (.aload_n 0, 1) := dk_42 (dk_at dksX1_rises_0 11 rfl rfl)
theorem dX1_rises_12 : decode cX1_rises 12 = .ok (.iconst 0, 1) := dk_3 (dk_at dksX1_rises_0 12 rfl rfl)
theorem dX1_rises_13 : decode cX1_rises 13 = .ok (.putfield 122, 3) := dk_181 0 122 (dk_at dksX1_rises_0 13 rfl rfl)
theorem dX1_rises_16 : decode cX1_rises 16 = .ok (.aload_n 0, 1) := dk_42 (dk_at dksX1_rises_0 16 rfl rfl)
theorem dX1_rises_17 : decode cX1_rises 17 = .ok (.iload_n 1, 1) := dk_27 (dk_at dksX1_rises_0 17 rfl rfl)
theorem dX1_rises_18 : decode cX1_rises 18 = .ok (.invokestatic 229, 3) := dk_184 0 229 (dk_at dksX1_rises_0 18 rfl rfl)
theorem dX1_rises_21 : decode cX1_rises 21 = .ok (.i2l, 1) := dk_133 (dk_at dksX1_rises_0 21 rfl rfl)
theorem dX1_rises_22 : decode cX1_rises 22 = .ok (.invokevirtual 331, 3) := dk_182 1 75 (dk_at dksX1_rises_1 0 rfl rfl)
theorem dX1_rises_25 : decode cX1_rises 25 = .ok (.aload_n 0, 1) := dk_42 (dk_at dksX1_rises_1 3 rfl rfl)
theorem dX1_rises_26 : decode cX1_rises 26 = .ok (.aload_n 0, 1) := dk_42 (dk_at dksX1_rises_1 4 rfl rfl)
theorem dX1_rises_27 : decode cX1_rises 27 = .ok (.aload_n 0, 1) := dk_42 (dk_at dksX1_rises_1 5 rfl rfl)
theorem dX1_rises_28 : decode cX1_rises 28 = .ok (.getfield 49, 3) := dk_180 0 49 (dk_at dksX1_rises_1 6 rfl rfl)
theorem dX1_rises_31 : decode cX1_rises 31 = .ok (.iload_n 1, 1) := dk_27 (dk_at dksX1_rises_1 9 rfl rfl)
theorem dX1_rises_32 : decode cX1_rises 32 = .ok (.invokevirtual 244, 3) := dk_182 0 244 (dk_at dksX1_rises_1 10 rfl rfl)
theorem dX1_rises_35 : decode cX1_rises 35 = .ok (.ifCond .eq 7, 3) := dk_153 0 7 (dk_at dksX1_rises_1 13 rfl rfl)
theorem dX1_rises_38 : decode cX1_rises 38 = .ok (.lconst 1, 1) := dk_10 (dk_at dksX1_rises_1 16 rfl rfl)
theorem dX1_rises_39 : decode cX1_rises 39 = .ok (.goto 4, 3) := dk_167 0 4 (dk_at dksX1_rises_1 17 rfl rfl)
theorem dX1_rises_42 : decode cX1_rises 42 = .ok (.lconst 0, 1) := dk_9 (dk_at dksX1_rises_1 20 rfl rfl)
theorem dX1_rises_43 : decode cX1_rises 43 = .ok (.invokevirtual 331, 3) := dk_182 1 75 (dk_at dksX1_rises_1 21 rfl rfl)
theorem dX1_rises_46 : decode cX1_rises 46 = .ok (.iload_n 1, 1) := dk_27 (dk_at dksX1_rises_2 0 rfl rfl)
theorem dX1_rises_47 : decode cX1_rises 47 = .ok (.ireturn, 1) := dk_172 (dk_at dksX1_rises_2 1 rfl rfl)
abbrev cX1_follow : ByteArray := prog_1_method_45_code
def yX1_follow : MethodName := ⟨RX1, "follow", "(I)I"⟩
def dkwX1_follow_3 : List UInt8 := [28, 172]
abbrev dktX1_follow_3 : List UInt8 := dkwX1_follow_3 ++ []
def dkwX1_follow_2 : List UInt8 := [182, 1, 75, 42, 42, 42, 180, 0, 49, 28, 182, 0, 244, 153, 0, 7, 10, 167, 0, 4, 9, 182, 1, 75]
abbrev dktX1_follow_2 : List UInt8 := dkwX1_follow_2 ++ dktX1_follow_3
def dkwX1_follow_1 : List UInt8 := [172, 42, 42, 180, 0, 49, 27, 3, 182, 0, 240, 61, 42, 3, 181, 0, 122, 42, 28, 184, 0, 229, 133]
abbrev dktX1_follow_1 : List UInt8 := dkwX1_follow_1 ++ dktX1_follow_2
def dkwX1_follow_0 : List UInt8 := [27, 155, 0, 22, 27, 42, 180, 0, 49, 42, 180, 0, 126, 3, 182, 0, 217, 2, 130, 126, 153, 0, 5, 2]
abbrev dktX1_follow_0 : List UInt8 := dkwX1_follow_0 ++ dktX1_follow_1
theorem dksX1_follow_0 : cX1_follow.data.toList.drop 0 = dktX1_follow_0 := by decide +kernel
theorem dksX1_follow_1 : cX1_follow.data.toList.drop 24 = dktX1_follow_1 := dk_seg dksX1_follow_0 24 rfl rfl
theorem dksX1_follow_2 : cX1_follow.data.toList.drop 47 = dktX1_follow_2 := dk_seg dksX1_follow_1 23 rfl rfl
theorem dksX1_follow_3 : cX1_follow.data.toList.drop 71 = dktX1_follow_3 := dk_seg dksX1_follow_2 24 rfl rfl
theorem dX1_follow_0 : decode cX1_follow 0 = .ok (.iload_n 1, 1) := dk_27 (dk_at dksX1_follow_0 0 rfl rfl)
theorem dX1_follow_1 : decode cX1_follow 1 = .ok (.ifCond .lt 22, 3) := dk_155 0 22 (dk_at dksX1_follow_0 1 rfl rfl)
theorem dX1_follow_4 : decode cX1_follow 4 = .ok (.iload_n 1, 1) := dk_27 (dk_at dksX1_follow_0 4 rfl rfl)
theorem dX1_follow_5 : decode cX1_follow 5 = .ok (.aload_n 0, 1) := dk_42 (dk_at dksX1_follow_0 5 rfl rfl)
theorem dX1_follow_6 : decode cX1_follow 6 = .ok (.getfield 49, 3) := dk_180 0 49 (dk_at dksX1_follow_0 6 rfl rfl)
theorem dX1_follow_9 : decode cX1_follow 9 = .ok (.aload_n 0, 1) := dk_42 (dk_at dksX1_follow_0 9 rfl rfl)
theorem dX1_follow_10 : decode cX1_follow 10 = .ok (.getfield 126, 3) := dk_180 0 126 (dk_at dksX1_follow_0 10 rfl rfl)
theorem dX1_follow_13 : decode cX1_follow 13 = .ok (.iconst 0, 1) := dk_3 (dk_at dksX1_follow_0 13 rfl rfl)
theorem dX1_follow_14 : decode cX1_follow 14 = .ok (.invokevirtual 217, 3) := dk_182 0 217 (dk_at dksX1_follow_0 14 rfl rfl)
theorem dX1_follow_17 : decode cX1_follow 17 = .ok (.iconst (-1), 1) := dk_2 (dk_at dksX1_follow_0 17 rfl rfl)
theorem dX1_follow_18 : decode cX1_follow 18 = .ok (.ixor, 1) := dk_130 (dk_at dksX1_follow_0 18 rfl rfl)
theorem dX1_follow_19 : decode cX1_follow 19 = .ok (.iand, 1) := dk_126 (dk_at dksX1_follow_0 19 rfl rfl)
theorem dX1_follow_20 : decode cX1_follow 20 = .ok (.ifCond .eq 5, 3) := dk_153 0 5 (dk_at dksX1_follow_0 20 rfl rfl)
theorem dX1_follow_23 : decode cX1_follow 23 = .ok (.iconst (-1), 1) := dk_2 (dk_at dksX1_follow_0 23 rfl rfl)
theorem dX1_follow_24 : decode cX1_follow 24 = .ok (.ireturn, 1) := dk_172 (dk_at dksX1_follow_1 0 rfl rfl)
theorem dX1_follow_25 : decode cX1_follow 25 = .ok (.aload_n 0, 1) := dk_42 (dk_at dksX1_follow_1 1 rfl rfl)
theorem dX1_follow_26 : decode cX1_follow 26 = .ok (.aload_n 0, 1) := dk_42 (dk_at dksX1_follow_1 2 rfl rfl)
theorem dX1_follow_27 : decode cX1_follow 27 = .ok (.getfield 49, 3) := dk_180 0 49 (dk_at dksX1_follow_1 3 rfl rfl)
theorem dX1_follow_30 : decode cX1_follow 30 = .ok (.iload_n 1, 1) := dk_27 (dk_at dksX1_follow_1 6 rfl rfl)
theorem dX1_follow_31 : decode cX1_follow 31 = .ok (.iconst 0, 1) := dk_3 (dk_at dksX1_follow_1 7 rfl rfl)
theorem dX1_follow_32 : decode cX1_follow 32 = .ok (.invokevirtual 240, 3) := dk_182 0 240 (dk_at dksX1_follow_1 8 rfl rfl)
theorem dX1_follow_35 : decode cX1_follow 35 = .ok (.istore_n 2, 1) := dk_61 (dk_at dksX1_follow_1 11 rfl rfl)
theorem dX1_follow_36 : decode cX1_follow 36 = .ok (.aload_n 0, 1) := dk_42 (dk_at dksX1_follow_1 12 rfl rfl)
theorem dX1_follow_37 : decode cX1_follow 37 = .ok (.iconst 0, 1) := dk_3 (dk_at dksX1_follow_1 13 rfl rfl)
theorem dX1_follow_38 : decode cX1_follow 38 = .ok (.putfield 122, 3) := dk_181 0 122 (dk_at dksX1_follow_1 14 rfl rfl)
theorem dX1_follow_41 : decode cX1_follow 41 = .ok (.aload_n 0, 1) := dk_42 (dk_at dksX1_follow_1 17 rfl rfl)
theorem dX1_follow_42 : decode cX1_follow 42 = .ok (.iload_n 2, 1) := dk_28 (dk_at dksX1_follow_1 18 rfl rfl)
theorem dX1_follow_43 : decode cX1_follow 43 = .ok (.invokestatic 229, 3) := dk_184 0 229 (dk_at dksX1_follow_1 19 rfl rfl)
theorem dX1_follow_46 : decode cX1_follow 46 = .ok (.i2l, 1) := dk_133 (dk_at dksX1_follow_1 22 rfl rfl)
theorem dX1_follow_47 : decode cX1_follow 47 = .ok (.invokevirtual 331, 3) := dk_182 1 75 (dk_at dksX1_follow_2 0 rfl rfl)
theorem dX1_follow_50 : decode cX1_follow 50 = .ok (.aload_n 0, 1) := dk_42 (dk_at dksX1_follow_2 3 rfl rfl)
theorem dX1_follow_51 : decode cX1_follow 51 = .ok (.aload_n 0, 1) := dk_42 (dk_at dksX1_follow_2 4 rfl rfl)
theorem dX1_follow_52 : decode cX1_follow 52 = .ok (.aload_n 0, 1) := dk_42 (dk_at dksX1_follow_2 5 rfl rfl)
theorem dX1_follow_53 : decode cX1_follow 53 = .ok (.getfield 49, 3) := dk_180 0 49 (dk_at dksX1_follow_2 6 rfl rfl)
theorem dX1_follow_56 : decode cX1_follow 56 = .ok (.iload_n 2, 1) := dk_28 (dk_at dksX1_follow_2 9 rfl rfl)
theorem dX1_follow_57 : decode cX1_follow 57 = .ok (.invokevirtual 244, 3) := dk_182 0 244 (dk_at dksX1_follow_2 10 rfl rfl)
theorem dX1_follow_60 : decode cX1_follow 60 = .ok (.ifCond .eq 7, 3) := dk_153 0 7 (dk_at dksX1_follow_2 13 rfl rfl)
theorem dX1_follow_63 : decode cX1_follow 63 = .ok (.lconst 1, 1) := dk_10 (dk_at dksX1_follow_2 16 rfl rfl)
theorem dX1_follow_64 : decode cX1_follow 64 = .ok (.goto 4, 3) := dk_167 0 4 (dk_at dksX1_follow_2 17 rfl rfl)
theorem dX1_follow_67 : decode cX1_follow 67 = .ok (.lconst 0, 1) := dk_9 (dk_at dksX1_follow_2 20 rfl rfl)
theorem dX1_follow_68 : decode cX1_follow 68 = .ok (.invokevirtual 331, 3) := dk_182 1 75 (dk_at dksX1_follow_2 21 rfl rfl)
theorem dX1_follow_71 : decode cX1_follow 71 = .ok (.iload_n 2, 1) := dk_28 (dk_at dksX1_follow_3 0 rfl rfl)
theorem dX1_follow_72 : decode cX1_follow 72 = .ok (.ireturn, 1) := dk_172 (dk_at dksX1_follow_3 1 rfl rfl)
abbrev cX1_quiet : ByteArray := prog_1_method_46_code
def yX1_quiet : MethodName := ⟨RX1, "quiet", "()I"⟩
def dkwX1_quiet_3 : List UInt8 := [180, 0, 56, 182, 1, 66, 87, 132, 1, 1, 167, 255, 187, 16, 254, 172]
abbrev dktX1_quiet_3 : List UInt8 := dkwX1_quiet_3 ++ []
def dkwX1_quiet_2 : List UInt8 := [42, 180, 0, 56, 180, 1, 46, 133, 182, 1, 75, 42, 28, 184, 0, 229, 133, 182, 1, 75, 27, 172, 42, 42]
abbrev dktX1_quiet_2 : List UInt8 := dkwX1_quiet_2 ++ dktX1_quiet_3
def dkwX1_quiet_1 : List UInt8 := [3, 3, 182, 0, 240, 61, 42, 42, 180, 0, 56, 28, 182, 0, 244, 153, 0, 31, 42, 3, 181, 0, 122, 42]
abbrev dktX1_quiet_1 : List UInt8 := dkwX1_quiet_1 ++ dktX1_quiet_2
def dkwX1_quiet_0 : List UInt8 := [42, 180, 0, 56, 42, 180, 0, 49, 182, 1, 37, 3, 60, 27, 16, 99, 163, 0, 69, 42, 42, 180, 0, 56]
abbrev dktX1_quiet_0 : List UInt8 := dkwX1_quiet_0 ++ dktX1_quiet_1
theorem dksX1_quiet_0 : cX1_quiet.data.toList.drop 0 = dktX1_quiet_0 := by decide +kernel
theorem dksX1_quiet_1 : cX1_quiet.data.toList.drop 24 = dktX1_quiet_1 := dk_seg dksX1_quiet_0 24 rfl rfl
theorem dksX1_quiet_2 : cX1_quiet.data.toList.drop 48 = dktX1_quiet_2 := dk_seg dksX1_quiet_1 24 rfl rfl
theorem dksX1_quiet_3 : cX1_quiet.data.toList.drop 72 = dktX1_quiet_3 := dk_seg dksX1_quiet_2 24 rfl rfl
theorem dX1_quiet_0 : decode cX1_quiet 0 = .ok (.aload_n 0, 1) := dk_42 (dk_at dksX1_quiet_0 0 rfl rfl)
theorem dX1_quiet_1 : decode cX1_quiet 1 = .ok (.getfield 56, 3) := dk_180 0 56 (dk_at dksX1_quiet_0 1 rfl rfl)
theorem dX1_quiet_4 : decode cX1_quiet 4 = .ok (.aload_n 0, 1) := dk_42 (dk_at dksX1_quiet_0 4 rfl rfl)
theorem dX1_quiet_5 : decode cX1_quiet 5 = .ok (.getfield 49, 3) := dk_180 0 49 (dk_at dksX1_quiet_0 5 rfl rfl)
theorem dX1_quiet_8 : decode cX1_quiet 8 = .ok (.invokevirtual 293, 3) := dk_182 1 37 (dk_at dksX1_quiet_0 8 rfl rfl)
theorem dX1_quiet_11 : decode cX1_quiet 11 = .ok (.iconst 0, 1) := dk_3 (dk_at dksX1_quiet_0 11 rfl rfl)
theorem dX1_quiet_12 : decode cX1_quiet 12 = .ok (.istore_n 1, 1) := dk_60 (dk_at dksX1_quiet_0 12 rfl rfl)
theorem dX1_quiet_13 : decode cX1_quiet 13 = .ok (.iload_n 1, 1) := dk_27 (dk_at dksX1_quiet_0 13 rfl rfl)
theorem dX1_quiet_14 : decode cX1_quiet 14 = .ok (.bipush 99, 2) := dk_16 99 (dk_at dksX1_quiet_0 14 rfl rfl)
theorem dX1_quiet_16 : decode cX1_quiet 16 = .ok (.if_icmp .gt 69, 3) := dk_163 0 69 (dk_at dksX1_quiet_0 16 rfl rfl)
theorem dX1_quiet_19 : decode cX1_quiet 19 = .ok (.aload_n 0, 1) := dk_42 (dk_at dksX1_quiet_0 19 rfl rfl)
theorem dX1_quiet_20 : decode cX1_quiet 20 = .ok (.aload_n 0, 1) := dk_42 (dk_at dksX1_quiet_0 20 rfl rfl)
theorem dX1_quiet_21 : decode cX1_quiet 21 = .ok (.getfield 56, 3) := dk_180 0 56 (dk_at dksX1_quiet_0 21 rfl rfl)
theorem dX1_quiet_24 : decode cX1_quiet 24 = .ok (.iconst 0, 1) := dk_3 (dk_at dksX1_quiet_1 0 rfl rfl)
theorem dX1_quiet_25 : decode cX1_quiet 25 = .ok (.iconst 0, 1) := dk_3 (dk_at dksX1_quiet_1 1 rfl rfl)
theorem dX1_quiet_26 : decode cX1_quiet 26 = .ok (.invokevirtual 240, 3) := dk_182 0 240 (dk_at dksX1_quiet_1 2 rfl rfl)
theorem dX1_quiet_29 : decode cX1_quiet 29 = .ok (.istore_n 2, 1) := dk_61 (dk_at dksX1_quiet_1 5 rfl rfl)
theorem dX1_quiet_30 : decode cX1_quiet 30 = .ok (.aload_n 0, 1) := dk_42 (dk_at dksX1_quiet_1 6 rfl rfl)
theorem dX1_quiet_31 : decode cX1_quiet 31 = .ok (.aload_n 0, 1) := dk_42 (dk_at dksX1_quiet_1 7 rfl rfl)
theorem dX1_quiet_32 : decode cX1_quiet 32 = .ok (.getfield 56, 3) := dk_180 0 56 (dk_at dksX1_quiet_1 8 rfl rfl)
theorem dX1_quiet_35 : decode cX1_quiet 35 = .ok (.iload_n 2, 1) := dk_28 (dk_at dksX1_quiet_1 11 rfl rfl)
theorem dX1_quiet_36 : decode cX1_quiet 36 = .ok (.invokevirtual 244, 3) := dk_182 0 244 (dk_at dksX1_quiet_1 12 rfl rfl)
theorem dX1_quiet_39 : decode cX1_quiet 39 = .ok (.ifCond .eq 31, 3) := dk_153 0 31 (dk_at dksX1_quiet_1 15 rfl rfl)
theorem dX1_quiet_42 : decode cX1_quiet 42 = .ok (.aload_n 0, 1) := dk_42 (dk_at dksX1_quiet_1 18 rfl rfl)
theorem dX1_quiet_43 : decode cX1_quiet 43 = .ok (.iconst 0, 1) := dk_3 (dk_at dksX1_quiet_1 19 rfl rfl)
theorem dX1_quiet_44 : decode cX1_quiet 44 = .ok (.putfield 122, 3) := dk_181 0 122 (dk_at dksX1_quiet_1 20 rfl rfl)
theorem dX1_quiet_47 : decode cX1_quiet 47 = .ok (.aload_n 0, 1) := dk_42 (dk_at dksX1_quiet_1 23 rfl rfl)
theorem dX1_quiet_48 : decode cX1_quiet 48 = .ok (.aload_n 0, 1) := dk_42 (dk_at dksX1_quiet_2 0 rfl rfl)
theorem dX1_quiet_49 : decode cX1_quiet 49 = .ok (.getfield 56, 3) := dk_180 0 56 (dk_at dksX1_quiet_2 1 rfl rfl)
theorem dX1_quiet_52 : decode cX1_quiet 52 = .ok (.getfield 302, 3) := dk_180 1 46 (dk_at dksX1_quiet_2 4 rfl rfl)
theorem dX1_quiet_55 : decode cX1_quiet 55 = .ok (.i2l, 1) := dk_133 (dk_at dksX1_quiet_2 7 rfl rfl)
theorem dX1_quiet_56 : decode cX1_quiet 56 = .ok (.invokevirtual 331, 3) := dk_182 1 75 (dk_at dksX1_quiet_2 8 rfl rfl)
theorem dX1_quiet_59 : decode cX1_quiet 59 = .ok (.aload_n 0, 1) := dk_42 (dk_at dksX1_quiet_2 11 rfl rfl)
theorem dX1_quiet_60 : decode cX1_quiet 60 = .ok (.iload_n 2, 1) := dk_28 (dk_at dksX1_quiet_2 12 rfl rfl)
theorem dX1_quiet_61 : decode cX1_quiet 61 = .ok (.invokestatic 229, 3) := dk_184 0 229 (dk_at dksX1_quiet_2 13 rfl rfl)
theorem dX1_quiet_64 : decode cX1_quiet 64 = .ok (.i2l, 1) := dk_133 (dk_at dksX1_quiet_2 16 rfl rfl)
theorem dX1_quiet_65 : decode cX1_quiet 65 = .ok (.invokevirtual 331, 3) := dk_182 1 75 (dk_at dksX1_quiet_2 17 rfl rfl)
theorem dX1_quiet_68 : decode cX1_quiet 68 = .ok (.iload_n 1, 1) := dk_27 (dk_at dksX1_quiet_2 20 rfl rfl)
theorem dX1_quiet_69 : decode cX1_quiet 69 = .ok (.ireturn, 1) := dk_172 (dk_at dksX1_quiet_2 21 rfl rfl)
theorem dX1_quiet_70 : decode cX1_quiet 70 = .ok (.aload_n 0, 1) := dk_42 (dk_at dksX1_quiet_2 22 rfl rfl)
theorem dX1_quiet_71 : decode cX1_quiet 71 = .ok (.aload_n 0, 1) := dk_42 (dk_at dksX1_quiet_2 23 rfl rfl)
theorem dX1_quiet_72 : decode cX1_quiet 72 = .ok (.getfield 56, 3) := dk_180 0 56 (dk_at dksX1_quiet_3 0 rfl rfl)
theorem dX1_quiet_75 : decode cX1_quiet 75 = .ok (.invokevirtual 322, 3) := dk_182 1 66 (dk_at dksX1_quiet_3 3 rfl rfl)
theorem dX1_quiet_78 : decode cX1_quiet 78 = .ok (.pop, 1) := dk_87 (dk_at dksX1_quiet_3 6 rfl rfl)
theorem dX1_quiet_79 : decode cX1_quiet 79 = .ok (.iinc 1 1, 3) := dk_132 1 1 (dk_at dksX1_quiet_3 7 rfl rfl)
theorem dX1_quiet_82 : decode cX1_quiet 82 = .ok (.goto (-69), 3) := dk_167 255 187 (dk_at dksX1_quiet_3 10 rfl rfl)
theorem dX1_quiet_85 : decode cX1_quiet 85 = .ok (.bipush (-2), 2) := dk_16 254 (dk_at dksX1_quiet_3 13 rfl rfl)
theorem dX1_quiet_87 : decode cX1_quiet 87 = .ok (.ireturn, 1) := dk_172 (dk_at dksX1_quiet_3 15 rfl rfl)
abbrev cX1_words_2 : ByteArray := prog_1_method_49_code
def yX1_words_2 : MethodName := ⟨RX1, "words", "()I"⟩
def dkwX1_words_2_0 : List UInt8 := [42, 4, 182, 1, 128, 172]
abbrev dktX1_words_2_0 : List UInt8 := dkwX1_words_2_0 ++ []
theorem dksX1_words_2_0 : cX1_words_2.data.toList.drop 0 = dktX1_words_2_0 := by decide +kernel
theorem dX1_words_2_0 : decode cX1_words_2 0 = .ok (.aload_n 0, 1) := dk_42 (dk_at dksX1_words_2_0 0 rfl rfl)
theorem dX1_words_2_1 : decode cX1_words_2 1 = .ok (.iconst 1, 1) := dk_4 (dk_at dksX1_words_2_0 1 rfl rfl)
theorem dX1_words_2_2 : decode cX1_words_2 2 = .ok (.invokevirtual 384, 3) := dk_182 1 128 (dk_at dksX1_words_2_0 2 rfl rfl)
theorem dX1_words_2_5 : decode cX1_words_2 5 = .ok (.ireturn, 1) := dk_172 (dk_at dksX1_words_2_0 5 rfl rfl)
abbrev cX1_fewest : ByteArray := prog_1_method_48_code
def yX1_fewest : MethodName := ⟨RX1, "fewest", "(Z)I"⟩
def dkwX1_fewest_13 : List UInt8 := [28, 172]
abbrev dktX1_fewest_13 : List UInt8 := dkwX1_fewest_13 ++ []
def dkwX1_fewest_12 : List UInt8 := [180, 0, 126, 162, 0, 21, 42, 42, 180, 0, 101, 21, 4, 46, 133, 182, 1, 75, 132, 4, 1, 167, 255, 232]
abbrev dktX1_fewest_12 : List UInt8 := dkwX1_fewest_12 ++ dktX1_fewest_13
def dkwX1_fewest_11 : List UInt8 := [167, 255, 20, 28, 19, 1, 123, 160, 0, 6, 16, 254, 172, 42, 3, 181, 0, 122, 3, 54, 4, 21, 4, 42]
abbrev dktX1_fewest_11 : List UInt8 := dkwX1_fewest_11 ++ dktX1_fewest_12
def dkwX1_fewest_10 : List UInt8 := [167, 0, 21, 21, 5, 61, 42, 180, 0, 98, 3, 42, 180, 0, 101, 3, 16, 8, 184, 0, 186, 132, 4, 1]
abbrev dktX1_fewest_10 : List UInt8 := dkwX1_fewest_10 ++ dktX1_fewest_11
def dkwX1_fewest_9 : List UInt8 := [180, 0, 56, 182, 1, 79, 27, 160, 0, 37, 21, 5, 28, 160, 0, 13, 42, 182, 1, 124, 154, 0, 6]
abbrev dktX1_fewest_9 : List UInt8 := dkwX1_fewest_9 ++ dktX1_fewest_10
def dkwX1_fewest_8 : List UInt8 := [180, 0, 98, 21, 6, 46, 96, 54, 5, 132, 6, 1, 167, 255, 113, 21, 5, 28, 163, 0, 49, 42, 42]
abbrev dktX1_fewest_8 : List UInt8 := dkwX1_fewest_8 ++ dktX1_fewest_9
def dkwX1_fewest_7 : List UInt8 := [42, 180, 0, 98, 21, 6, 46, 167, 0, 11, 42, 180, 0, 98, 21, 6, 46, 116, 182, 1, 59, 21, 5, 42]
abbrev dktX1_fewest_7 : List UInt8 := dkwX1_fewest_7 ++ dktX1_fewest_8
def dkwX1_fewest_6 : List UInt8 := [155, 0, 12, 3, 21, 8, 184, 1, 34, 167, 0, 4, 3, 79, 42, 180, 0, 56, 21, 6, 27, 153, 0, 13]
abbrev dktX1_fewest_6 : List UInt8 := dkwX1_fewest_6 ++ dktX1_fewest_7
def dkwX1_fewest_5 : List UInt8 := [21, 7, 100, 54, 8, 42, 180, 0, 98, 21, 6, 21, 4, 21, 6, 184, 0, 221, 153, 0, 17, 21, 7]
abbrev dktX1_fewest_5 : List UInt8 := dkwX1_fewest_5 ++ dktX1_fewest_6
def dkwX1_fewest_4 : List UInt8 := [180, 0, 49, 180, 0, 169, 21, 6, 46, 100, 167, 0, 16, 42, 180, 0, 49, 180, 0, 169, 21, 6, 46]
abbrev dktX1_fewest_4 : List UInt8 := dkwX1_fewest_4 ++ dktX1_fewest_5
def dkwX1_fewest_3 : List UInt8 := [21, 6, 46, 104, 27, 153, 0, 7, 3, 167, 0, 4, 4, 100, 54, 7, 27, 153, 0, 19, 21, 7, 42]
abbrev dktX1_fewest_3 : List UInt8 := dkwX1_fewest_3 ++ dktX1_fewest_4
def dkwX1_fewest_2 : List UInt8 := [182, 1, 37, 3, 54, 5, 3, 54, 6, 21, 6, 42, 180, 0, 126, 162, 0, 140, 8, 42, 180, 0, 69]
abbrev dktX1_fewest_2 : List UInt8 := dkwX1_fewest_2 ++ dktX1_fewest_3
def dkwX1_fewest_1 : List UInt8 := [163, 0, 236, 21, 4, 29, 2, 130, 126, 153, 0, 6, 167, 0, 218, 42, 180, 0, 56, 42, 180, 0, 49]
abbrev dktX1_fewest_1 : List UInt8 := dkwX1_fewest_1 ++ dktX1_fewest_2
def dkwX1_fewest_0 : List UInt8 := [19, 1, 123, 61, 42, 180, 0, 49, 42, 180, 0, 126, 3, 182, 0, 217, 62, 3, 54, 4, 21, 4, 29]
abbrev dktX1_fewest_0 : List UInt8 := dkwX1_fewest_0 ++ dktX1_fewest_1
theorem dksX1_fewest_0 : cX1_fewest.data.toList.drop 0 = dktX1_fewest_0 := by decide +kernel
theorem dksX1_fewest_1 : cX1_fewest.data.toList.drop 23 = dktX1_fewest_1 := dk_seg dksX1_fewest_0 23 rfl rfl
theorem dksX1_fewest_2 : cX1_fewest.data.toList.drop 46 = dktX1_fewest_2 := dk_seg dksX1_fewest_1 23 rfl rfl
theorem dksX1_fewest_3 : cX1_fewest.data.toList.drop 69 = dktX1_fewest_3 := dk_seg dksX1_fewest_2 23 rfl rfl
theorem dksX1_fewest_4 : cX1_fewest.data.toList.drop 92 = dktX1_fewest_4 := dk_seg dksX1_fewest_3 23 rfl rfl
theorem dksX1_fewest_5 : cX1_fewest.data.toList.drop 115 = dktX1_fewest_5 := dk_seg dksX1_fewest_4 23 rfl rfl
theorem dksX1_fewest_6 : cX1_fewest.data.toList.drop 138 = dktX1_fewest_6 := dk_seg dksX1_fewest_5 23 rfl rfl
theorem dksX1_fewest_7 : cX1_fewest.data.toList.drop 162 = dktX1_fewest_7 := dk_seg dksX1_fewest_6 24 rfl rfl
theorem dksX1_fewest_8 : cX1_fewest.data.toList.drop 186 = dktX1_fewest_8 := dk_seg dksX1_fewest_7 24 rfl rfl
theorem dksX1_fewest_9 : cX1_fewest.data.toList.drop 209 = dktX1_fewest_9 := dk_seg dksX1_fewest_8 23 rfl rfl
theorem dksX1_fewest_10 : cX1_fewest.data.toList.drop 232 = dktX1_fewest_10 := dk_seg dksX1_fewest_9 23 rfl rfl
theorem dksX1_fewest_11 : cX1_fewest.data.toList.drop 256 = dktX1_fewest_11 := dk_seg dksX1_fewest_10 24 rfl rfl
theorem dksX1_fewest_12 : cX1_fewest.data.toList.drop 280 = dktX1_fewest_12 := dk_seg dksX1_fewest_11 24 rfl rfl
theorem dksX1_fewest_13 : cX1_fewest.data.toList.drop 304 = dktX1_fewest_13 := dk_seg dksX1_fewest_12 24 rfl rfl
theorem dX1_fewest_0 : decode cX1_fewest 0 = .ok (.ldc_w 379, 3) := dk_19 1 123 (dk_at dksX1_fewest_0 0 rfl rfl)
theorem dX1_fewest_3 : decode cX1_fewest 3 = .ok (.istore_n 2, 1) := dk_61 (dk_at dksX1_fewest_0 3 rfl rfl)
theorem dX1_fewest_4 : decode cX1_fewest 4 = .ok (.aload_n 0, 1) := dk_42 (dk_at dksX1_fewest_0 4 rfl rfl)
theorem dX1_fewest_5 : decode cX1_fewest 5 = .ok (.getfield 49, 3) := dk_180 0 49 (dk_at dksX1_fewest_0 5 rfl rfl)
theorem dX1_fewest_8 : decode cX1_fewest 8 = .ok (.aload_n 0, 1) := dk_42 (dk_at dksX1_fewest_0 8 rfl rfl)
theorem dX1_fewest_9 : decode cX1_fewest 9 = .ok (.getfield 126, 3) := dk_180 0 126 (dk_at dksX1_fewest_0 9 rfl rfl)
theorem dX1_fewest_12 : decode cX1_fewest 12 = .ok (.iconst 0, 1) := dk_3 (dk_at dksX1_fewest_0 12 rfl rfl)
theorem dX1_fewest_13 : decode cX1_fewest 13 = .ok (.invokevirtual 217, 3) := dk_182 0 217 (dk_at dksX1_fewest_0 13 rfl rfl)
theorem dX1_fewest_16 : decode cX1_fewest 16 = .ok (.istore_n 3, 1) := dk_62 (dk_at dksX1_fewest_0 16 rfl rfl)
theorem dX1_fewest_17 : decode cX1_fewest 17 = .ok (.iconst 0, 1) := dk_3 (dk_at dksX1_fewest_0 17 rfl rfl)
theorem dX1_fewest_18 : decode cX1_fewest 18 = .ok (.istore 4, 2) := dk_54 4 (dk_at dksX1_fewest_0 18 rfl rfl)
theorem dX1_fewest_20 : decode cX1_fewest 20 = .ok (.iload 4, 2) := dk_21 4 (dk_at dksX1_fewest_0 20 rfl rfl)
theorem dX1_fewest_22 : decode cX1_fewest 22 = .ok (.iload_n 3, 1) := dk_29 (dk_at dksX1_fewest_0 22 rfl rfl)
theorem dX1_fewest_23 : decode cX1_fewest 23 = .ok (.if_icmp .gt 236, 3) := dk_163 0 236 (dk_at dksX1_fewest_1 0 rfl rfl)
theorem dX1_fewest_26 : decode cX1_fewest 26 = .ok (.iload 4, 2) := dk_21 4 (dk_at dksX1_fewest_1 3 rfl rfl)
theorem dX1_fewest_28 : decode cX1_fewest 28 = .ok (.iload_n 3, 1) := dk_29 (dk_at dksX1_fewest_1 5 rfl rfl)
theorem dX1_fewest_29 : decode cX1_fewest 29 = .ok (.iconst (-1), 1) := dk_2 (dk_at dksX1_fewest_1 6 rfl rfl)
theorem dX1_fewest_30 : decode cX1_fewest 30 = .ok (.ixor, 1) := dk_130 (dk_at dksX1_fewest_1 7 rfl rfl)
theorem dX1_fewest_31 : decode cX1_fewest 31 = .ok (.iand, 1) := dk_126 (dk_at dksX1_fewest_1 8 rfl rfl)
theorem dX1_fewest_32 : decode cX1_fewest 32 = .ok (.ifCond .eq 6, 3) := dk_153 0 6 (dk_at dksX1_fewest_1 9 rfl rfl)
theorem dX1_fewest_35 : decode cX1_fewest 35 = .ok (.goto 218, 3) := dk_167 0 218 (dk_at dksX1_fewest_1 12 rfl rfl)
theorem dX1_fewest_38 : decode cX1_fewest 38 = .ok (.aload_n 0, 1) := dk_42 (dk_at dksX1_fewest_1 15 rfl rfl)
theorem dX1_fewest_39 : decode cX1_fewest 39 = .ok (.getfield 56, 3) := dk_180 0 56 (dk_at dksX1_fewest_1 16 rfl rfl)
theorem dX1_fewest_42 : decode cX1_fewest 42 = .ok (.aload_n 0, 1) := dk_42 (dk_at dksX1_fewest_1 19 rfl rfl)
theorem dX1_fewest_43 : decode cX1_fewest 43 = .ok (.getfield 49, 3) := dk_180 0 49 (dk_at dksX1_fewest_1 20 rfl rfl)
theorem dX1_fewest_46 : decode cX1_fewest 46 = .ok (.invokevirtual 293, 3) := dk_182 1 37 (dk_at dksX1_fewest_2 0 rfl rfl)
theorem dX1_fewest_49 : decode cX1_fewest 49 = .ok (.iconst 0, 1) := dk_3 (dk_at dksX1_fewest_2 3 rfl rfl)
theorem dX1_fewest_50 : decode cX1_fewest 50 = .ok (.istore 5, 2) := dk_54 5 (dk_at dksX1_fewest_2 4 rfl rfl)
theorem dX1_fewest_52 : decode cX1_fewest 52 = .ok (.iconst 0, 1) := dk_3 (dk_at dksX1_fewest_2 6 rfl rfl)
theorem dX1_fewest_53 : decode cX1_fewest 53 = .ok (.istore 6, 2) := dk_54 6 (dk_at dksX1_fewest_2 7 rfl rfl)
theorem dX1_fewest_55 : decode cX1_fewest 55 = .ok (.iload 6, 2) := dk_21 6 (dk_at dksX1_fewest_2 9 rfl rfl)
theorem dX1_fewest_57 : decode cX1_fewest 57 = .ok (.aload_n 0, 1) := dk_42 (dk_at dksX1_fewest_2 11 rfl rfl)
theorem dX1_fewest_58 : decode cX1_fewest 58 = .ok (.getfield 126, 3) := dk_180 0 126 (dk_at dksX1_fewest_2 12 rfl rfl)
theorem dX1_fewest_61 : decode cX1_fewest 61 = .ok (.if_icmp .ge 140, 3) := dk_162 0 140 (dk_at dksX1_fewest_2 15 rfl rfl)
theorem dX1_fewest_64 : decode cX1_fewest 64 = .ok (.iconst 5, 1) := dk_8 (dk_at dksX1_fewest_2 18 rfl rfl)
theorem dX1_fewest_65 : decode cX1_fewest 65 = .ok (.aload_n 0, 1) := dk_42 (dk_at dksX1_fewest_2 19 rfl rfl)
theorem dX1_fewest_66 : decode cX1_fewest 66 = .ok (.getfield 69, 3) := dk_180 0 69 (dk_at dksX1_fewest_2 20 rfl rfl)
theorem dX1_fewest_69 : decode cX1_fewest 69 = .ok (.iload 6, 2) := dk_21 6 (dk_at dksX1_fewest_3 0 rfl rfl)
theorem dX1_fewest_71 : decode cX1_fewest 71 = .ok (.iaload, 1) := dk_46 (dk_at dksX1_fewest_3 2 rfl rfl)
theorem dX1_fewest_72 : decode cX1_fewest 72 = .ok (.imul, 1) := dk_104 (dk_at dksX1_fewest_3 3 rfl rfl)
theorem dX1_fewest_73 : decode cX1_fewest 73 = .ok (.iload_n 1, 1) := dk_27 (dk_at dksX1_fewest_3 4 rfl rfl)
theorem dX1_fewest_74 : decode cX1_fewest 74 = .ok (.ifCond .eq 7, 3) := dk_153 0 7 (dk_at dksX1_fewest_3 5 rfl rfl)
theorem dX1_fewest_77 : decode cX1_fewest 77 = .ok (.iconst 0, 1) := dk_3 (dk_at dksX1_fewest_3 8 rfl rfl)
theorem dX1_fewest_78 : decode cX1_fewest 78 = .ok (.goto 4, 3) := dk_167 0 4 (dk_at dksX1_fewest_3 9 rfl rfl)
theorem dX1_fewest_81 : decode cX1_fewest 81 = .ok (.iconst 1, 1) := dk_4 (dk_at dksX1_fewest_3 12 rfl rfl)
theorem dX1_fewest_82 : decode cX1_fewest 82 = .ok (.isub, 1) := dk_100 (dk_at dksX1_fewest_3 13 rfl rfl)
theorem dX1_fewest_83 : decode cX1_fewest 83 = .ok (.istore 7, 2) := dk_54 7 (dk_at dksX1_fewest_3 14 rfl rfl)
theorem dX1_fewest_85 : decode cX1_fewest 85 = .ok (.iload_n 1, 1) := dk_27 (dk_at dksX1_fewest_3 16 rfl rfl)
theorem dX1_fewest_86 : decode cX1_fewest 86 = .ok (.ifCond .eq 19, 3) := dk_153 0 19 (dk_at dksX1_fewest_3 17 rfl rfl)
theorem dX1_fewest_89 : decode cX1_fewest 89 = .ok (.iload 7, 2) := dk_21 7 (dk_at dksX1_fewest_3 20 rfl rfl)
theorem dX1_fewest_91 : decode cX1_fewest 91 = .ok (.aload_n 0, 1) := dk_42 (dk_at dksX1_fewest_3 22 rfl rfl)
theorem dX1_fewest_92 : decode cX1_fewest 92 = .ok (.getfield 49, 3) := dk_180 0 49 (dk_at dksX1_fewest_4 0 rfl rfl)
theorem dX1_fewest_95 : decode cX1_fewest 95 = .ok (.getfield 169, 3) := dk_180 0 169 (dk_at dksX1_fewest_4 3 rfl rfl)
theorem dX1_fewest_98 : decode cX1_fewest 98 = .ok (.iload 6, 2) := dk_21 6 (dk_at dksX1_fewest_4 6 rfl rfl)
theorem dX1_fewest_100 : decode cX1_fewest 100 = .ok (.iaload, 1) := dk_46 (dk_at dksX1_fewest_4 8 rfl rfl)
theorem dX1_fewest_101 : decode cX1_fewest 101 = .ok (.isub, 1) := dk_100 (dk_at dksX1_fewest_4 9 rfl rfl)
theorem dX1_fewest_102 : decode cX1_fewest 102 = .ok (.goto 16, 3) := dk_167 0 16 (dk_at dksX1_fewest_4 10 rfl rfl)
theorem dX1_fewest_105 : decode cX1_fewest 105 = .ok (.aload_n 0, 1) := dk_42 (dk_at dksX1_fewest_4 13 rfl rfl)
theorem dX1_fewest_106 : decode cX1_fewest 106 = .ok (.getfield 49, 3) := dk_180 0 49 (dk_at dksX1_fewest_4 14 rfl rfl)
theorem dX1_fewest_109 : decode cX1_fewest 109 = .ok (.getfield 169, 3) := dk_180 0 169 (dk_at dksX1_fewest_4 17 rfl rfl)
theorem dX1_fewest_112 : decode cX1_fewest 112 = .ok (.iload 6, 2) := dk_21 6 (dk_at dksX1_fewest_4 20 rfl rfl)
theorem dX1_fewest_114 : decode cX1_fewest 114 = .ok (.iaload, 1) := dk_46 (dk_at dksX1_fewest_4 22 rfl rfl)
theorem dX1_fewest_115 : decode cX1_fewest 115 = .ok (.iload 7, 2) := dk_21 7 (dk_at dksX1_fewest_5 0 rfl rfl)
theorem dX1_fewest_117 : decode cX1_fewest 117 = .ok (.isub, 1) := dk_100 (dk_at dksX1_fewest_5 2 rfl rfl)
theorem dX1_fewest_118 : decode cX1_fewest 118 = .ok (.istore 8, 2) := dk_54 8 (dk_at dksX1_fewest_5 3 rfl rfl)
theorem dX1_fewest_120 : decode cX1_fewest 120 = .ok (.aload_n 0, 1) := dk_42 (dk_at dksX1_fewest_5 5 rfl rfl)
theorem dX1_fewest_121 : decode cX1_fewest 121 = .ok (.getfield 98, 3) := dk_180 0 98 (dk_at dksX1_fewest_5 6 rfl rfl)
theorem dX1_fewest_124 : decode cX1_fewest 124 = .ok (.iload 6, 2) := dk_21 6 (dk_at dksX1_fewest_5 9 rfl rfl)
theorem dX1_fewest_126 : decode cX1_fewest 126 = .ok (.iload 4, 2) := dk_21 4 (dk_at dksX1_fewest_5 11 rfl rfl)
theorem dX1_fewest_128 : decode cX1_fewest 128 = .ok (.iload 6, 2) := dk_21 6 (dk_at dksX1_fewest_5 13 rfl rfl)
theorem dX1_fewest_130 : decode cX1_fewest 130 = .ok (.invokestatic 221, 3) := dk_184 0 221 (dk_at dksX1_fewest_5 15 rfl rfl)
theorem dX1_fewest_133 : decode cX1_fewest 133 = .ok (.ifCond .eq 17, 3) := dk_153 0 17 (dk_at dksX1_fewest_5 18 rfl rfl)
theorem dX1_fewest_136 : decode cX1_fewest 136 = .ok (.iload 7, 2) := dk_21 7 (dk_at dksX1_fewest_5 21 rfl rfl)
theorem dX1_fewest_138 : decode cX1_fewest 138 = .ok (.ifCond .lt 12, 3) := dk_155 0 12 (dk_at dksX1_fewest_6 0 rfl rfl)
theorem dX1_fewest_141 : decode cX1_fewest 141 = .ok (.iconst 0, 1) := dk_3 (dk_at dksX1_fewest_6 3 rfl rfl)
theorem dX1_fewest_142 : decode cX1_fewest 142 = .ok (.iload 8, 2) := dk_21 8 (dk_at dksX1_fewest_6 4 rfl rfl)
theorem dX1_fewest_144 : decode cX1_fewest 144 = .ok (.invokestatic 290, 3) := dk_184 1 34 (dk_at dksX1_fewest_6 6 rfl rfl)
theorem dX1_fewest_147 : decode cX1_fewest 147 = .ok (.goto 4, 3) := dk_167 0 4 (dk_at dksX1_fewest_6 9 rfl rfl)
theorem dX1_fewest_150 : decode cX1_fewest 150 = .ok (.iconst 0, 1) := dk_3 (dk_at dksX1_fewest_6 12 rfl rfl)
theorem dX1_fewest_151 : decode cX1_fewest 151 = .ok (.iastore, 1) := dk_79 (dk_at dksX1_fewest_6 13 rfl rfl)
theorem dX1_fewest_152 : decode cX1_fewest 152 = .ok (.aload_n 0, 1) := dk_42 (dk_at dksX1_fewest_6 14 rfl rfl)
theorem dX1_fewest_153 : decode cX1_fewest 153 = .ok (.getfield 56, 3) := dk_180 0 56 (dk_at dksX1_fewest_6 15 rfl rfl)
theorem dX1_fewest_156 : decode cX1_fewest 156 = .ok (.iload 6, 2) := dk_21 6 (dk_at dksX1_fewest_6 18 rfl rfl)
theorem dX1_fewest_158 : decode cX1_fewest 158 = .ok (.iload_n 1, 1) := dk_27 (dk_at dksX1_fewest_6 20 rfl rfl)
theorem dX1_fewest_159 : decode cX1_fewest 159 = .ok (.ifCond .eq 13, 3) := dk_153 0 13 (dk_at dksX1_fewest_6 21 rfl rfl)
theorem dX1_fewest_162 : decode cX1_fewest 162 = .ok (.aload_n 0, 1) := dk_42 (dk_at dksX1_fewest_7 0 rfl rfl)
theorem dX1_fewest_163 : decode cX1_fewest 163 = .ok (.getfield 98, 3) := dk_180 0 98 (dk_at dksX1_fewest_7 1 rfl rfl)
theorem dX1_fewest_166 : decode cX1_fewest 166 = .ok (.iload 6, 2) := dk_21 6 (dk_at dksX1_fewest_7 4 rfl rfl)
theorem dX1_fewest_168 : decode cX1_fewest 168 = .ok (.iaload, 1) := dk_46 (dk_at dksX1_fewest_7 6 rfl rfl)
theorem dX1_fewest_169 : decode cX1_fewest 169 = .ok (.goto 11, 3) := dk_167 0 11 (dk_at dksX1_fewest_7 7 rfl rfl)
theorem dX1_fewest_172 : decode cX1_fewest 172 = .ok (.aload_n 0, 1) := dk_42 (dk_at dksX1_fewest_7 10 rfl rfl)
theorem dX1_fewest_173 : decode cX1_fewest 173 = .ok (.getfield 98, 3) := dk_180 0 98 (dk_at dksX1_fewest_7 11 rfl rfl)
theorem dX1_fewest_176 : decode cX1_fewest 176 = .ok (.iload 6, 2) := dk_21 6 (dk_at dksX1_fewest_7 14 rfl rfl)
theorem dX1_fewest_178 : decode cX1_fewest 178 = .ok (.iaload, 1) := dk_46 (dk_at dksX1_fewest_7 16 rfl rfl)
theorem dX1_fewest_179 : decode cX1_fewest 179 = .ok (.ineg, 1) := dk_116 (dk_at dksX1_fewest_7 17 rfl rfl)
theorem dX1_fewest_180 : decode cX1_fewest 180 = .ok (.invokevirtual 315, 3) := dk_182 1 59 (dk_at dksX1_fewest_7 18 rfl rfl)
theorem dX1_fewest_183 : decode cX1_fewest 183 = .ok (.iload 5, 2) := dk_21 5 (dk_at dksX1_fewest_7 21 rfl rfl)
theorem dX1_fewest_185 : decode cX1_fewest 185 = .ok (.aload_n 0, 1) := dk_42 (dk_at dksX1_fewest_7 23 rfl rfl)
theorem dX1_fewest_186 : decode cX1_fewest 186 = .ok (.getfield 98, 3) := dk_180 0 98 (dk_at dksX1_fewest_8 0 rfl rfl)
theorem dX1_fewest_189 : decode cX1_fewest 189 = .ok (.iload 6, 2) := dk_21 6 (dk_at dksX1_fewest_8 3 rfl rfl)
theorem dX1_fewest_191 : decode cX1_fewest 191 = .ok (.iaload, 1) := dk_46 (dk_at dksX1_fewest_8 5 rfl rfl)
theorem dX1_fewest_192 : decode cX1_fewest 192 = .ok (.iadd, 1) := dk_96 (dk_at dksX1_fewest_8 6 rfl rfl)
theorem dX1_fewest_193 : decode cX1_fewest 193 = .ok (.istore 5, 2) := dk_54 5 (dk_at dksX1_fewest_8 7 rfl rfl)
theorem dX1_fewest_195 : decode cX1_fewest 195 = .ok (.iinc 6 1, 3) := dk_132 6 1 (dk_at dksX1_fewest_8 9 rfl rfl)
theorem dX1_fewest_198 : decode cX1_fewest 198 = .ok (.goto (-143), 3) := dk_167 255 113 (dk_at dksX1_fewest_8 12 rfl rfl)
theorem dX1_fewest_201 : decode cX1_fewest 201 = .ok (.iload 5, 2) := dk_21 5 (dk_at dksX1_fewest_8 15 rfl rfl)
theorem dX1_fewest_203 : decode cX1_fewest 203 = .ok (.iload_n 2, 1) := dk_28 (dk_at dksX1_fewest_8 17 rfl rfl)
theorem dX1_fewest_204 : decode cX1_fewest 204 = .ok (.if_icmp .gt 49, 3) := dk_163 0 49 (dk_at dksX1_fewest_8 18 rfl rfl)
theorem dX1_fewest_207 : decode cX1_fewest 207 = .ok (.aload_n 0, 1) := dk_42 (dk_at dksX1_fewest_8 21 rfl rfl)
theorem dX1_fewest_208 : decode cX1_fewest 208 = .ok (.aload_n 0, 1) := dk_42 (dk_at dksX1_fewest_8 22 rfl rfl)
theorem dX1_fewest_209 : decode cX1_fewest 209 = .ok (.getfield 56, 3) := dk_180 0 56 (dk_at dksX1_fewest_9 0 rfl rfl)
theorem dX1_fewest_212 : decode cX1_fewest 212 = .ok (.invokevirtual 335, 3) := dk_182 1 79 (dk_at dksX1_fewest_9 3 rfl rfl)
theorem dX1_fewest_215 : decode cX1_fewest 215 = .ok (.iload_n 1, 1) := dk_27 (dk_at dksX1_fewest_9 6 rfl rfl)
theorem dX1_fewest_216 : decode cX1_fewest 216 = .ok (.if_icmp .ne 37, 3) := dk_160 0 37 (dk_at dksX1_fewest_9 7 rfl rfl)
theorem dX1_fewest_219 : decode cX1_fewest 219 = .ok (.iload 5, 2) := dk_21 5 (dk_at dksX1_fewest_9 10 rfl rfl)
theorem dX1_fewest_221 : decode cX1_fewest 221 = .ok (.iload_n 2, 1) := dk_28 (dk_at dksX1_fewest_9 12 rfl rfl)
theorem dX1_fewest_222 : decode cX1_fewest 222 = .ok (.if_icmp .ne 13, 3) := dk_160 0 13 (dk_at dksX1_fewest_9 13 rfl rfl)
theorem dX1_fewest_225 : decode cX1_fewest 225 = .ok (.aload_n 0, 1) := dk_42 (dk_at dksX1_fewest_9 16 rfl rfl)
theorem dX1_fewest_226 : decode cX1_fewest 226 = .ok (.invokevirtual 380, 3) := dk_182 1 124 (dk_at dksX1_fewest_9 17 rfl rfl)
theorem dX1_fewest_229 : decode cX1_fewest 229 = .ok (.ifCond .ne 6, 3) := dk_154 0 6 (dk_at dksX1_fewest_9 20 rfl rfl)
theorem dX1_fewest_232 : decode cX1_fewest 232 = .ok (.goto 21, 3) := dk_167 0 21 (dk_at dksX1_fewest_10 0 rfl rfl)
theorem dX1_fewest_235 : decode cX1_fewest 235 = .ok (.iload 5, 2) := dk_21 5 (dk_at dksX1_fewest_10 3 rfl rfl)
theorem dX1_fewest_237 : decode cX1_fewest 237 = .ok (.istore_n 2, 1) := dk_61 (dk_at dksX1_fewest_10 5 rfl rfl)
theorem dX1_fewest_238 : decode cX1_fewest 238 = .ok (.aload_n 0, 1) := dk_42 (dk_at dksX1_fewest_10 6 rfl rfl)
theorem dX1_fewest_239 : decode cX1_fewest 239 = .ok (.getfield 98, 3) := dk_180 0 98 (dk_at dksX1_fewest_10 7 rfl rfl)
theorem dX1_fewest_242 : decode cX1_fewest 242 = .ok (.iconst 0, 1) := dk_3 (dk_at dksX1_fewest_10 10 rfl rfl)
theorem dX1_fewest_243 : decode cX1_fewest 243 = .ok (.aload_n 0, 1) := dk_42 (dk_at dksX1_fewest_10 11 rfl rfl)
theorem dX1_fewest_244 : decode cX1_fewest 244 = .ok (.getfield 101, 3) := dk_180 0 101 (dk_at dksX1_fewest_10 12 rfl rfl)
theorem dX1_fewest_247 : decode cX1_fewest 247 = .ok (.iconst 0, 1) := dk_3 (dk_at dksX1_fewest_10 15 rfl rfl)
theorem dX1_fewest_248 : decode cX1_fewest 248 = .ok (.bipush 8, 2) := dk_16 8 (dk_at dksX1_fewest_10 16 rfl rfl)
theorem dX1_fewest_250 : decode cX1_fewest 250 = .ok (.invokestatic 186, 3) := dk_184 0 186 (dk_at dksX1_fewest_10 18 rfl rfl)
theorem dX1_fewest_253 : decode cX1_fewest 253 = .ok (.iinc 4 1, 3) := dk_132 4 1 (dk_at dksX1_fewest_10 21 rfl rfl)
theorem dX1_fewest_256 : decode cX1_fewest 256 = .ok (.goto (-236), 3) := dk_167 255 20 (dk_at dksX1_fewest_11 0 rfl rfl)
theorem dX1_fewest_259 : decode cX1_fewest 259 = .ok (.iload_n 2, 1) := dk_28 (dk_at dksX1_fewest_11 3 rfl rfl)
theorem dX1_fewest_260 : decode cX1_fewest 260 = .ok (.ldc_w 379, 3) := dk_19 1 123 (dk_at dksX1_fewest_11 4 rfl rfl)
theorem dX1_fewest_263 : decode cX1_fewest 263 = .ok (.if_icmp .ne 6, 3) := dk_160 0 6 (dk_at dksX1_fewest_11 7 rfl rfl)
theorem dX1_fewest_266 : decode cX1_fewest 266 = .ok (.bipush (-2), 2) := dk_16 254 (dk_at dksX1_fewest_11 10 rfl rfl)
theorem dX1_fewest_268 : decode cX1_fewest 268 = .ok (.ireturn, 1) := dk_172 (dk_at dksX1_fewest_11 12 rfl rfl)
theorem dX1_fewest_269 : decode cX1_fewest 269 = .ok (.aload_n 0, 1) := dk_42 (dk_at dksX1_fewest_11 13 rfl rfl)
theorem dX1_fewest_270 : decode cX1_fewest 270 = .ok (.iconst 0, 1) := dk_3 (dk_at dksX1_fewest_11 14 rfl rfl)
theorem dX1_fewest_271 : decode cX1_fewest 271 = .ok (.putfield 122, 3) := dk_181 0 122 (dk_at dksX1_fewest_11 15 rfl rfl)
theorem dX1_fewest_274 : decode cX1_fewest 274 = .ok (.iconst 0, 1) := dk_3 (dk_at dksX1_fewest_11 18 rfl rfl)
theorem dX1_fewest_275 : decode cX1_fewest 275 = .ok (.istore 4, 2) := dk_54 4 (dk_at dksX1_fewest_11 19 rfl rfl)
theorem dX1_fewest_277 : decode cX1_fewest 277 = .ok (.iload 4, 2) := dk_21 4 (dk_at dksX1_fewest_11 21 rfl rfl)
theorem dX1_fewest_279 : decode cX1_fewest 279 = .ok (.aload_n 0, 1) := dk_42 (dk_at dksX1_fewest_11 23 rfl rfl)
theorem dX1_fewest_280 : decode cX1_fewest 280 = .ok (.getfield 126, 3) := dk_180 0 126 (dk_at dksX1_fewest_12 0 rfl rfl)
theorem dX1_fewest_283 : decode cX1_fewest 283 = .ok (.if_icmp .ge 21, 3) := dk_162 0 21 (dk_at dksX1_fewest_12 3 rfl rfl)
theorem dX1_fewest_286 : decode cX1_fewest 286 = .ok (.aload_n 0, 1) := dk_42 (dk_at dksX1_fewest_12 6 rfl rfl)
theorem dX1_fewest_287 : decode cX1_fewest 287 = .ok (.aload_n 0, 1) := dk_42 (dk_at dksX1_fewest_12 7 rfl rfl)
theorem dX1_fewest_288 : decode cX1_fewest 288 = .ok (.getfield 101, 3) := dk_180 0 101 (dk_at dksX1_fewest_12 8 rfl rfl)
theorem dX1_fewest_291 : decode cX1_fewest 291 = .ok (.iload 4, 2) := dk_21 4 (dk_at dksX1_fewest_12 11 rfl rfl)
theorem dX1_fewest_293 : decode cX1_fewest 293 = .ok (.iaload, 1) := dk_46 (dk_at dksX1_fewest_12 13 rfl rfl)
theorem dX1_fewest_294 : decode cX1_fewest 294 = .ok (.i2l, 1) := dk_133 (dk_at dksX1_fewest_12 14 rfl rfl)
theorem dX1_fewest_295 : decode cX1_fewest 295 = .ok (.invokevirtual 331, 3) := dk_182 1 75 (dk_at dksX1_fewest_12 15 rfl rfl)
theorem dX1_fewest_298 : decode cX1_fewest 298 = .ok (.iinc 4 1, 3) := dk_132 4 1 (dk_at dksX1_fewest_12 18 rfl rfl)
theorem dX1_fewest_301 : decode cX1_fewest 301 = .ok (.goto (-24), 3) := dk_167 255 232 (dk_at dksX1_fewest_12 21 rfl rfl)
theorem dX1_fewest_304 : decode cX1_fewest 304 = .ok (.iload_n 2, 1) := dk_28 (dk_at dksX1_fewest_13 0 rfl rfl)
theorem dX1_fewest_305 : decode cX1_fewest 305 = .ok (.ireturn, 1) := dk_172 (dk_at dksX1_fewest_13 1 rfl rfl)
abbrev cX1_isLess : ByteArray := prog_1_method_47_code
def yX1_isLess : MethodName := ⟨RX1, "isLess", "()Z"⟩
def dkwX1_isLess_2 : List UInt8 := [132, 1, 1, 167, 255, 209, 3, 172]
abbrev dktX1_isLess_2 : List UInt8 := dkwX1_isLess_2 ++ []
def dkwX1_isLess_1 : List UInt8 := [159, 0, 24, 42, 180, 0, 98, 27, 46, 42, 180, 0, 101, 27, 46, 162, 0, 7, 4, 167, 0, 4, 3, 172]
abbrev dktX1_isLess_1 : List UInt8 := dkwX1_isLess_1 ++ dktX1_isLess_2
def dkwX1_isLess_0 : List UInt8 := [3, 60, 27, 42, 180, 0, 126, 162, 0, 45, 42, 180, 0, 98, 27, 46, 42, 180, 0, 101, 27, 46]
abbrev dktX1_isLess_0 : List UInt8 := dkwX1_isLess_0 ++ dktX1_isLess_1
theorem dksX1_isLess_0 : cX1_isLess.data.toList.drop 0 = dktX1_isLess_0 := by decide +kernel
theorem dksX1_isLess_1 : cX1_isLess.data.toList.drop 22 = dktX1_isLess_1 := dk_seg dksX1_isLess_0 22 rfl rfl
theorem dksX1_isLess_2 : cX1_isLess.data.toList.drop 46 = dktX1_isLess_2 := dk_seg dksX1_isLess_1 24 rfl rfl
theorem dX1_isLess_0 : decode cX1_isLess 0 = .ok (.iconst 0, 1) := dk_3 (dk_at dksX1_isLess_0 0 rfl rfl)
theorem dX1_isLess_1 : decode cX1_isLess 1 = .ok (.istore_n 1, 1) := dk_60 (dk_at dksX1_isLess_0 1 rfl rfl)
theorem dX1_isLess_2 : decode cX1_isLess 2 = .ok (.iload_n 1, 1) := dk_27 (dk_at dksX1_isLess_0 2 rfl rfl)
theorem dX1_isLess_3 : decode cX1_isLess 3 = .ok (.aload_n 0, 1) := dk_42 (dk_at dksX1_isLess_0 3 rfl rfl)
theorem dX1_isLess_4 : decode cX1_isLess 4 = .ok (.getfield 126, 3) := dk_180 0 126 (dk_at dksX1_isLess_0 4 rfl rfl)
theorem dX1_isLess_7 : decode cX1_isLess 7 = .ok (.if_icmp .ge 45, 3) := dk_162 0 45 (dk_at dksX1_isLess_0 7 rfl rfl)
theorem dX1_isLess_10 : decode cX1_isLess 10 = .ok (.aload_n 0, 1) := dk_42 (dk_at dksX1_isLess_0 10 rfl rfl)
theorem dX1_isLess_11 : decode cX1_isLess 11 = .ok (.getfield 98, 3) := dk_180 0 98 (dk_at dksX1_isLess_0 11 rfl rfl)
theorem dX1_isLess_14 : decode cX1_isLess 14 = .ok (.iload_n 1, 1) := dk_27 (dk_at dksX1_isLess_0 14 rfl rfl)
theorem dX1_isLess_15 : decode cX1_isLess 15 = .ok (.iaload, 1) := dk_46 (dk_at dksX1_isLess_0 15 rfl rfl)
theorem dX1_isLess_16 : decode cX1_isLess 16 = .ok (.aload_n 0, 1) := dk_42 (dk_at dksX1_isLess_0 16 rfl rfl)
theorem dX1_isLess_17 : decode cX1_isLess 17 = .ok (.getfield 101, 3) := dk_180 0 101 (dk_at dksX1_isLess_0 17 rfl rfl)
theorem dX1_isLess_20 : decode cX1_isLess 20 = .ok (.iload_n 1, 1) := dk_27 (dk_at dksX1_isLess_0 20 rfl rfl)
theorem dX1_isLess_21 : decode cX1_isLess 21 = .ok (.iaload, 1) := dk_46 (dk_at dksX1_isLess_0 21 rfl rfl)
theorem dX1_isLess_22 : decode cX1_isLess 22 = .ok (.if_icmp .eq 24, 3) := dk_159 0 24 (dk_at dksX1_isLess_1 0 rfl rfl)
theorem dX1_isLess_25 : decode cX1_isLess 25 = .ok (.aload_n 0, 1) := dk_42 (dk_at dksX1_isLess_1 3 rfl rfl)
theorem dX1_isLess_26 : decode cX1_isLess 26 = .ok (.getfield 98, 3) := dk_180 0 98 (dk_at dksX1_isLess_1 4 rfl rfl)
theorem dX1_isLess_29 : decode cX1_isLess 29 = .ok (.iload_n 1, 1) := dk_27 (dk_at dksX1_isLess_1 7 rfl rfl)
theorem dX1_isLess_30 : decode cX1_isLess 30 = .ok (.iaload, 1) := dk_46 (dk_at dksX1_isLess_1 8 rfl rfl)
theorem dX1_isLess_31 : decode cX1_isLess 31 = .ok (.aload_n 0, 1) := dk_42 (dk_at dksX1_isLess_1 9 rfl rfl)
theorem dX1_isLess_32 : decode cX1_isLess 32 = .ok (.getfield 101, 3) := dk_180 0 101 (dk_at dksX1_isLess_1 10 rfl rfl)
theorem dX1_isLess_35 : decode cX1_isLess 35 = .ok (.iload_n 1, 1) := dk_27 (dk_at dksX1_isLess_1 13 rfl rfl)
theorem dX1_isLess_36 : decode cX1_isLess 36 = .ok (.iaload, 1) := dk_46 (dk_at dksX1_isLess_1 14 rfl rfl)
theorem dX1_isLess_37 : decode cX1_isLess 37 = .ok (.if_icmp .ge 7, 3) := dk_162 0 7 (dk_at dksX1_isLess_1 15 rfl rfl)
theorem dX1_isLess_40 : decode cX1_isLess 40 = .ok (.iconst 1, 1) := dk_4 (dk_at dksX1_isLess_1 18 rfl rfl)
theorem dX1_isLess_41 : decode cX1_isLess 41 = .ok (.goto 4, 3) := dk_167 0 4 (dk_at dksX1_isLess_1 19 rfl rfl)
theorem dX1_isLess_44 : decode cX1_isLess 44 = .ok (.iconst 0, 1) := dk_3 (dk_at dksX1_isLess_1 22 rfl rfl)
theorem dX1_isLess_45 : decode cX1_isLess 45 = .ok (.ireturn, 1) := dk_172 (dk_at dksX1_isLess_1 23 rfl rfl)
theorem dX1_isLess_46 : decode cX1_isLess 46 = .ok (.iinc 1 1, 3) := dk_132 1 1 (dk_at dksX1_isLess_2 0 rfl rfl)
theorem dX1_isLess_49 : decode cX1_isLess 49 = .ok (.goto (-47), 3) := dk_167 255 209 (dk_at dksX1_isLess_2 3 rfl rfl)
theorem dX1_isLess_52 : decode cX1_isLess 52 = .ok (.iconst 0, 1) := dk_3 (dk_at dksX1_isLess_2 6 rfl rfl)
theorem dX1_isLess_53 : decode cX1_isLess 53 = .ok (.ireturn, 1) := dk_172 (dk_at dksX1_isLess_2 7 rfl rfl)
abbrev cX1_kindness : ByteArray := prog_1_method_50_code
def yX1_kindness : MethodName := ⟨RX1, "kindness", "()I"⟩
def dkwX1_kindness_0 : List UInt8 := [42, 3, 182, 1, 128, 172]
abbrev dktX1_kindness_0 : List UInt8 := dkwX1_kindness_0 ++ []
theorem dksX1_kindness_0 : cX1_kindness.data.toList.drop 0 = dktX1_kindness_0 := by decide +kernel
theorem dX1_kindness_0 : decode cX1_kindness 0 = .ok (.aload_n 0, 1) := dk_42 (dk_at dksX1_kindness_0 0 rfl rfl)
theorem dX1_kindness_1 : decode cX1_kindness 1 = .ok (.iconst 0, 1) := dk_3 (dk_at dksX1_kindness_0 1 rfl rfl)
theorem dX1_kindness_2 : decode cX1_kindness 2 = .ok (.invokevirtual 384, 3) := dk_182 1 128 (dk_at dksX1_kindness_0 2 rfl rfl)
theorem dX1_kindness_5 : decode cX1_kindness 5 = .ok (.ireturn, 1) := dk_172 (dk_at dksX1_kindness_0 5 rfl rfl)
abbrev cX1_heads : ByteArray := prog_1_method_51_code
def yX1_heads : MethodName := ⟨RX1, "heads", "()I"⟩
def dkwX1_heads_3 : List UInt8 := [60, 132, 2, 1, 167, 255, 200, 42, 3, 181, 0, 122, 42, 27, 184, 0, 229, 133, 182, 1, 75, 27, 172]
abbrev dktX1_heads_3 : List UInt8 := dkwX1_heads_3 ++ []
def dkwX1_heads_2 : List UInt8 := [180, 0, 49, 3, 4, 28, 120, 182, 0, 240, 182, 0, 244, 154, 0, 9, 4, 28, 120, 167, 0, 4, 3, 128]
abbrev dktX1_heads_2 : List UInt8 := dkwX1_heads_2 ++ dktX1_heads_3
def dkwX1_heads_1 : List UInt8 := [162, 0, 54, 27, 42, 180, 0, 49, 180, 0, 172, 28, 46, 154, 0, 32, 42, 42, 180, 0, 49, 42, 42]
abbrev dktX1_heads_1 : List UInt8 := dkwX1_heads_1 ++ dktX1_heads_2
def dkwX1_heads_0 : List UInt8 := [42, 42, 180, 0, 49, 182, 1, 79, 154, 0, 6, 16, 254, 172, 3, 60, 3, 61, 28, 42, 180, 0, 126]
abbrev dktX1_heads_0 : List UInt8 := dkwX1_heads_0 ++ dktX1_heads_1
theorem dksX1_heads_0 : cX1_heads.data.toList.drop 0 = dktX1_heads_0 := by decide +kernel
theorem dksX1_heads_1 : cX1_heads.data.toList.drop 23 = dktX1_heads_1 := dk_seg dksX1_heads_0 23 rfl rfl
theorem dksX1_heads_2 : cX1_heads.data.toList.drop 46 = dktX1_heads_2 := dk_seg dksX1_heads_1 23 rfl rfl
theorem dksX1_heads_3 : cX1_heads.data.toList.drop 70 = dktX1_heads_3 := dk_seg dksX1_heads_2 24 rfl rfl
theorem dX1_heads_0 : decode cX1_heads 0 = .ok (.aload_n 0, 1) := dk_42 (dk_at dksX1_heads_0 0 rfl rfl)
theorem dX1_heads_1 : decode cX1_heads 1 = .ok (.aload_n 0, 1) := dk_42 (dk_at dksX1_heads_0 1 rfl rfl)
theorem dX1_heads_2 : decode cX1_heads 2 = .ok (.getfield 49, 3) := dk_180 0 49 (dk_at dksX1_heads_0 2 rfl rfl)
theorem dX1_heads_5 : decode cX1_heads 5 = .ok (.invokevirtual 335, 3) := dk_182 1 79 (dk_at dksX1_heads_0 5 rfl rfl)
theorem dX1_heads_8 : decode cX1_heads 8 = .ok (.ifCond .ne 6, 3) := dk_154 0 6 (dk_at dksX1_heads_0 8 rfl rfl)
theorem dX1_heads_11 : decode cX1_heads 11 = .ok (.bipush (-2), 2) := dk_16 254 (dk_at dksX1_heads_0 11 rfl rfl)
theorem dX1_heads_13 : decode cX1_heads 13 = .ok (.ireturn, 1) := dk_172 (dk_at dksX1_heads_0 13 rfl rfl)
theorem dX1_heads_14 : decode cX1_heads 14 = .ok (.iconst 0, 1) := dk_3 (dk_at dksX1_heads_0 14 rfl rfl)
theorem dX1_heads_15 : decode cX1_heads 15 = .ok (.istore_n 1, 1) := dk_60 (dk_at dksX1_heads_0 15 rfl rfl)
theorem dX1_heads_16 : decode cX1_heads 16 = .ok (.iconst 0, 1) := dk_3 (dk_at dksX1_heads_0 16 rfl rfl)
theorem dX1_heads_17 : decode cX1_heads 17 = .ok (.istore_n 2, 1) := dk_61 (dk_at dksX1_heads_0 17 rfl rfl)
theorem dX1_heads_18 : decode cX1_heads 18 = .ok (.iload_n 2, 1) := dk_28 (dk_at dksX1_heads_0 18 rfl rfl)
theorem dX1_heads_19 : decode cX1_heads 19 = .ok (.aload_n 0, 1) := dk_42 (dk_at dksX1_heads_0 19 rfl rfl)
theorem dX1_heads_20 : decode cX1_heads 20 = .ok (.getfield 126, 3) := dk_180 0 126 (dk_at dksX1_heads_0 20 rfl rfl)
theorem dX1_heads_23 : decode cX1_heads 23 = .ok (.if_icmp .ge 54, 3) := dk_162 0 54 (dk_at dksX1_heads_1 0 rfl rfl)
theorem dX1_heads_26 : decode cX1_heads 26 = .ok (.iload_n 1, 1) := dk_27 (dk_at dksX1_heads_1 3 rfl rfl)
theorem dX1_heads_27 : decode cX1_heads 27 = .ok (.aload_n 0, 1) := dk_42 (dk_at dksX1_heads_1 4 rfl rfl)
theorem dX1_heads_28 : decode cX1_heads 28 = .ok (.getfield 49, 3) := dk_180 0 49 (dk_at dksX1_heads_1 5 rfl rfl)
theorem dX1_heads_31 : decode cX1_heads 31 = .ok (.getfield 172, 3) := dk_180 0 172 (dk_at dksX1_heads_1 8 rfl rfl)
theorem dX1_heads_34 : decode cX1_heads 34 = .ok (.iload_n 2, 1) := dk_28 (dk_at dksX1_heads_1 11 rfl rfl)
theorem dX1_heads_35 : decode cX1_heads 35 = .ok (.iaload, 1) := dk_46 (dk_at dksX1_heads_1 12 rfl rfl)
theorem dX1_heads_36 : decode cX1_heads 36 = .ok (.ifCond .ne 32, 3) := dk_154 0 32 (dk_at dksX1_heads_1 13 rfl rfl)
theorem dX1_heads_39 : decode cX1_heads 39 = .ok (.aload_n 0, 1) := dk_42 (dk_at dksX1_heads_1 16 rfl rfl)
theorem dX1_heads_40 : decode cX1_heads 40 = .ok (.aload_n 0, 1) := dk_42 (dk_at dksX1_heads_1 17 rfl rfl)
theorem dX1_heads_41 : decode cX1_heads 41 = .ok (.getfield 49, 3) := dk_180 0 49 (dk_at dksX1_heads_1 18 rfl rfl)
theorem dX1_heads_44 : decode cX1_heads 44 = .ok (.aload_n 0, 1) := dk_42 (dk_at dksX1_heads_1 21 rfl rfl)
theorem dX1_heads_45 : decode cX1_heads 45 = .ok (.aload_n 0, 1) := dk_42 (dk_at dksX1_heads_1 22 rfl rfl)
theorem dX1_heads_46 : decode cX1_heads 46 = .ok (.getfield 49, 3) := dk_180 0 49 (dk_at dksX1_heads_2 0 rfl rfl)
theorem dX1_heads_49 : decode cX1_heads 49 = .ok (.iconst 0, 1) := dk_3 (dk_at dksX1_heads_2 3 rfl rfl)
theorem dX1_heads_50 : decode cX1_heads 50 = .ok (.iconst 1, 1) := dk_4 (dk_at dksX1_heads_2 4 rfl rfl)
theorem dX1_heads_51 : decode cX1_heads 51 = .ok (.iload_n 2, 1) := dk_28 (dk_at dksX1_heads_2 5 rfl rfl)
theorem dX1_heads_52 : decode cX1_heads 52 = .ok (.ishl, 1) := dk_120 (dk_at dksX1_heads_2 6 rfl rfl)
theorem dX1_heads_53 : decode cX1_heads 53 = .ok (.invokevirtual 240, 3) := dk_182 0 240 (dk_at dksX1_heads_2 7 rfl rfl)
theorem dX1_heads_56 : decode cX1_heads 56 = .ok (.invokevirtual 244, 3) := dk_182 0 244 (dk_at dksX1_heads_2 10 rfl rfl)
theorem dX1_heads_59 : decode cX1_heads 59 = .ok (.ifCond .ne 9, 3) := dk_154 0 9 (dk_at dksX1_heads_2 13 rfl rfl)
theorem dX1_heads_62 : decode cX1_heads 62 = .ok (.iconst 1, 1) := dk_4 (dk_at dksX1_heads_2 16 rfl rfl)
theorem dX1_heads_63 : decode cX1_heads 63 = .ok (.iload_n 2, 1) := dk_28 (dk_at dksX1_heads_2 17 rfl rfl)
theorem dX1_heads_64 : decode cX1_heads 64 = .ok (.ishl, 1) := dk_120 (dk_at dksX1_heads_2 18 rfl rfl)
theorem dX1_heads_65 : decode cX1_heads 65 = .ok (.goto 4, 3) := dk_167 0 4 (dk_at dksX1_heads_2 19 rfl rfl)
theorem dX1_heads_68 : decode cX1_heads 68 = .ok (.iconst 0, 1) := dk_3 (dk_at dksX1_heads_2 22 rfl rfl)
theorem dX1_heads_69 : decode cX1_heads 69 = .ok (.ior, 1) := dk_128 (dk_at dksX1_heads_2 23 rfl rfl)
theorem dX1_heads_70 : decode cX1_heads 70 = .ok (.istore_n 1, 1) := dk_60 (dk_at dksX1_heads_3 0 rfl rfl)
theorem dX1_heads_71 : decode cX1_heads 71 = .ok (.iinc 2 1, 3) := dk_132 2 1 (dk_at dksX1_heads_3 1 rfl rfl)
theorem dX1_heads_74 : decode cX1_heads 74 = .ok (.goto (-56), 3) := dk_167 255 200 (dk_at dksX1_heads_3 4 rfl rfl)
theorem dX1_heads_77 : decode cX1_heads 77 = .ok (.aload_n 0, 1) := dk_42 (dk_at dksX1_heads_3 7 rfl rfl)
theorem dX1_heads_78 : decode cX1_heads 78 = .ok (.iconst 0, 1) := dk_3 (dk_at dksX1_heads_3 8 rfl rfl)
theorem dX1_heads_79 : decode cX1_heads 79 = .ok (.putfield 122, 3) := dk_181 0 122 (dk_at dksX1_heads_3 9 rfl rfl)
theorem dX1_heads_82 : decode cX1_heads 82 = .ok (.aload_n 0, 1) := dk_42 (dk_at dksX1_heads_3 12 rfl rfl)
theorem dX1_heads_83 : decode cX1_heads 83 = .ok (.iload_n 1, 1) := dk_27 (dk_at dksX1_heads_3 13 rfl rfl)
theorem dX1_heads_84 : decode cX1_heads 84 = .ok (.invokestatic 229, 3) := dk_184 0 229 (dk_at dksX1_heads_3 14 rfl rfl)
theorem dX1_heads_87 : decode cX1_heads 87 = .ok (.i2l, 1) := dk_133 (dk_at dksX1_heads_3 17 rfl rfl)
theorem dX1_heads_88 : decode cX1_heads 88 = .ok (.invokevirtual 331, 3) := dk_182 1 75 (dk_at dksX1_heads_3 18 rfl rfl)
theorem dX1_heads_91 : decode cX1_heads 91 = .ok (.iload_n 1, 1) := dk_27 (dk_at dksX1_heads_3 21 rfl rfl)
theorem dX1_heads_92 : decode cX1_heads 92 = .ok (.ireturn, 1) := dk_172 (dk_at dksX1_heads_3 22 rfl rfl)
abbrev cX1_ahead : ByteArray := prog_1_method_52_code
def yX1_ahead : MethodName := ⟨RX1, "ahead", "(I)I"⟩
def dkwX1_ahead_2 : List UInt8 := [180, 1, 132, 133, 182, 1, 75, 42, 28, 133, 182, 1, 75, 42, 180, 0, 56, 180, 1, 46, 172]
abbrev dktX1_ahead_2 : List UInt8 := dkwX1_ahead_2 ++ []
def dkwX1_ahead_1 : List UInt8 := [182, 1, 37, 42, 42, 180, 0, 56, 27, 182, 1, 72, 61, 42, 3, 181, 0, 122, 42, 42, 180, 0, 56]
abbrev dktX1_ahead_1 : List UInt8 := dkwX1_ahead_1 ++ dktX1_ahead_2
def dkwX1_ahead_0 : List UInt8 := [27, 133, 9, 20, 1, 81, 184, 0, 129, 154, 0, 5, 2, 172, 42, 180, 0, 56, 42, 180, 0, 49]
abbrev dktX1_ahead_0 : List UInt8 := dkwX1_ahead_0 ++ dktX1_ahead_1
theorem dksX1_ahead_0 : cX1_ahead.data.toList.drop 0 = dktX1_ahead_0 := by decide +kernel
theorem dksX1_ahead_1 : cX1_ahead.data.toList.drop 22 = dktX1_ahead_1 := dk_seg dksX1_ahead_0 22 rfl rfl
theorem dksX1_ahead_2 : cX1_ahead.data.toList.drop 45 = dktX1_ahead_2 := dk_seg dksX1_ahead_1 23 rfl rfl
theorem dX1_ahead_0 : decode cX1_ahead 0 = .ok (.iload_n 1, 1) := dk_27 (dk_at dksX1_ahead_0 0 rfl rfl)
theorem dX1_ahead_1 : decode cX1_ahead 1 = .ok (.i2l, 1) := dk_133 (dk_at dksX1_ahead_0 1 rfl rfl)
theorem dX1_ahead_2 : decode cX1_ahead 2 = .ok (.lconst 0, 1) := dk_9 (dk_at dksX1_ahead_0 2 rfl rfl)
theorem dX1_ahead_3 : decode cX1_ahead 3 = .ok (.ldc2_w 337, 3) := dk_20 1 81 (dk_at dksX1_ahead_0 3 rfl rfl)
theorem dX1_ahead_6 : decode cX1_ahead 6 = .ok (.invokestatic 129, 3) := dk_184 0 129 (dk_at dksX1_ahead_0 6 rfl rfl)
theorem dX1_ahead_9 : decode cX1_ahead 9 = .ok (.ifCond .ne 5, 3) := dk_154 0 5 (dk_at dksX1_ahead_0 9 rfl rfl)
theorem dX1_ahead_12 : decode cX1_ahead 12 = .ok (.iconst (-1), 1) := dk_2 (dk_at dksX1_ahead_0 12 rfl rfl)
theorem dX1_ahead_13 : decode cX1_ahead 13 = .ok (.ireturn, 1) := dk_172 (dk_at dksX1_ahead_0 13 rfl rfl)
theorem dX1_ahead_14 : decode cX1_ahead 14 = .ok (.aload_n 0, 1) := dk_42 (dk_at dksX1_ahead_0 14 rfl rfl)
theorem dX1_ahead_15 : decode cX1_ahead 15 = .ok (.getfield 56, 3) := dk_180 0 56 (dk_at dksX1_ahead_0 15 rfl rfl)
theorem dX1_ahead_18 : decode cX1_ahead 18 = .ok (.aload_n 0, 1) := dk_42 (dk_at dksX1_ahead_0 18 rfl rfl)
theorem dX1_ahead_19 : decode cX1_ahead 19 = .ok (.getfield 49, 3) := dk_180 0 49 (dk_at dksX1_ahead_0 19 rfl rfl)
theorem dX1_ahead_22 : decode cX1_ahead 22 = .ok (.invokevirtual 293, 3) := dk_182 1 37 (dk_at dksX1_ahead_1 0 rfl rfl)
theorem dX1_ahead_25 : decode cX1_ahead 25 = .ok (.aload_n 0, 1) := dk_42 (dk_at dksX1_ahead_1 3 rfl rfl)
theorem dX1_ahead_26 : decode cX1_ahead 26 = .ok (.aload_n 0, 1) := dk_42 (dk_at dksX1_ahead_1 4 rfl rfl)
theorem dX1_ahead_27 : decode cX1_ahead 27 = .ok (.getfield 56, 3) := dk_180 0 56 (dk_at dksX1_ahead_1 5 rfl rfl)
theorem dX1_ahead_30 : decode cX1_ahead 30 = .ok (.iload_n 1, 1) := dk_27 (dk_at dksX1_ahead_1 8 rfl rfl)
theorem dX1_ahead_31 : decode cX1_ahead 31 = .ok (.invokevirtual 328, 3) := dk_182 1 72 (dk_at dksX1_ahead_1 9 rfl rfl)
theorem dX1_ahead_34 : decode cX1_ahead 34 = .ok (.istore_n 2, 1) := dk_61 (dk_at dksX1_ahead_1 12 rfl rfl)
theorem dX1_ahead_35 : decode cX1_ahead 35 = .ok (.aload_n 0, 1) := dk_42 (dk_at dksX1_ahead_1 13 rfl rfl)
theorem dX1_ahead_36 : decode cX1_ahead 36 = .ok (.iconst 0, 1) := dk_3 (dk_at dksX1_ahead_1 14 rfl rfl)
theorem dX1_ahead_37 : decode cX1_ahead 37 = .ok (.putfield 122, 3) := dk_181 0 122 (dk_at dksX1_ahead_1 15 rfl rfl)
theorem dX1_ahead_40 : decode cX1_ahead 40 = .ok (.aload_n 0, 1) := dk_42 (dk_at dksX1_ahead_1 18 rfl rfl)
theorem dX1_ahead_41 : decode cX1_ahead 41 = .ok (.aload_n 0, 1) := dk_42 (dk_at dksX1_ahead_1 19 rfl rfl)
theorem dX1_ahead_42 : decode cX1_ahead 42 = .ok (.getfield 56, 3) := dk_180 0 56 (dk_at dksX1_ahead_1 20 rfl rfl)
theorem dX1_ahead_45 : decode cX1_ahead 45 = .ok (.getfield 388, 3) := dk_180 1 132 (dk_at dksX1_ahead_2 0 rfl rfl)
theorem dX1_ahead_48 : decode cX1_ahead 48 = .ok (.i2l, 1) := dk_133 (dk_at dksX1_ahead_2 3 rfl rfl)
theorem dX1_ahead_49 : decode cX1_ahead 49 = .ok (.invokevirtual 331, 3) := dk_182 1 75 (dk_at dksX1_ahead_2 4 rfl rfl)
theorem dX1_ahead_52 : decode cX1_ahead 52 = .ok (.aload_n 0, 1) := dk_42 (dk_at dksX1_ahead_2 7 rfl rfl)
theorem dX1_ahead_53 : decode cX1_ahead 53 = .ok (.iload_n 2, 1) := dk_28 (dk_at dksX1_ahead_2 8 rfl rfl)
theorem dX1_ahead_54 : decode cX1_ahead 54 = .ok (.i2l, 1) := dk_133 (dk_at dksX1_ahead_2 9 rfl rfl)
theorem dX1_ahead_55 : decode cX1_ahead 55 = .ok (.invokevirtual 331, 3) := dk_182 1 75 (dk_at dksX1_ahead_2 10 rfl rfl)
theorem dX1_ahead_58 : decode cX1_ahead 58 = .ok (.aload_n 0, 1) := dk_42 (dk_at dksX1_ahead_2 13 rfl rfl)
theorem dX1_ahead_59 : decode cX1_ahead 59 = .ok (.getfield 56, 3) := dk_180 0 56 (dk_at dksX1_ahead_2 14 rfl rfl)
theorem dX1_ahead_62 : decode cX1_ahead 62 = .ok (.getfield 302, 3) := dk_180 1 46 (dk_at dksX1_ahead_2 17 rfl rfl)
theorem dX1_ahead_65 : decode cX1_ahead 65 = .ok (.ireturn, 1) := dk_172 (dk_at dksX1_ahead_2 20 rfl rfl)
abbrev cX1_lasts : ByteArray := prog_1_method_53_code
def yX1_lasts : MethodName := ⟨RX1, "lasts", "()I"⟩
def dkwX1_lasts_2 : List UInt8 := [28, 133, 182, 1, 75, 27, 172, 132, 1, 1, 167, 255, 212, 16, 254, 172]
abbrev dktX1_lasts_2 : List UInt8 := dkwX1_lasts_2 ++ []
def dkwX1_lasts_1 : List UInt8 := [180, 1, 132, 61, 42, 42, 180, 0, 56, 182, 1, 66, 153, 0, 6, 167, 0, 16, 42, 3, 181, 0, 122, 42]
abbrev dktX1_lasts_1 : List UInt8 := dkwX1_lasts_1 ++ dktX1_lasts_2
def dkwX1_lasts_0 : List UInt8 := [42, 180, 0, 56, 42, 180, 0, 49, 182, 1, 37, 3, 60, 27, 16, 99, 162, 0, 44, 42, 180, 0, 56]
abbrev dktX1_lasts_0 : List UInt8 := dkwX1_lasts_0 ++ dktX1_lasts_1
theorem dksX1_lasts_0 : cX1_lasts.data.toList.drop 0 = dktX1_lasts_0 := by decide +kernel
theorem dksX1_lasts_1 : cX1_lasts.data.toList.drop 23 = dktX1_lasts_1 := dk_seg dksX1_lasts_0 23 rfl rfl
theorem dksX1_lasts_2 : cX1_lasts.data.toList.drop 47 = dktX1_lasts_2 := dk_seg dksX1_lasts_1 24 rfl rfl
theorem dX1_lasts_0 : decode cX1_lasts 0 = .ok (.aload_n 0, 1) := dk_42 (dk_at dksX1_lasts_0 0 rfl rfl)
theorem dX1_lasts_1 : decode cX1_lasts 1 = .ok (.getfield 56, 3) := dk_180 0 56 (dk_at dksX1_lasts_0 1 rfl rfl)
theorem dX1_lasts_4 : decode cX1_lasts 4 = .ok (.aload_n 0, 1) := dk_42 (dk_at dksX1_lasts_0 4 rfl rfl)
theorem dX1_lasts_5 : decode cX1_lasts 5 = .ok (.getfield 49, 3) := dk_180 0 49 (dk_at dksX1_lasts_0 5 rfl rfl)
theorem dX1_lasts_8 : decode cX1_lasts 8 = .ok (.invokevirtual 293, 3) := dk_182 1 37 (dk_at dksX1_lasts_0 8 rfl rfl)
theorem dX1_lasts_11 : decode cX1_lasts 11 = .ok (.iconst 0, 1) := dk_3 (dk_at dksX1_lasts_0 11 rfl rfl)
theorem dX1_lasts_12 : decode cX1_lasts 12 = .ok (.istore_n 1, 1) := dk_60 (dk_at dksX1_lasts_0 12 rfl rfl)
theorem dX1_lasts_13 : decode cX1_lasts 13 = .ok (.iload_n 1, 1) := dk_27 (dk_at dksX1_lasts_0 13 rfl rfl)
theorem dX1_lasts_14 : decode cX1_lasts 14 = .ok (.bipush 99, 2) := dk_16 99 (dk_at dksX1_lasts_0 14 rfl rfl)
theorem dX1_lasts_16 : decode cX1_lasts 16 = .ok (.if_icmp .ge 44, 3) := dk_162 0 44 (dk_at dksX1_lasts_0 16 rfl rfl)
theorem dX1_lasts_19 : decode cX1_lasts 19 = .ok (.aload_n 0, 1) := dk_42 (dk_at dksX1_lasts_0 19 rfl rfl)
theorem dX1_lasts_20 : decode cX1_lasts 20 = .ok (.getfield 56, 3) := dk_180 0 56 (dk_at dksX1_lasts_0 20 rfl rfl)
theorem dX1_lasts_23 : decode cX1_lasts 23 = .ok (.getfield 388, 3) := dk_180 1 132 (dk_at dksX1_lasts_1 0 rfl rfl)
theorem dX1_lasts_26 : decode cX1_lasts 26 = .ok (.istore_n 2, 1) := dk_61 (dk_at dksX1_lasts_1 3 rfl rfl)
theorem dX1_lasts_27 : decode cX1_lasts 27 = .ok (.aload_n 0, 1) := dk_42 (dk_at dksX1_lasts_1 4 rfl rfl)
theorem dX1_lasts_28 : decode cX1_lasts 28 = .ok (.aload_n 0, 1) := dk_42 (dk_at dksX1_lasts_1 5 rfl rfl)
theorem dX1_lasts_29 : decode cX1_lasts 29 = .ok (.getfield 56, 3) := dk_180 0 56 (dk_at dksX1_lasts_1 6 rfl rfl)
theorem dX1_lasts_32 : decode cX1_lasts 32 = .ok (.invokevirtual 322, 3) := dk_182 1 66 (dk_at dksX1_lasts_1 9 rfl rfl)
theorem dX1_lasts_35 : decode cX1_lasts 35 = .ok (.ifCond .eq 6, 3) := dk_153 0 6 (dk_at dksX1_lasts_1 12 rfl rfl)
theorem dX1_lasts_38 : decode cX1_lasts 38 = .ok (.goto 16, 3) := dk_167 0 16 (dk_at dksX1_lasts_1 15 rfl rfl)
theorem dX1_lasts_41 : decode cX1_lasts 41 = .ok (.aload_n 0, 1) := dk_42 (dk_at dksX1_lasts_1 18 rfl rfl)
theorem dX1_lasts_42 : decode cX1_lasts 42 = .ok (.iconst 0, 1) := dk_3 (dk_at dksX1_lasts_1 19 rfl rfl)
theorem dX1_lasts_43 : decode cX1_lasts 43 = .ok (.putfield 122, 3) := dk_181 0 122 (dk_at dksX1_lasts_1 20 rfl rfl)
theorem dX1_lasts_46 : decode cX1_lasts 46 = .ok (.aload_n 0, 1) := dk_42 (dk_at dksX1_lasts_1 23 rfl rfl)
theorem dX1_lasts_47 : decode cX1_lasts 47 = .ok (.iload_n 2, 1) := dk_28 (dk_at dksX1_lasts_2 0 rfl rfl)
theorem dX1_lasts_48 : decode cX1_lasts 48 = .ok (.i2l, 1) := dk_133 (dk_at dksX1_lasts_2 1 rfl rfl)
theorem dX1_lasts_49 : decode cX1_lasts 49 = .ok (.invokevirtual 331, 3) := dk_182 1 75 (dk_at dksX1_lasts_2 2 rfl rfl)
theorem dX1_lasts_52 : decode cX1_lasts 52 = .ok (.iload_n 1, 1) := dk_27 (dk_at dksX1_lasts_2 5 rfl rfl)
theorem dX1_lasts_53 : decode cX1_lasts 53 = .ok (.ireturn, 1) := dk_172 (dk_at dksX1_lasts_2 6 rfl rfl)
theorem dX1_lasts_54 : decode cX1_lasts 54 = .ok (.iinc 1 1, 3) := dk_132 1 1 (dk_at dksX1_lasts_2 7 rfl rfl)
theorem dX1_lasts_57 : decode cX1_lasts 57 = .ok (.goto (-44), 3) := dk_167 255 212 (dk_at dksX1_lasts_2 10 rfl rfl)
theorem dX1_lasts_60 : decode cX1_lasts 60 = .ok (.bipush (-2), 2) := dk_16 254 (dk_at dksX1_lasts_2 13 rfl rfl)
theorem dX1_lasts_62 : decode cX1_lasts 62 = .ok (.ireturn, 1) := dk_172 (dk_at dksX1_lasts_2 15 rfl rfl)
abbrev cX1_most : ByteArray := prog_1_method_55_code
def yX1_most : MethodName := ⟨RX1, "most", "(I)I"⟩
def dkwX1_most_5 : List UInt8 := [180, 1, 46, 133, 182, 1, 75, 42, 42, 180, 0, 59, 180, 1, 132, 133, 182, 1, 75, 28, 172]
abbrev dktX1_most_5 : List UInt8 := dkwX1_most_5 ++ []
def dkwX1_most_4 : List UInt8 := [180, 0, 56, 182, 1, 37, 132, 3, 1, 167, 255, 180, 42, 3, 181, 0, 122, 42, 42, 180, 0, 59]
abbrev dktX1_most_4 : List UInt8 := dkwX1_most_4 ++ dktX1_most_5
def dkwX1_most_3 : List UInt8 := [180, 1, 46, 42, 180, 0, 59, 180, 1, 46, 163, 0, 6, 167, 0, 16, 29, 61, 42, 180, 0, 59, 42]
abbrev dktX1_most_3 : List UInt8 := dkwX1_most_3 ++ dktX1_most_4
def dkwX1_most_2 : List UInt8 := [181, 1, 4, 42, 42, 180, 0, 56, 27, 182, 1, 72, 87, 28, 2, 159, 0, 23, 42, 180, 0, 56]
abbrev dktX1_most_2 : List UInt8 := dkwX1_most_2 ++ dktX1_most_3
def dkwX1_most_1 : List UInt8 := [29, 16, 9, 163, 0, 76, 42, 180, 0, 56, 42, 180, 0, 49, 182, 1, 37, 42, 180, 0, 56, 29]
abbrev dktX1_most_1 : List UInt8 := dkwX1_most_1 ++ dktX1_most_2
def dkwX1_most_0 : List UInt8 := [27, 184, 1, 137, 154, 0, 5, 2, 172, 2, 61, 42, 180, 0, 59, 42, 180, 0, 49, 182, 1, 37, 3, 62]
abbrev dktX1_most_0 : List UInt8 := dkwX1_most_0 ++ dktX1_most_1
theorem dksX1_most_0 : cX1_most.data.toList.drop 0 = dktX1_most_0 := by decide +kernel
theorem dksX1_most_1 : cX1_most.data.toList.drop 24 = dktX1_most_1 := dk_seg dksX1_most_0 24 rfl rfl
theorem dksX1_most_2 : cX1_most.data.toList.drop 46 = dktX1_most_2 := dk_seg dksX1_most_1 22 rfl rfl
theorem dksX1_most_3 : cX1_most.data.toList.drop 68 = dktX1_most_3 := dk_seg dksX1_most_2 22 rfl rfl
theorem dksX1_most_4 : cX1_most.data.toList.drop 91 = dktX1_most_4 := dk_seg dksX1_most_3 23 rfl rfl
theorem dksX1_most_5 : cX1_most.data.toList.drop 113 = dktX1_most_5 := dk_seg dksX1_most_4 22 rfl rfl
theorem dX1_most_0 : decode cX1_most 0 = .ok (.iload_n 1, 1) := dk_27 (dk_at dksX1_most_0 0 rfl rfl)
theorem dX1_most_1 : decode cX1_most 1 = .ok (.invokestatic 393, 3) := dk_184 1 137 (dk_at dksX1_most_0 1 rfl rfl)
theorem dX1_most_4 : decode cX1_most 4 = .ok (.ifCond .ne 5, 3) := dk_154 0 5 (dk_at dksX1_most_0 4 rfl rfl)
theorem dX1_most_7 : decode cX1_most 7 = .ok (.iconst (-1), 1) := dk_2 (dk_at dksX1_most_0 7 rfl rfl)
theorem dX1_most_8 : decode cX1_most 8 = .ok (.ireturn, 1) := dk_172 (dk_at dksX1_most_0 8 rfl rfl)
theorem dX1_most_9 : decode cX1_most 9 = .ok (.iconst (-1), 1) := dk_2 (dk_at dksX1_most_0 9 rfl rfl)
theorem dX1_most_10 : decode cX1_most 10 = .ok (.istore_n 2, 1) := dk_61 (dk_at dksX1_most_0 10 rfl rfl)
theorem dX1_most_11 : decode cX1_most 11 = .ok (.aload_n 0, 1) := dk_42 (dk_at dksX1_most_0 11 rfl rfl)
theorem dX1_most_12 : decode cX1_most 12 = .ok (.getfield 59, 3) := dk_180 0 59 (dk_at dksX1_most_0 12 rfl rfl)
theorem dX1_most_15 : decode cX1_most 15 = .ok (.aload_n 0, 1) := dk_42 (dk_at dksX1_most_0 15 rfl rfl)
theorem dX1_most_16 : decode cX1_most 16 = .ok (.getfield 49, 3) := dk_180 0 49 (dk_at dksX1_most_0 16 rfl rfl)
theorem dX1_most_19 : decode cX1_most 19 = .ok (.invokevirtual 293, 3) := dk_182 1 37 (dk_at dksX1_most_0 19 rfl rfl)
theorem dX1_most_22 : decode cX1_most 22 = .ok (.iconst 0, 1) := dk_3 (dk_at dksX1_most_0 22 rfl rfl)
theorem dX1_most_23 : decode cX1_most 23 = .ok (.istore_n 3, 1) := dk_62 (dk_at dksX1_most_0 23 rfl rfl)
theorem dX1_most_24 : decode cX1_most 24 = .ok (.iload_n 3, 1) := dk_29 (dk_at dksX1_most_1 0 rfl rfl)
theorem dX1_most_25 : decode cX1_most 25 = .ok (.bipush 9, 2) := dk_16 9 (dk_at dksX1_most_1 1 rfl rfl)
theorem dX1_most_27 : decode cX1_most 27 = .ok (.if_icmp .gt 76, 3) := dk_163 0 76 (dk_at dksX1_most_1 3 rfl rfl)
theorem dX1_most_30 : decode cX1_most 30 = .ok (.aload_n 0, 1) := dk_42 (dk_at dksX1_most_1 6 rfl rfl)
theorem dX1_most_31 : decode cX1_most 31 = .ok (.getfield 56, 3) := dk_180 0 56 (dk_at dksX1_most_1 7 rfl rfl)
theorem dX1_most_34 : decode cX1_most 34 = .ok (.aload_n 0, 1) := dk_42 (dk_at dksX1_most_1 10 rfl rfl)
theorem dX1_most_35 : decode cX1_most 35 = .ok (.getfield 49, 3) := dk_180 0 49 (dk_at dksX1_most_1 11 rfl rfl)
theorem dX1_most_38 : decode cX1_most 38 = .ok (.invokevirtual 293, 3) := dk_182 1 37 (dk_at dksX1_most_1 14 rfl rfl)
theorem dX1_most_41 : decode cX1_most 41 = .ok (.aload_n 0, 1) := dk_42 (dk_at dksX1_most_1 17 rfl rfl)
theorem dX1_most_42 : decode cX1_most 42 = .ok (.getfield 56, 3) := dk_180 0 56 (dk_at dksX1_most_1 18 rfl rfl)
theorem dX1_most_45 : decode cX1_most 45 = .ok (.iload_n 3, 1) := dk_29 (dk_at dksX1_most_1 21 rfl rfl)
theorem dX1_most_46 : decode cX1_most 46 = .ok (.putfield 260, 3) := dk_181 1 4 (dk_at dksX1_most_2 0 rfl rfl)
theorem dX1_most_49 : decode cX1_most 49 = .ok (.aload_n 0, 1) := dk_42 (dk_at dksX1_most_2 3 rfl rfl)
theorem dX1_most_50 : decode cX1_most 50 = .ok (.aload_n 0, 1) := dk_42 (dk_at dksX1_most_2 4 rfl rfl)
theorem dX1_most_51 : decode cX1_most 51 = .ok (.getfield 56, 3) := dk_180 0 56 (dk_at dksX1_most_2 5 rfl rfl)
theorem dX1_most_54 : decode cX1_most 54 = .ok (.iload_n 1, 1) := dk_27 (dk_at dksX1_most_2 8 rfl rfl)
theorem dX1_most_55 : decode cX1_most 55 = .ok (.invokevirtual 328, 3) := dk_182 1 72 (dk_at dksX1_most_2 9 rfl rfl)
theorem dX1_most_58 : decode cX1_most 58 = .ok (.pop, 1) := dk_87 (dk_at dksX1_most_2 12 rfl rfl)
theorem dX1_most_59 : decode cX1_most 59 = .ok (.iload_n 2, 1) := dk_28 (dk_at dksX1_most_2 13 rfl rfl)
theorem dX1_most_60 : decode cX1_most 60 = .ok (.iconst (-1), 1) := dk_2 (dk_at dksX1_most_2 14 rfl rfl)
theorem dX1_most_61 : decode cX1_most 61 = .ok (.if_icmp .eq 23, 3) := dk_159 0 23 (dk_at dksX1_most_2 15 rfl rfl)
theorem dX1_most_64 : decode cX1_most 64 = .ok (.aload_n 0, 1) := dk_42 (dk_at dksX1_most_2 18 rfl rfl)
theorem dX1_most_65 : decode cX1_most 65 = .ok (.getfield 56, 3) := dk_180 0 56 (dk_at dksX1_most_2 19 rfl rfl)
theorem dX1_most_68 : decode cX1_most 68 = .ok (.getfield 302, 3) := dk_180 1 46 (dk_at dksX1_most_3 0 rfl rfl)
theorem dX1_most_71 : decode cX1_most 71 = .ok (.aload_n 0, 1) := dk_42 (dk_at dksX1_most_3 3 rfl rfl)
theorem dX1_most_72 : decode cX1_most 72 = .ok (.getfield 59, 3) := dk_180 0 59 (dk_at dksX1_most_3 4 rfl rfl)
theorem dX1_most_75 : decode cX1_most 75 = .ok (.getfield 302, 3) := dk_180 1 46 (dk_at dksX1_most_3 7 rfl rfl)
theorem dX1_most_78 : decode cX1_most 78 = .ok (.if_icmp .gt 6, 3) := dk_163 0 6 (dk_at dksX1_most_3 10 rfl rfl)
theorem dX1_most_81 : decode cX1_most 81 = .ok (.goto 16, 3) := dk_167 0 16 (dk_at dksX1_most_3 13 rfl rfl)
theorem dX1_most_84 : decode cX1_most 84 = .ok (.iload_n 3, 1) := dk_29 (dk_at dksX1_most_3 16 rfl rfl)
theorem dX1_most_85 : decode cX1_most 85 = .ok (.istore_n 2, 1) := dk_61 (dk_at dksX1_most_3 17 rfl rfl)
theorem dX1_most_86 : decode cX1_most 86 = .ok (.aload_n 0, 1) := dk_42 (dk_at dksX1_most_3 18 rfl rfl)
theorem dX1_most_87 : decode cX1_most 87 = .ok (.getfield 59, 3) := dk_180 0 59 (dk_at dksX1_most_3 19 rfl rfl)
theorem dX1_most_90 : decode cX1_most 90 = .ok (.aload_n 0, 1) := dk_42 (dk_at dksX1_most_3 22 rfl rfl)
theorem dX1_most_91 : decode cX1_most 91 = .ok (.getfield 56, 3) := dk_180 0 56 (dk_at dksX1_most_4 0 rfl rfl)
theorem dX1_most_94 : decode cX1_most 94 = .ok (.invokevirtual 293, 3) := dk_182 1 37 (dk_at dksX1_most_4 3 rfl rfl)
theorem dX1_most_97 : decode cX1_most 97 = .ok (.iinc 3 1, 3) := dk_132 3 1 (dk_at dksX1_most_4 6 rfl rfl)
theorem dX1_most_100 : decode cX1_most 100 = .ok (.goto (-76), 3) := dk_167 255 180 (dk_at dksX1_most_4 9 rfl rfl)
theorem dX1_most_103 : decode cX1_most 103 = .ok (.aload_n 0, 1) := dk_42 (dk_at dksX1_most_4 12 rfl rfl)
theorem dX1_most_104 : decode cX1_most 104 = .ok (.iconst 0, 1) := dk_3 (dk_at dksX1_most_4 13 rfl rfl)
theorem dX1_most_105 : decode cX1_most 105 = .ok (.putfield 122, 3) := dk_181 0 122 (dk_at dksX1_most_4 14 rfl rfl)
theorem dX1_most_108 : decode cX1_most 108 = .ok (.aload_n 0, 1) := dk_42 (dk_at dksX1_most_4 17 rfl rfl)
theorem dX1_most_109 : decode cX1_most 109 = .ok (.aload_n 0, 1) := dk_42 (dk_at dksX1_most_4 18 rfl rfl)
theorem dX1_most_110 : decode cX1_most 110 = .ok (.getfield 59, 3) := dk_180 0 59 (dk_at dksX1_most_4 19 rfl rfl)
theorem dX1_most_113 : decode cX1_most 113 = .ok (.getfield 302, 3) := dk_180 1 46 (dk_at dksX1_most_5 0 rfl rfl)
theorem dX1_most_116 : decode cX1_most 116 = .ok (.i2l, 1) := dk_133 (dk_at dksX1_most_5 3 rfl rfl)
theorem dX1_most_117 : decode cX1_most 117 = .ok (.invokevirtual 331, 3) := dk_182 1 75 (dk_at dksX1_most_5 4 rfl rfl)
theorem dX1_most_120 : decode cX1_most 120 = .ok (.aload_n 0, 1) := dk_42 (dk_at dksX1_most_5 7 rfl rfl)
theorem dX1_most_121 : decode cX1_most 121 = .ok (.aload_n 0, 1) := dk_42 (dk_at dksX1_most_5 8 rfl rfl)
theorem dX1_most_122 : decode cX1_most 122 = .ok (.getfield 59, 3) := dk_180 0 59 (dk_at dksX1_most_5 9 rfl rfl)
theorem dX1_most_125 : decode cX1_most 125 = .ok (.getfield 388, 3) := dk_180 1 132 (dk_at dksX1_most_5 12 rfl rfl)
theorem dX1_most_128 : decode cX1_most 128 = .ok (.i2l, 1) := dk_133 (dk_at dksX1_most_5 15 rfl rfl)
theorem dX1_most_129 : decode cX1_most 129 = .ok (.invokevirtual 331, 3) := dk_182 1 75 (dk_at dksX1_most_5 16 rfl rfl)
theorem dX1_most_132 : decode cX1_most 132 = .ok (.iload_n 2, 1) := dk_28 (dk_at dksX1_most_5 19 rfl rfl)
theorem dX1_most_133 : decode cX1_most 133 = .ok (.ireturn, 1) := dk_172 (dk_at dksX1_most_5 20 rfl rfl)
abbrev cX1_isMonth : ByteArray := prog_1_method_54_code
def yX1_isMonth : MethodName := ⟨RX1, "isMonth", "(I)Z"⟩
def dkwX1_isMonth_0 : List UInt8 := [26, 133, 10, 20, 1, 135, 184, 0, 129, 172]
abbrev dktX1_isMonth_0 : List UInt8 := dkwX1_isMonth_0 ++ []
theorem dksX1_isMonth_0 : cX1_isMonth.data.toList.drop 0 = dktX1_isMonth_0 := by decide +kernel
theorem dX1_isMonth_0 : decode cX1_isMonth 0 = .ok (.iload_n 0, 1) := dk_26 (dk_at dksX1_isMonth_0 0 rfl rfl)
theorem dX1_isMonth_1 : decode cX1_isMonth 1 = .ok (.i2l, 1) := dk_133 (dk_at dksX1_isMonth_0 1 rfl rfl)
theorem dX1_isMonth_2 : decode cX1_isMonth 2 = .ok (.lconst 1, 1) := dk_10 (dk_at dksX1_isMonth_0 2 rfl rfl)
theorem dX1_isMonth_3 : decode cX1_isMonth 3 = .ok (.ldc2_w 391, 3) := dk_20 1 135 (dk_at dksX1_isMonth_0 3 rfl rfl)
theorem dX1_isMonth_6 : decode cX1_isMonth 6 = .ok (.invokestatic 129, 3) := dk_184 0 129 (dk_at dksX1_isMonth_0 6 rfl rfl)
theorem dX1_isMonth_9 : decode cX1_isMonth 9 = .ok (.ireturn, 1) := dk_172 (dk_at dksX1_isMonth_0 9 rfl rfl)
abbrev cX1_gives : ByteArray := prog_1_method_56_code
def yX1_gives : MethodName := ⟨RX1, "gives", "(I)I"⟩
def dkwX1_gives_2 : List UInt8 := [172, 132, 2, 255, 167, 255, 216, 16, 254, 172]
abbrev dktX1_gives_2 : List UInt8 := dkwX1_gives_2 ++ []
def dkwX1_gives_1 : List UInt8 := [182, 1, 37, 42, 180, 0, 56, 28, 181, 1, 1, 42, 42, 180, 0, 56, 27, 182, 1, 72, 154, 0, 5, 28]
abbrev dktX1_gives_1 : List UInt8 := dkwX1_gives_1 ++ dktX1_gives_2
def dkwX1_gives_0 : List UInt8 := [27, 184, 1, 137, 154, 0, 5, 2, 172, 16, 9, 61, 28, 155, 0, 42, 42, 180, 0, 56, 42, 180, 0, 49]
abbrev dktX1_gives_0 : List UInt8 := dkwX1_gives_0 ++ dktX1_gives_1
theorem dksX1_gives_0 : cX1_gives.data.toList.drop 0 = dktX1_gives_0 := by decide +kernel
theorem dksX1_gives_1 : cX1_gives.data.toList.drop 24 = dktX1_gives_1 := dk_seg dksX1_gives_0 24 rfl rfl
theorem dksX1_gives_2 : cX1_gives.data.toList.drop 48 = dktX1_gives_2 := dk_seg dksX1_gives_1 24 rfl rfl
theorem dX1_gives_0 : decode cX1_gives 0 = .ok (.iload_n 1, 1) := dk_27 (dk_at dksX1_gives_0 0 rfl rfl)
theorem dX1_gives_1 : decode cX1_gives 1 = .ok (.invokestatic 393, 3) := dk_184 1 137 (dk_at dksX1_gives_0 1 rfl rfl)
theorem dX1_gives_4 : decode cX1_gives 4 = .ok (.ifCond .ne 5, 3) := dk_154 0 5 (dk_at dksX1_gives_0 4 rfl rfl)
theorem dX1_gives_7 : decode cX1_gives 7 = .ok (.iconst (-1), 1) := dk_2 (dk_at dksX1_gives_0 7 rfl rfl)
theorem dX1_gives_8 : decode cX1_gives 8 = .ok (.ireturn, 1) := dk_172 (dk_at dksX1_gives_0 8 rfl rfl)
theorem dX1_gives_9 : decode cX1_gives 9 = .ok (.bipush 9, 2) := dk_16 9 (dk_at dksX1_gives_0 9 rfl rfl)
theorem dX1_gives_11 : decode cX1_gives 11 = .ok (.istore_n 2, 1) := dk_61 (dk_at dksX1_gives_0 11 rfl rfl)
theorem dX1_gives_12 : decode cX1_gives 12 = .ok (.iload_n 2, 1) := dk_28 (dk_at dksX1_gives_0 12 rfl rfl)
theorem dX1_gives_13 : decode cX1_gives 13 = .ok (.ifCond .lt 42, 3) := dk_155 0 42 (dk_at dksX1_gives_0 13 rfl rfl)
theorem dX1_gives_16 : decode cX1_gives 16 = .ok (.aload_n 0, 1) := dk_42 (dk_at dksX1_gives_0 16 rfl rfl)
theorem dX1_gives_17 : decode cX1_gives 17 = .ok (.getfield 56, 3) := dk_180 0 56 (dk_at dksX1_gives_0 17 rfl rfl)
theorem dX1_gives_20 : decode cX1_gives 20 = .ok (.aload_n 0, 1) := dk_42 (dk_at dksX1_gives_0 20 rfl rfl)
theorem dX1_gives_21 : decode cX1_gives 21 = .ok (.getfield 49, 3) := dk_180 0 49 (dk_at dksX1_gives_0 21 rfl rfl)
theorem dX1_gives_24 : decode cX1_gives 24 = .ok (.invokevirtual 293, 3) := dk_182 1 37 (dk_at dksX1_gives_1 0 rfl rfl)
theorem dX1_gives_27 : decode cX1_gives 27 = .ok (.aload_n 0, 1) := dk_42 (dk_at dksX1_gives_1 3 rfl rfl)
theorem dX1_gives_28 : decode cX1_gives 28 = .ok (.getfield 56, 3) := dk_180 0 56 (dk_at dksX1_gives_1 4 rfl rfl)
theorem dX1_gives_31 : decode cX1_gives 31 = .ok (.iload_n 2, 1) := dk_28 (dk_at dksX1_gives_1 7 rfl rfl)
theorem dX1_gives_32 : decode cX1_gives 32 = .ok (.putfield 257, 3) := dk_181 1 1 (dk_at dksX1_gives_1 8 rfl rfl)
theorem dX1_gives_35 : decode cX1_gives 35 = .ok (.aload_n 0, 1) := dk_42 (dk_at dksX1_gives_1 11 rfl rfl)
theorem dX1_gives_36 : decode cX1_gives 36 = .ok (.aload_n 0, 1) := dk_42 (dk_at dksX1_gives_1 12 rfl rfl)
theorem dX1_gives_37 : decode cX1_gives 37 = .ok (.getfield 56, 3) := dk_180 0 56 (dk_at dksX1_gives_1 13 rfl rfl)
theorem dX1_gives_40 : decode cX1_gives 40 = .ok (.iload_n 1, 1) := dk_27 (dk_at dksX1_gives_1 16 rfl rfl)
theorem dX1_gives_41 : decode cX1_gives 41 = .ok (.invokevirtual 328, 3) := dk_182 1 72 (dk_at dksX1_gives_1 17 rfl rfl)
theorem dX1_gives_44 : decode cX1_gives 44 = .ok (.ifCond .ne 5, 3) := dk_154 0 5 (dk_at dksX1_gives_1 20 rfl rfl)
theorem dX1_gives_47 : decode cX1_gives 47 = .ok (.iload_n 2, 1) := dk_28 (dk_at dksX1_gives_1 23 rfl rfl)
theorem dX1_gives_48 : decode cX1_gives 48 = .ok (.ireturn, 1) := dk_172 (dk_at dksX1_gives_2 0 rfl rfl)
theorem dX1_gives_49 : decode cX1_gives 49 = .ok (.iinc 2 (-1), 3) := dk_132 2 255 (dk_at dksX1_gives_2 1 rfl rfl)
theorem dX1_gives_52 : decode cX1_gives 52 = .ok (.goto (-40), 3) := dk_167 255 216 (dk_at dksX1_gives_2 4 rfl rfl)
theorem dX1_gives_55 : decode cX1_gives 55 = .ok (.bipush (-2), 2) := dk_16 254 (dk_at dksX1_gives_2 7 rfl rfl)
theorem dX1_gives_57 : decode cX1_gives 57 = .ok (.ireturn, 1) := dk_172 (dk_at dksX1_gives_2 9 rfl rfl)
abbrev cX1_plan : ByteArray := prog_1_method_58_code
def yX1_plan : MethodName := ⟨RX1, "plan", "(I)I"⟩
def dkwX1_plan_3 : List UInt8 := [132, 2, 1, 167, 255, 237, 42, 180, 1, 140, 172]
abbrev dktX1_plan_3 : List UInt8 := dkwX1_plan_3 ++ []
def dkwX1_plan_2 : List UInt8 := [172, 42, 3, 181, 0, 122, 3, 61, 28, 27, 162, 0, 20, 42, 42, 180, 0, 107, 28, 46, 133, 182, 1, 75]
abbrev dktX1_plan_2 : List UInt8 := dkwX1_plan_2 ++ dktX1_plan_3
def dkwX1_plan_1 : List UInt8 := [182, 1, 37, 42, 2, 181, 1, 140, 42, 3, 27, 182, 1, 143, 42, 180, 1, 140, 2, 160, 0, 6, 16, 254]
abbrev dktX1_plan_1 : List UInt8 := dkwX1_plan_1 ++ dktX1_plan_2
def dkwX1_plan_0 : List UInt8 := [27, 133, 10, 20, 1, 146, 184, 0, 129, 154, 0, 5, 2, 172, 42, 180, 0, 66, 3, 50, 42, 180, 0, 49]
abbrev dktX1_plan_0 : List UInt8 := dkwX1_plan_0 ++ dktX1_plan_1
theorem dksX1_plan_0 : cX1_plan.data.toList.drop 0 = dktX1_plan_0 := by decide +kernel
theorem dksX1_plan_1 : cX1_plan.data.toList.drop 24 = dktX1_plan_1 := dk_seg dksX1_plan_0 24 rfl rfl
theorem dksX1_plan_2 : cX1_plan.data.toList.drop 48 = dktX1_plan_2 := dk_seg dksX1_plan_1 24 rfl rfl
theorem dksX1_plan_3 : cX1_plan.data.toList.drop 72 = dktX1_plan_3 := dk_seg dksX1_plan_2 24 rfl rfl
theorem dX1_plan_0 : decode cX1_plan 0 = .ok (.iload_n 1, 1) := dk_27 (dk_at dksX1_plan_0 0 rfl rfl)
theorem dX1_plan_1 : decode cX1_plan 1 = .ok (.i2l, 1) := dk_133 (dk_at dksX1_plan_0 1 rfl rfl)
theorem dX1_plan_2 : decode cX1_plan 2 = .ok (.lconst 1, 1) := dk_10 (dk_at dksX1_plan_0 2 rfl rfl)
theorem dX1_plan_3 : decode cX1_plan 3 = .ok (.ldc2_w 402, 3) := dk_20 1 146 (dk_at dksX1_plan_0 3 rfl rfl)
theorem dX1_plan_6 : decode cX1_plan 6 = .ok (.invokestatic 129, 3) := dk_184 0 129 (dk_at dksX1_plan_0 6 rfl rfl)
theorem dX1_plan_9 : decode cX1_plan 9 = .ok (.ifCond .ne 5, 3) := dk_154 0 5 (dk_at dksX1_plan_0 9 rfl rfl)
theorem dX1_plan_12 : decode cX1_plan 12 = .ok (.iconst (-1), 1) := dk_2 (dk_at dksX1_plan_0 12 rfl rfl)
theorem dX1_plan_13 : decode cX1_plan 13 = .ok (.ireturn, 1) := dk_172 (dk_at dksX1_plan_0 13 rfl rfl)
theorem dX1_plan_14 : decode cX1_plan 14 = .ok (.aload_n 0, 1) := dk_42 (dk_at dksX1_plan_0 14 rfl rfl)
theorem dX1_plan_15 : decode cX1_plan 15 = .ok (.getfield 66, 3) := dk_180 0 66 (dk_at dksX1_plan_0 15 rfl rfl)
theorem dX1_plan_18 : decode cX1_plan 18 = .ok (.iconst 0, 1) := dk_3 (dk_at dksX1_plan_0 18 rfl rfl)
theorem dX1_plan_19 : decode cX1_plan 19 = .ok (.aaload, 1) := dk_50 (dk_at dksX1_plan_0 19 rfl rfl)
theorem dX1_plan_20 : decode cX1_plan 20 = .ok (.aload_n 0, 1) := dk_42 (dk_at dksX1_plan_0 20 rfl rfl)
theorem dX1_plan_21 : decode cX1_plan 21 = .ok (.getfield 49, 3) := dk_180 0 49 (dk_at dksX1_plan_0 21 rfl rfl)
theorem dX1_plan_24 : decode cX1_plan 24 = .ok (.invokevirtual 293, 3) := dk_182 1 37 (dk_at dksX1_plan_1 0 rfl rfl)
theorem dX1_plan_27 : decode cX1_plan 27 = .ok (.aload_n 0, 1) := dk_42 (dk_at dksX1_plan_1 3 rfl rfl)
theorem dX1_plan_28 : decode cX1_plan 28 = .ok (.iconst (-1), 1) := dk_2 (dk_at dksX1_plan_1 4 rfl rfl)
theorem dX1_plan_29 : decode cX1_plan 29 = .ok (.putfield 396, 3) := dk_181 1 140 (dk_at dksX1_plan_1 5 rfl rfl)
theorem dX1_plan_32 : decode cX1_plan 32 = .ok (.aload_n 0, 1) := dk_42 (dk_at dksX1_plan_1 8 rfl rfl)
theorem dX1_plan_33 : decode cX1_plan 33 = .ok (.iconst 0, 1) := dk_3 (dk_at dksX1_plan_1 9 rfl rfl)
theorem dX1_plan_34 : decode cX1_plan 34 = .ok (.iload_n 1, 1) := dk_27 (dk_at dksX1_plan_1 10 rfl rfl)
theorem dX1_plan_35 : decode cX1_plan 35 = .ok (.invokevirtual 399, 3) := dk_182 1 143 (dk_at dksX1_plan_1 11 rfl rfl)
theorem dX1_plan_38 : decode cX1_plan 38 = .ok (.aload_n 0, 1) := dk_42 (dk_at dksX1_plan_1 14 rfl rfl)
theorem dX1_plan_39 : decode cX1_plan 39 = .ok (.getfield 396, 3) := dk_180 1 140 (dk_at dksX1_plan_1 15 rfl rfl)
theorem dX1_plan_42 : decode cX1_plan 42 = .ok (.iconst (-1), 1) := dk_2 (dk_at dksX1_plan_1 18 rfl rfl)
theorem dX1_plan_43 : decode cX1_plan 43 = .ok (.if_icmp .ne 6, 3) := dk_160 0 6 (dk_at dksX1_plan_1 19 rfl rfl)
theorem dX1_plan_46 : decode cX1_plan 46 = .ok (.bipush (-2), 2) := dk_16 254 (dk_at dksX1_plan_1 22 rfl rfl)
theorem dX1_plan_48 : decode cX1_plan 48 = .ok (.ireturn, 1) := dk_172 (dk_at dksX1_plan_2 0 rfl rfl)
theorem dX1_plan_49 : decode cX1_plan 49 = .ok (.aload_n 0, 1) := dk_42 (dk_at dksX1_plan_2 1 rfl rfl)
theorem dX1_plan_50 : decode cX1_plan 50 = .ok (.iconst 0, 1) := dk_3 (dk_at dksX1_plan_2 2 rfl rfl)
theorem dX1_plan_51 : decode cX1_plan 51 = .ok (.putfield 122, 3) := dk_181 0 122 (dk_at dksX1_plan_2 3 rfl rfl)
theorem dX1_plan_54 : decode cX1_plan 54 = .ok (.iconst 0, 1) := dk_3 (dk_at dksX1_plan_2 6 rfl rfl)
theorem dX1_plan_55 : decode cX1_plan 55 = .ok (.istore_n 2, 1) := dk_61 (dk_at dksX1_plan_2 7 rfl rfl)
theorem dX1_plan_56 : decode cX1_plan 56 = .ok (.iload_n 2, 1) := dk_28 (dk_at dksX1_plan_2 8 rfl rfl)
theorem dX1_plan_57 : decode cX1_plan 57 = .ok (.iload_n 1, 1) := dk_27 (dk_at dksX1_plan_2 9 rfl rfl)
theorem dX1_plan_58 : decode cX1_plan 58 = .ok (.if_icmp .ge 20, 3) := dk_162 0 20 (dk_at dksX1_plan_2 10 rfl rfl)
theorem dX1_plan_61 : decode cX1_plan 61 = .ok (.aload_n 0, 1) := dk_42 (dk_at dksX1_plan_2 13 rfl rfl)
theorem dX1_plan_62 : decode cX1_plan 62 = .ok (.aload_n 0, 1) := dk_42 (dk_at dksX1_plan_2 14 rfl rfl)
theorem dX1_plan_63 : decode cX1_plan 63 = .ok (.getfield 107, 3) := dk_180 0 107 (dk_at dksX1_plan_2 15 rfl rfl)
theorem dX1_plan_66 : decode cX1_plan 66 = .ok (.iload_n 2, 1) := dk_28 (dk_at dksX1_plan_2 18 rfl rfl)
theorem dX1_plan_67 : decode cX1_plan 67 = .ok (.iaload, 1) := dk_46 (dk_at dksX1_plan_2 19 rfl rfl)
theorem dX1_plan_68 : decode cX1_plan 68 = .ok (.i2l, 1) := dk_133 (dk_at dksX1_plan_2 20 rfl rfl)
theorem dX1_plan_69 : decode cX1_plan 69 = .ok (.invokevirtual 331, 3) := dk_182 1 75 (dk_at dksX1_plan_2 21 rfl rfl)
theorem dX1_plan_72 : decode cX1_plan 72 = .ok (.iinc 2 1, 3) := dk_132 2 1 (dk_at dksX1_plan_3 0 rfl rfl)
theorem dX1_plan_75 : decode cX1_plan 75 = .ok (.goto (-19), 3) := dk_167 255 237 (dk_at dksX1_plan_3 3 rfl rfl)
theorem dX1_plan_78 : decode cX1_plan 78 = .ok (.aload_n 0, 1) := dk_42 (dk_at dksX1_plan_3 6 rfl rfl)
theorem dX1_plan_79 : decode cX1_plan 79 = .ok (.getfield 396, 3) := dk_180 1 140 (dk_at dksX1_plan_3 7 rfl rfl)
theorem dX1_plan_82 : decode cX1_plan 82 = .ok (.ireturn, 1) := dk_172 (dk_at dksX1_plan_3 10 rfl rfl)
abbrev cX1_goPlan : ByteArray := prog_1_method_57_code
def yX1_goPlan : MethodName := ⟨RX1, "goPlan", "(II)V"⟩
def dkwX1_goPlan_5 : List UInt8 := [182, 1, 143, 132, 3, 1, 167, 255, 185, 177]
abbrev dktX1_goPlan_5 : List UInt8 := dkwX1_goPlan_5 ++ []
def dkwX1_goPlan_4 : List UInt8 := [25, 4, 182, 1, 79, 153, 0, 6, 167, 0, 18, 42, 180, 0, 104, 27, 29, 79, 42, 27, 4, 96, 28]
abbrev dktX1_goPlan_4 : List UInt8 := dkwX1_goPlan_4 ++ dktX1_goPlan_5
def dkwX1_goPlan_3 : List UInt8 := [180, 0, 66, 27, 50, 182, 1, 37, 25, 4, 29, 181, 1, 4, 42, 25, 4, 182, 1, 66, 153, 0, 30, 42]
abbrev dktX1_goPlan_3 : List UInt8 := dkwX1_goPlan_3 ++ dktX1_goPlan_4
def dkwX1_goPlan_2 : List UInt8 := [184, 0, 186, 177, 3, 62, 29, 6, 163, 0, 72, 42, 180, 0, 66, 27, 4, 96, 50, 58, 4, 25, 4, 42]
abbrev dktX1_goPlan_2 : List UInt8 := dkwX1_goPlan_2 ++ dktX1_goPlan_3
def dkwX1_goPlan_1 : List UInt8 := [180, 0, 66, 28, 50, 180, 1, 46, 181, 1, 140, 42, 180, 0, 104, 3, 42, 180, 0, 107, 3, 28]
abbrev dktX1_goPlan_1 : List UInt8 := dkwX1_goPlan_1 ++ dktX1_goPlan_2
def dkwX1_goPlan_0 : List UInt8 := [27, 28, 160, 0, 48, 42, 180, 0, 66, 28, 50, 180, 1, 46, 42, 180, 1, 140, 163, 0, 4, 177, 42, 42]
abbrev dktX1_goPlan_0 : List UInt8 := dkwX1_goPlan_0 ++ dktX1_goPlan_1
theorem dksX1_goPlan_0 : cX1_goPlan.data.toList.drop 0 = dktX1_goPlan_0 := by decide +kernel
theorem dksX1_goPlan_1 : cX1_goPlan.data.toList.drop 24 = dktX1_goPlan_1 := dk_seg dksX1_goPlan_0 24 rfl rfl
theorem dksX1_goPlan_2 : cX1_goPlan.data.toList.drop 46 = dktX1_goPlan_2 := dk_seg dksX1_goPlan_1 22 rfl rfl
theorem dksX1_goPlan_3 : cX1_goPlan.data.toList.drop 70 = dktX1_goPlan_3 := dk_seg dksX1_goPlan_2 24 rfl rfl
theorem dksX1_goPlan_4 : cX1_goPlan.data.toList.drop 94 = dktX1_goPlan_4 := dk_seg dksX1_goPlan_3 24 rfl rfl
theorem dksX1_goPlan_5 : cX1_goPlan.data.toList.drop 117 = dktX1_goPlan_5 := dk_seg dksX1_goPlan_4 23 rfl rfl
theorem dX1_goPlan_0 : decode cX1_goPlan 0 = .ok (.iload_n 1, 1) := dk_27 (dk_at dksX1_goPlan_0 0 rfl rfl)
theorem dX1_goPlan_1 : decode cX1_goPlan 1 = .ok (.iload_n 2, 1) := dk_28 (dk_at dksX1_goPlan_0 1 rfl rfl)
theorem dX1_goPlan_2 : decode cX1_goPlan 2 = .ok (.if_icmp .ne 48, 3) := dk_160 0 48 (dk_at dksX1_goPlan_0 2 rfl rfl)
theorem dX1_goPlan_5 : decode cX1_goPlan 5 = .ok (.aload_n 0, 1) := dk_42 (dk_at dksX1_goPlan_0 5 rfl rfl)
theorem dX1_goPlan_6 : decode cX1_goPlan 6 = .ok (.getfield 66, 3) := dk_180 0 66 (dk_at dksX1_goPlan_0 6 rfl rfl)
theorem dX1_goPlan_9 : decode cX1_goPlan 9 = .ok (.iload_n 2, 1) := dk_28 (dk_at dksX1_goPlan_0 9 rfl rfl)
theorem dX1_goPlan_10 : decode cX1_goPlan 10 = .ok (.aaload, 1) := dk_50 (dk_at dksX1_goPlan_0 10 rfl rfl)
theorem dX1_goPlan_11 : decode cX1_goPlan 11 = .ok (.getfield 302, 3) := dk_180 1 46 (dk_at dksX1_goPlan_0 11 rfl rfl)
theorem dX1_goPlan_14 : decode cX1_goPlan 14 = .ok (.aload_n 0, 1) := dk_42 (dk_at dksX1_goPlan_0 14 rfl rfl)
theorem dX1_goPlan_15 : decode cX1_goPlan 15 = .ok (.getfield 396, 3) := dk_180 1 140 (dk_at dksX1_goPlan_0 15 rfl rfl)
theorem dX1_goPlan_18 : decode cX1_goPlan 18 = .ok (.if_icmp .gt 4, 3) := dk_163 0 4 (dk_at dksX1_goPlan_0 18 rfl rfl)
theorem dX1_goPlan_21 : decode cX1_goPlan 21 = .ok (.return_, 1) := dk_177 (dk_at dksX1_goPlan_0 21 rfl rfl)
theorem dX1_goPlan_22 : decode cX1_goPlan 22 = .ok (.aload_n 0, 1) := dk_42 (dk_at dksX1_goPlan_0 22 rfl rfl)
theorem dX1_goPlan_23 : decode cX1_goPlan 23 = .ok (.aload_n 0, 1) := dk_42 (dk_at dksX1_goPlan_0 23 rfl rfl)
theorem dX1_goPlan_24 : decode cX1_goPlan 24 = .ok (.getfield 66, 3) := dk_180 0 66 (dk_at dksX1_goPlan_1 0 rfl rfl)
theorem dX1_goPlan_27 : decode cX1_goPlan 27 = .ok (.iload_n 2, 1) := dk_28 (dk_at dksX1_goPlan_1 3 rfl rfl)
theorem dX1_goPlan_28 : decode cX1_goPlan 28 = .ok (.aaload, 1) := dk_50 (dk_at dksX1_goPlan_1 4 rfl rfl)
theorem dX1_goPlan_29 : decode cX1_goPlan 29 = .ok (.getfield 302, 3) := dk_180 1 46 (dk_at dksX1_goPlan_1 5 rfl rfl)
theorem dX1_goPlan_32 : decode cX1_goPlan 32 = .ok (.putfield 396, 3) := dk_181 1 140 (dk_at dksX1_goPlan_1 8 rfl rfl)
theorem dX1_goPlan_35 : decode cX1_goPlan 35 = .ok (.aload_n 0, 1) := dk_42 (dk_at dksX1_goPlan_1 11 rfl rfl)
theorem dX1_goPlan_36 : decode cX1_goPlan 36 = .ok (.getfield 104, 3) := dk_180 0 104 (dk_at dksX1_goPlan_1 12 rfl rfl)
theorem dX1_goPlan_39 : decode cX1_goPlan 39 = .ok (.iconst 0, 1) := dk_3 (dk_at dksX1_goPlan_1 15 rfl rfl)
theorem dX1_goPlan_40 : decode cX1_goPlan 40 = .ok (.aload_n 0, 1) := dk_42 (dk_at dksX1_goPlan_1 16 rfl rfl)
theorem dX1_goPlan_41 : decode cX1_goPlan 41 = .ok (.getfield 107, 3) := dk_180 0 107 (dk_at dksX1_goPlan_1 17 rfl rfl)
theorem dX1_goPlan_44 : decode cX1_goPlan 44 = .ok (.iconst 0, 1) := dk_3 (dk_at dksX1_goPlan_1 20 rfl rfl)
theorem dX1_goPlan_45 : decode cX1_goPlan 45 = .ok (.iload_n 2, 1) := dk_28 (dk_at dksX1_goPlan_1 21 rfl rfl)
theorem dX1_goPlan_46 : decode cX1_goPlan 46 = .ok (.invokestatic 186, 3) := dk_184 0 186 (dk_at dksX1_goPlan_2 0 rfl rfl)
theorem dX1_goPlan_49 : decode cX1_goPlan 49 = .ok (.return_, 1) := dk_177 (dk_at dksX1_goPlan_2 3 rfl rfl)
theorem dX1_goPlan_50 : decode cX1_goPlan 50 = .ok (.iconst 0, 1) := dk_3 (dk_at dksX1_goPlan_2 4 rfl rfl)
theorem dX1_goPlan_51 : decode cX1_goPlan 51 = .ok (.istore_n 3, 1) := dk_62 (dk_at dksX1_goPlan_2 5 rfl rfl)
theorem dX1_goPlan_52 : decode cX1_goPlan 52 = .ok (.iload_n 3, 1) := dk_29 (dk_at dksX1_goPlan_2 6 rfl rfl)
theorem dX1_goPlan_53 : decode cX1_goPlan 53 = .ok (.iconst 3, 1) := dk_6 (dk_at dksX1_goPlan_2 7 rfl rfl)
theorem dX1_goPlan_54 : decode cX1_goPlan 54 = .ok (.if_icmp .gt 72, 3) := dk_163 0 72 (dk_at dksX1_goPlan_2 8 rfl rfl)
theorem dX1_goPlan_57 : decode cX1_goPlan 57 = .ok (.aload_n 0, 1) := dk_42 (dk_at dksX1_goPlan_2 11 rfl rfl)
theorem dX1_goPlan_58 : decode cX1_goPlan 58 = .ok (.getfield 66, 3) := dk_180 0 66 (dk_at dksX1_goPlan_2 12 rfl rfl)
theorem dX1_goPlan_61 : decode cX1_goPlan 61 = .ok (.iload_n 1, 1) := dk_27 (dk_at dksX1_goPlan_2 15 rfl rfl)
theorem dX1_goPlan_62 : decode cX1_goPlan 62 = .ok (.iconst 1, 1) := dk_4 (dk_at dksX1_goPlan_2 16 rfl rfl)
theorem dX1_goPlan_63 : decode cX1_goPlan 63 = .ok (.iadd, 1) := dk_96 (dk_at dksX1_goPlan_2 17 rfl rfl)
theorem dX1_goPlan_64 : decode cX1_goPlan 64 = .ok (.aaload, 1) := dk_50 (dk_at dksX1_goPlan_2 18 rfl rfl)
theorem dX1_goPlan_65 : decode cX1_goPlan 65 = .ok (.astore 4, 2) := dk_58 4 (dk_at dksX1_goPlan_2 19 rfl rfl)
theorem dX1_goPlan_67 : decode cX1_goPlan 67 = .ok (.aload 4, 2) := dk_25 4 (dk_at dksX1_goPlan_2 21 rfl rfl)
theorem dX1_goPlan_69 : decode cX1_goPlan 69 = .ok (.aload_n 0, 1) := dk_42 (dk_at dksX1_goPlan_2 23 rfl rfl)
theorem dX1_goPlan_70 : decode cX1_goPlan 70 = .ok (.getfield 66, 3) := dk_180 0 66 (dk_at dksX1_goPlan_3 0 rfl rfl)
theorem dX1_goPlan_73 : decode cX1_goPlan 73 = .ok (.iload_n 1, 1) := dk_27 (dk_at dksX1_goPlan_3 3 rfl rfl)
theorem dX1_goPlan_74 : decode cX1_goPlan 74 = .ok (.aaload, 1) := dk_50 (dk_at dksX1_goPlan_3 4 rfl rfl)
theorem dX1_goPlan_75 : decode cX1_goPlan 75 = .ok (.invokevirtual 293, 3) := dk_182 1 37 (dk_at dksX1_goPlan_3 5 rfl rfl)
theorem dX1_goPlan_78 : decode cX1_goPlan 78 = .ok (.aload 4, 2) := dk_25 4 (dk_at dksX1_goPlan_3 8 rfl rfl)
theorem dX1_goPlan_80 : decode cX1_goPlan 80 = .ok (.iload_n 3, 1) := dk_29 (dk_at dksX1_goPlan_3 10 rfl rfl)
theorem dX1_goPlan_81 : decode cX1_goPlan 81 = .ok (.putfield 260, 3) := dk_181 1 4 (dk_at dksX1_goPlan_3 11 rfl rfl)
theorem dX1_goPlan_84 : decode cX1_goPlan 84 = .ok (.aload_n 0, 1) := dk_42 (dk_at dksX1_goPlan_3 14 rfl rfl)
theorem dX1_goPlan_85 : decode cX1_goPlan 85 = .ok (.aload 4, 2) := dk_25 4 (dk_at dksX1_goPlan_3 15 rfl rfl)
theorem dX1_goPlan_87 : decode cX1_goPlan 87 = .ok (.invokevirtual 322, 3) := dk_182 1 66 (dk_at dksX1_goPlan_3 17 rfl rfl)
theorem dX1_goPlan_90 : decode cX1_goPlan 90 = .ok (.ifCond .eq 30, 3) := dk_153 0 30 (dk_at dksX1_goPlan_3 20 rfl rfl)
theorem dX1_goPlan_93 : decode cX1_goPlan 93 = .ok (.aload_n 0, 1) := dk_42 (dk_at dksX1_goPlan_3 23 rfl rfl)
theorem dX1_goPlan_94 : decode cX1_goPlan 94 = .ok (.aload 4, 2) := dk_25 4 (dk_at dksX1_goPlan_4 0 rfl rfl)
theorem dX1_goPlan_96 : decode cX1_goPlan 96 = .ok (.invokevirtual 335, 3) := dk_182 1 79 (dk_at dksX1_goPlan_4 2 rfl rfl)
theorem dX1_goPlan_99 : decode cX1_goPlan 99 = .ok (.ifCond .eq 6, 3) := dk_153 0 6 (dk_at dksX1_goPlan_4 5 rfl rfl)
theorem dX1_goPlan_102 : decode cX1_goPlan 102 = .ok (.goto 18, 3) := dk_167 0 18 (dk_at dksX1_goPlan_4 8 rfl rfl)
theorem dX1_goPlan_105 : decode cX1_goPlan 105 = .ok (.aload_n 0, 1) := dk_42 (dk_at dksX1_goPlan_4 11 rfl rfl)
theorem dX1_goPlan_106 : decode cX1_goPlan 106 = .ok (.getfield 104, 3) := dk_180 0 104 (dk_at dksX1_goPlan_4 12 rfl rfl)
theorem dX1_goPlan_109 : decode cX1_goPlan 109 = .ok (.iload_n 1, 1) := dk_27 (dk_at dksX1_goPlan_4 15 rfl rfl)
theorem dX1_goPlan_110 : decode cX1_goPlan 110 = .ok (.iload_n 3, 1) := dk_29 (dk_at dksX1_goPlan_4 16 rfl rfl)
theorem dX1_goPlan_111 : decode cX1_goPlan 111 = .ok (.iastore, 1) := dk_79 (dk_at dksX1_goPlan_4 17 rfl rfl)
theorem dX1_goPlan_112 : decode cX1_goPlan 112 = .ok (.aload_n 0, 1) := dk_42 (dk_at dksX1_goPlan_4 18 rfl rfl)
theorem dX1_goPlan_113 : decode cX1_goPlan 113 = .ok (.iload_n 1, 1) := dk_27 (dk_at dksX1_goPlan_4 19 rfl rfl)
theorem dX1_goPlan_114 : decode cX1_goPlan 114 = .ok (.iconst 1, 1) := dk_4 (dk_at dksX1_goPlan_4 20 rfl rfl)
theorem dX1_goPlan_115 : decode cX1_goPlan 115 = .ok (.iadd, 1) := dk_96 (dk_at dksX1_goPlan_4 21 rfl rfl)
theorem dX1_goPlan_116 : decode cX1_goPlan 116 = .ok (.iload_n 2, 1) := dk_28 (dk_at dksX1_goPlan_4 22 rfl rfl)
theorem dX1_goPlan_117 : decode cX1_goPlan 117 = .ok (.invokevirtual 399, 3) := dk_182 1 143 (dk_at dksX1_goPlan_5 0 rfl rfl)
theorem dX1_goPlan_120 : decode cX1_goPlan 120 = .ok (.iinc 3 1, 3) := dk_132 3 1 (dk_at dksX1_goPlan_5 3 rfl rfl)
theorem dX1_goPlan_123 : decode cX1_goPlan 123 = .ok (.goto (-71), 3) := dk_167 255 185 (dk_at dksX1_goPlan_5 6 rfl rfl)
theorem dX1_goPlan_126 : decode cX1_goPlan 126 = .ok (.return_, 1) := dk_177 (dk_at dksX1_goPlan_5 9 rfl rfl)
abbrev cX1_law : ByteArray := prog_1_method_60_code
def yX1_law : MethodName := ⟨RX1, "law", "()I"⟩
def dkwX1_law_5 : List UInt8 := [182, 1, 75, 21, 5, 21, 4, 100, 172]
abbrev dktX1_law_5 : List UInt8 := dkwX1_law_5 ++ []
def dkwX1_law_4 : List UInt8 := [43, 181, 0, 204, 25, 8, 191, 42, 3, 181, 0, 122, 42, 21, 5, 133, 182, 1, 75, 42, 21, 4, 133]
abbrev dktX1_law_4 : List UInt8 := dkwX1_law_4 ++ dktX1_law_5
def dkwX1_law_3 : List UInt8 := [58, 6, 17, 216, 240, 25, 6, 180, 0, 166, 100, 54, 7, 42, 43, 181, 0, 204, 21, 7, 172, 58, 8, 42]
abbrev dktX1_law_3 : List UInt8 := dkwX1_law_3 ++ dktX1_law_4
def dkwX1_law_2 : List UInt8 := [29, 183, 0, 210, 182, 0, 213, 181, 0, 204, 42, 182, 1, 148, 54, 5, 42, 43, 181, 0, 204, 167, 0, 34]
abbrev dktX1_law_2 : List UInt8 := dkwX1_law_2 ++ dktX1_law_3
def dkwX1_law_1 : List UInt8 := [181, 0, 135, 42, 182, 1, 148, 54, 4, 42, 29, 154, 0, 7, 1, 167, 0, 16, 187, 0, 208, 89, 42, 44]
abbrev dktX1_law_1 : List UInt8 := dkwX1_law_1 ++ dktX1_law_2
def dkwX1_law_0 : List UInt8 := [42, 180, 0, 204, 76, 42, 180, 0, 91, 182, 0, 199, 192, 0, 200, 77, 42, 180, 0, 135, 62, 42, 3]
abbrev dktX1_law_0 : List UInt8 := dkwX1_law_0 ++ dktX1_law_1
theorem dksX1_law_0 : cX1_law.data.toList.drop 0 = dktX1_law_0 := by decide +kernel
theorem dksX1_law_1 : cX1_law.data.toList.drop 23 = dktX1_law_1 := dk_seg dksX1_law_0 23 rfl rfl
theorem dksX1_law_2 : cX1_law.data.toList.drop 47 = dktX1_law_2 := dk_seg dksX1_law_1 24 rfl rfl
theorem dksX1_law_3 : cX1_law.data.toList.drop 71 = dktX1_law_3 := dk_seg dksX1_law_2 24 rfl rfl
theorem dksX1_law_4 : cX1_law.data.toList.drop 95 = dktX1_law_4 := dk_seg dksX1_law_3 24 rfl rfl
theorem dksX1_law_5 : cX1_law.data.toList.drop 118 = dktX1_law_5 := dk_seg dksX1_law_4 23 rfl rfl
theorem dX1_law_0 : decode cX1_law 0 = .ok (.aload_n 0, 1) := dk_42 (dk_at dksX1_law_0 0 rfl rfl)
theorem dX1_law_1 : decode cX1_law 1 = .ok (.getfield 204, 3) := dk_180 0 204 (dk_at dksX1_law_0 1 rfl rfl)
theorem dX1_law_4 : decode cX1_law 4 = .ok (.astore_n 1, 1) := dk_76 (dk_at dksX1_law_0 4 rfl rfl)
theorem dX1_law_5 : decode cX1_law 5 = .ok (.aload_n 0, 1) := dk_42 (dk_at dksX1_law_0 5 rfl rfl)
theorem dX1_law_6 : decode cX1_law 6 = .ok (.getfield 91, 3) := dk_180 0 91 (dk_at dksX1_law_0 6 rfl rfl)
theorem dX1_law_9 : decode cX1_law 9 = .ok (.invokevirtual 199, 3) := dk_182 0 199 (dk_at dksX1_law_0 9 rfl rfl)
theorem dX1_law_12 : decode cX1_law 12 = .ok (.checkcast 200, 3) := dk_192 0 200 (dk_at dksX1_law_0 12 rfl rfl)
theorem dX1_law_15 : decode cX1_law 15 = .ok (.astore_n 2, 1) := dk_77 (dk_at dksX1_law_0 15 rfl rfl)
theorem dX1_law_16 : decode cX1_law 16 = .ok (.aload_n 0, 1) := dk_42 (dk_at dksX1_law_0 16 rfl rfl)
theorem dX1_law_17 : decode cX1_law 17 = .ok (.getfield 135, 3) := dk_180 0 135 (dk_at dksX1_law_0 17 rfl rfl)
theorem dX1_law_20 : decode cX1_law 20 = .ok (.istore_n 3, 1) := dk_62 (dk_at dksX1_law_0 20 rfl rfl)
theorem dX1_law_21 : decode cX1_law 21 = .ok (.aload_n 0, 1) := dk_42 (dk_at dksX1_law_0 21 rfl rfl)
theorem dX1_law_22 : decode cX1_law 22 = .ok (.iconst 0, 1) := dk_3 (dk_at dksX1_law_0 22 rfl rfl)
theorem dX1_law_23 : decode cX1_law 23 = .ok (.putfield 135, 3) := dk_181 0 135 (dk_at dksX1_law_1 0 rfl rfl)
theorem dX1_law_26 : decode cX1_law 26 = .ok (.aload_n 0, 1) := dk_42 (dk_at dksX1_law_1 3 rfl rfl)
theorem dX1_law_27 : decode cX1_law 27 = .ok (.invokevirtual 404, 3) := dk_182 1 148 (dk_at dksX1_law_1 4 rfl rfl)
theorem dX1_law_30 : decode cX1_law 30 = .ok (.istore 4, 2) := dk_54 4 (dk_at dksX1_law_1 7 rfl rfl)
theorem dX1_law_32 : decode cX1_law 32 = .ok (.aload_n 0, 1) := dk_42 (dk_at dksX1_law_1 9 rfl rfl)
theorem dX1_law_33 : decode cX1_law 33 = .ok (.iload_n 3, 1) := dk_29 (dk_at dksX1_law_1 10 rfl rfl)
theorem dX1_law_34 : decode cX1_law 34 = .ok (.ifCond .ne 7, 3) := dk_154 0 7 (dk_at dksX1_law_1 11 rfl rfl)
theorem dX1_law_37 : decode cX1_law 37 = .ok (.aconst_null, 1) := dk_1 (dk_at dksX1_law_1 14 rfl rfl)
theorem dX1_law_38 : decode cX1_law 38 = .ok (.goto 16, 3) := dk_167 0 16 (dk_at dksX1_law_1 15 rfl rfl)
theorem dX1_law_41 : decode cX1_law 41 = .ok (.new 208, 3) := dk_187 0 208 (dk_at dksX1_law_1 18 rfl rfl)
theorem dX1_law_44 : decode cX1_law 44 = .ok (.dup, 1) := dk_89 (dk_at dksX1_law_1 21 rfl rfl)
theorem dX1_law_45 : decode cX1_law 45 = .ok (.aload_n 0, 1) := dk_42 (dk_at dksX1_law_1 22 rfl rfl)
theorem dX1_law_46 : decode cX1_law 46 = .ok (.aload_n 2, 1) := dk_44 (dk_at dksX1_law_1 23 rfl rfl)
theorem dX1_law_47 : decode cX1_law 47 = .ok (.iload_n 3, 1) := dk_29 (dk_at dksX1_law_2 0 rfl rfl)
theorem dX1_law_48 : decode cX1_law 48 = .ok (.invokespecial 210, 3) := dk_183 0 210 (dk_at dksX1_law_2 1 rfl rfl)
theorem dX1_law_51 : decode cX1_law 51 = .ok (.invokevirtual 213, 3) := dk_182 0 213 (dk_at dksX1_law_2 4 rfl rfl)
theorem dX1_law_54 : decode cX1_law 54 = .ok (.putfield 204, 3) := dk_181 0 204 (dk_at dksX1_law_2 7 rfl rfl)
theorem dX1_law_57 : decode cX1_law 57 = .ok (.aload_n 0, 1) := dk_42 (dk_at dksX1_law_2 10 rfl rfl)
theorem dX1_law_58 : decode cX1_law 58 = .ok (.invokevirtual 404, 3) := dk_182 1 148 (dk_at dksX1_law_2 11 rfl rfl)
theorem dX1_law_61 : decode cX1_law 61 = .ok (.istore 5, 2) := dk_54 5 (dk_at dksX1_law_2 14 rfl rfl)
theorem dX1_law_63 : decode cX1_law 63 = .ok (.aload_n 0, 1) := dk_42 (dk_at dksX1_law_2 16 rfl rfl)
theorem dX1_law_64 : decode cX1_law 64 = .ok (.aload_n 1, 1) := dk_43 (dk_at dksX1_law_2 17 rfl rfl)
theorem dX1_law_65 : decode cX1_law 65 = .ok (.putfield 204, 3) := dk_181 0 204 (dk_at dksX1_law_2 18 rfl rfl)
theorem dX1_law_68 : decode cX1_law 68 = .ok (.goto 34, 3) := dk_167 0 34 (dk_at dksX1_law_2 21 rfl rfl)
theorem dX1_law_71 : decode cX1_law 71 = .ok (.astore 6, 2) := dk_58 6 (dk_at dksX1_law_3 0 rfl rfl)
theorem dX1_law_73 : decode cX1_law 73 = .ok (.sipush (-10000), 3) := dk_17 216 240 (dk_at dksX1_law_3 2 rfl rfl)
theorem dX1_law_76 : decode cX1_law 76 = .ok (.aload 6, 2) := dk_25 6 (dk_at dksX1_law_3 5 rfl rfl)
theorem dX1_law_78 : decode cX1_law 78 = .ok (.getfield 166, 3) := dk_180 0 166 (dk_at dksX1_law_3 7 rfl rfl)
theorem dX1_law_81 : decode cX1_law 81 = .ok (.isub, 1) := dk_100 (dk_at dksX1_law_3 10 rfl rfl)
theorem dX1_law_82 : decode cX1_law 82 = .ok (.istore 7, 2) := dk_54 7 (dk_at dksX1_law_3 11 rfl rfl)
theorem dX1_law_84 : decode cX1_law 84 = .ok (.aload_n 0, 1) := dk_42 (dk_at dksX1_law_3 13 rfl rfl)
theorem dX1_law_85 : decode cX1_law 85 = .ok (.aload_n 1, 1) := dk_43 (dk_at dksX1_law_3 14 rfl rfl)
theorem dX1_law_86 : decode cX1_law 86 = .ok (.putfield 204, 3) := dk_181 0 204 (dk_at dksX1_law_3 15 rfl rfl)
theorem dX1_law_89 : decode cX1_law 89 = .ok (.iload 7, 2) := dk_21 7 (dk_at dksX1_law_3 18 rfl rfl)
theorem dX1_law_91 : decode cX1_law 91 = .ok (.ireturn, 1) := dk_172 (dk_at dksX1_law_3 20 rfl rfl)
theorem dX1_law_92 : decode cX1_law 92 = .ok (.astore 8, 2) := dk_58 8 (dk_at dksX1_law_3 21 rfl rfl)
theorem dX1_law_94 : decode cX1_law 94 = .ok (.aload_n 0, 1) := dk_42 (dk_at dksX1_law_3 23 rfl rfl)
theorem dX1_law_95 : decode cX1_law 95 = .ok (.aload_n 1, 1) := dk_43 (dk_at dksX1_law_4 0 rfl rfl)
theorem dX1_law_96 : decode cX1_law 96 = .ok (.putfield 204, 3) := dk_181 0 204 (dk_at dksX1_law_4 1 rfl rfl)
theorem dX1_law_99 : decode cX1_law 99 = .ok (.aload 8, 2) := dk_25 8 (dk_at dksX1_law_4 4 rfl rfl)
theorem dX1_law_101 : decode cX1_law 101 = .ok (.athrow, 1) := dk_191 (dk_at dksX1_law_4 6 rfl rfl)
theorem dX1_law_102 : decode cX1_law 102 = .ok (.aload_n 0, 1) := dk_42 (dk_at dksX1_law_4 7 rfl rfl)
theorem dX1_law_103 : decode cX1_law 103 = .ok (.iconst 0, 1) := dk_3 (dk_at dksX1_law_4 8 rfl rfl)
theorem dX1_law_104 : decode cX1_law 104 = .ok (.putfield 122, 3) := dk_181 0 122 (dk_at dksX1_law_4 9 rfl rfl)
theorem dX1_law_107 : decode cX1_law 107 = .ok (.aload_n 0, 1) := dk_42 (dk_at dksX1_law_4 12 rfl rfl)
theorem dX1_law_108 : decode cX1_law 108 = .ok (.iload 5, 2) := dk_21 5 (dk_at dksX1_law_4 13 rfl rfl)
theorem dX1_law_110 : decode cX1_law 110 = .ok (.i2l, 1) := dk_133 (dk_at dksX1_law_4 15 rfl rfl)
theorem dX1_law_111 : decode cX1_law 111 = .ok (.invokevirtual 331, 3) := dk_182 1 75 (dk_at dksX1_law_4 16 rfl rfl)
theorem dX1_law_114 : decode cX1_law 114 = .ok (.aload_n 0, 1) := dk_42 (dk_at dksX1_law_4 19 rfl rfl)
theorem dX1_law_115 : decode cX1_law 115 = .ok (.iload 4, 2) := dk_21 4 (dk_at dksX1_law_4 20 rfl rfl)
theorem dX1_law_117 : decode cX1_law 117 = .ok (.i2l, 1) := dk_133 (dk_at dksX1_law_4 22 rfl rfl)
theorem dX1_law_118 : decode cX1_law 118 = .ok (.invokevirtual 331, 3) := dk_182 1 75 (dk_at dksX1_law_5 0 rfl rfl)
theorem dX1_law_121 : decode cX1_law 121 = .ok (.iload 5, 2) := dk_21 5 (dk_at dksX1_law_5 3 rfl rfl)
theorem dX1_law_123 : decode cX1_law 123 = .ok (.iload 4, 2) := dk_21 4 (dk_at dksX1_law_5 5 rfl rfl)
theorem dX1_law_125 : decode cX1_law 125 = .ok (.isub, 1) := dk_100 (dk_at dksX1_law_5 7 rfl rfl)
theorem dX1_law_126 : decode cX1_law 126 = .ok (.ireturn, 1) := dk_172 (dk_at dksX1_law_5 8 rfl rfl)
abbrev cX1_treesIn10 : ByteArray := prog_1_method_59_code
def yX1_treesIn10 : MethodName := ⟨RX1, "treesIn10", "()I"⟩
def dkwX1_treesIn10_1 : List UInt8 := [180, 0, 56, 180, 1, 46, 172]
abbrev dktX1_treesIn10_1 : List UInt8 := dkwX1_treesIn10_1 ++ []
def dkwX1_treesIn10_0 : List UInt8 := [42, 180, 0, 56, 42, 180, 0, 49, 182, 1, 37, 42, 42, 180, 0, 56, 16, 10, 182, 1, 72, 87, 42]
abbrev dktX1_treesIn10_0 : List UInt8 := dkwX1_treesIn10_0 ++ dktX1_treesIn10_1
theorem dksX1_treesIn10_0 : cX1_treesIn10.data.toList.drop 0 = dktX1_treesIn10_0 := by decide +kernel
theorem dksX1_treesIn10_1 : cX1_treesIn10.data.toList.drop 23 = dktX1_treesIn10_1 := dk_seg dksX1_treesIn10_0 23 rfl rfl
theorem dX1_treesIn10_0 : decode cX1_treesIn10 0 = .ok (.aload_n 0, 1) := dk_42 (dk_at dksX1_treesIn10_0 0 rfl rfl)
theorem dX1_treesIn10_1 : decode cX1_treesIn10 1 = .ok (.getfield 56, 3) := dk_180 0 56 (dk_at dksX1_treesIn10_0 1 rfl rfl)
theorem dX1_treesIn10_4 : decode cX1_treesIn10 4 = .ok (.aload_n 0, 1) := dk_42 (dk_at dksX1_treesIn10_0 4 rfl rfl)
theorem dX1_treesIn10_5 : decode cX1_treesIn10 5 = .ok (.getfield 49, 3) := dk_180 0 49 (dk_at dksX1_treesIn10_0 5 rfl rfl)
theorem dX1_treesIn10_8 : decode cX1_treesIn10 8 = .ok (.invokevirtual 293, 3) := dk_182 1 37 (dk_at dksX1_treesIn10_0 8 rfl rfl)
theorem dX1_treesIn10_11 : decode cX1_treesIn10 11 = .ok (.aload_n 0, 1) := dk_42 (dk_at dksX1_treesIn10_0 11 rfl rfl)
theorem dX1_treesIn10_12 : decode cX1_treesIn10 12 = .ok (.aload_n 0, 1) := dk_42 (dk_at dksX1_treesIn10_0 12 rfl rfl)
theorem dX1_treesIn10_13 : decode cX1_treesIn10 13 = .ok (.getfield 56, 3) := dk_180 0 56 (dk_at dksX1_treesIn10_0 13 rfl rfl)
theorem dX1_treesIn10_16 : decode cX1_treesIn10 16 = .ok (.bipush 10, 2) := dk_16 10 (dk_at dksX1_treesIn10_0 16 rfl rfl)
theorem dX1_treesIn10_18 : decode cX1_treesIn10 18 = .ok (.invokevirtual 328, 3) := dk_182 1 72 (dk_at dksX1_treesIn10_0 18 rfl rfl)
theorem dX1_treesIn10_21 : decode cX1_treesIn10 21 = .ok (.pop, 1) := dk_87 (dk_at dksX1_treesIn10_0 21 rfl rfl)
theorem dX1_treesIn10_22 : decode cX1_treesIn10 22 = .ok (.aload_n 0, 1) := dk_42 (dk_at dksX1_treesIn10_0 22 rfl rfl)
theorem dX1_treesIn10_23 : decode cX1_treesIn10 23 = .ok (.getfield 56, 3) := dk_180 0 56 (dk_at dksX1_treesIn10_1 0 rfl rfl)
theorem dX1_treesIn10_26 : decode cX1_treesIn10 26 = .ok (.getfield 302, 3) := dk_180 1 46 (dk_at dksX1_treesIn10_1 3 rfl rfl)
theorem dX1_treesIn10_29 : decode cX1_treesIn10 29 = .ok (.ireturn, 1) := dk_172 (dk_at dksX1_treesIn10_1 6 rfl rfl)
abbrev cX1_sail : ByteArray := prog_1_method_63_code
def yX1_sail : MethodName := ⟨RX1, "sail", "(II)I"⟩
def dkwX1_sail_3 : List UInt8 := [182, 1, 75, 21, 4, 172]
abbrev dktX1_sail_3 : List UInt8 := dkwX1_sail_3 ++ []
def dkwX1_sail_2 : List UInt8 := [182, 1, 154, 54, 4, 42, 3, 181, 0, 122, 42, 29, 133, 182, 1, 75, 42, 42, 180, 1, 151, 133]
abbrev dktX1_sail_2 : List UInt8 := dkwX1_sail_2 ++ dktX1_sail_3
def dkwX1_sail_1 : List UInt8 := [9, 20, 1, 159, 184, 0, 129, 154, 0, 5, 2, 172, 42, 27, 28, 182, 1, 161, 62, 42, 27, 28, 29]
abbrev dktX1_sail_1 : List UInt8 := dkwX1_sail_1 ++ dktX1_sail_2
def dkwX1_sail_0 : List UInt8 := [42, 180, 0, 192, 154, 0, 6, 16, 254, 172, 27, 133, 10, 20, 1, 157, 184, 0, 129, 153, 0, 15, 28, 133]
abbrev dktX1_sail_0 : List UInt8 := dkwX1_sail_0 ++ dktX1_sail_1
theorem dksX1_sail_0 : cX1_sail.data.toList.drop 0 = dktX1_sail_0 := by decide +kernel
theorem dksX1_sail_1 : cX1_sail.data.toList.drop 24 = dktX1_sail_1 := dk_seg dksX1_sail_0 24 rfl rfl
theorem dksX1_sail_2 : cX1_sail.data.toList.drop 47 = dktX1_sail_2 := dk_seg dksX1_sail_1 23 rfl rfl
theorem dksX1_sail_3 : cX1_sail.data.toList.drop 69 = dktX1_sail_3 := dk_seg dksX1_sail_2 22 rfl rfl
theorem dX1_sail_0 : decode cX1_sail 0 = .ok (.aload_n 0, 1) := dk_42 (dk_at dksX1_sail_0 0 rfl rfl)
theorem dX1_sail_1 : decode cX1_sail 1 = .ok (.getfield 192, 3) := dk_180 0 192 (dk_at dksX1_sail_0 1 rfl rfl)
theorem dX1_sail_4 : decode cX1_sail 4 = .ok (.ifCond .ne 6, 3) := dk_154 0 6 (dk_at dksX1_sail_0 4 rfl rfl)
theorem dX1_sail_7 : decode cX1_sail 7 = .ok (.bipush (-2), 2) := dk_16 254 (dk_at dksX1_sail_0 7 rfl rfl)
theorem dX1_sail_9 : decode cX1_sail 9 = .ok (.ireturn, 1) := dk_172 (dk_at dksX1_sail_0 9 rfl rfl)
theorem dX1_sail_10 : decode cX1_sail 10 = .ok (.iload_n 1, 1) := dk_27 (dk_at dksX1_sail_0 10 rfl rfl)
theorem dX1_sail_11 : decode cX1_sail 11 = .ok (.i2l, 1) := dk_133 (dk_at dksX1_sail_0 11 rfl rfl)
theorem dX1_sail_12 : decode cX1_sail 12 = .ok (.lconst 1, 1) := dk_10 (dk_at dksX1_sail_0 12 rfl rfl)
theorem dX1_sail_13 : decode cX1_sail 13 = .ok (.ldc2_w 413, 3) := dk_20 1 157 (dk_at dksX1_sail_0 13 rfl rfl)
theorem dX1_sail_16 : decode cX1_sail 16 = .ok (.invokestatic 129, 3) := dk_184 0 129 (dk_at dksX1_sail_0 16 rfl rfl)
theorem dX1_sail_19 : decode cX1_sail 19 = .ok (.ifCond .eq 15, 3) := dk_153 0 15 (dk_at dksX1_sail_0 19 rfl rfl)
theorem dX1_sail_22 : decode cX1_sail 22 = .ok (.iload_n 2, 1) := dk_28 (dk_at dksX1_sail_0 22 rfl rfl)
theorem dX1_sail_23 : decode cX1_sail 23 = .ok (.i2l, 1) := dk_133 (dk_at dksX1_sail_0 23 rfl rfl)
theorem dX1_sail_24 : decode cX1_sail 24 = .ok (.lconst 0, 1) := dk_9 (dk_at dksX1_sail_1 0 rfl rfl)
theorem dX1_sail_25 : decode cX1_sail 25 = .ok (.ldc2_w 415, 3) := dk_20 1 159 (dk_at dksX1_sail_1 1 rfl rfl)
theorem dX1_sail_28 : decode cX1_sail 28 = .ok (.invokestatic 129, 3) := dk_184 0 129 (dk_at dksX1_sail_1 4 rfl rfl)
theorem dX1_sail_31 : decode cX1_sail 31 = .ok (.ifCond .ne 5, 3) := dk_154 0 5 (dk_at dksX1_sail_1 7 rfl rfl)
theorem dX1_sail_34 : decode cX1_sail 34 = .ok (.iconst (-1), 1) := dk_2 (dk_at dksX1_sail_1 10 rfl rfl)
theorem dX1_sail_35 : decode cX1_sail 35 = .ok (.ireturn, 1) := dk_172 (dk_at dksX1_sail_1 11 rfl rfl)
theorem dX1_sail_36 : decode cX1_sail 36 = .ok (.aload_n 0, 1) := dk_42 (dk_at dksX1_sail_1 12 rfl rfl)
theorem dX1_sail_37 : decode cX1_sail 37 = .ok (.iload_n 1, 1) := dk_27 (dk_at dksX1_sail_1 13 rfl rfl)
theorem dX1_sail_38 : decode cX1_sail 38 = .ok (.iload_n 2, 1) := dk_28 (dk_at dksX1_sail_1 14 rfl rfl)
theorem dX1_sail_39 : decode cX1_sail 39 = .ok (.invokevirtual 417, 3) := dk_182 1 161 (dk_at dksX1_sail_1 15 rfl rfl)
theorem dX1_sail_42 : decode cX1_sail 42 = .ok (.istore_n 3, 1) := dk_62 (dk_at dksX1_sail_1 18 rfl rfl)
theorem dX1_sail_43 : decode cX1_sail 43 = .ok (.aload_n 0, 1) := dk_42 (dk_at dksX1_sail_1 19 rfl rfl)
theorem dX1_sail_44 : decode cX1_sail 44 = .ok (.iload_n 1, 1) := dk_27 (dk_at dksX1_sail_1 20 rfl rfl)
theorem dX1_sail_45 : decode cX1_sail 45 = .ok (.iload_n 2, 1) := dk_28 (dk_at dksX1_sail_1 21 rfl rfl)
theorem dX1_sail_46 : decode cX1_sail 46 = .ok (.iload_n 3, 1) := dk_29 (dk_at dksX1_sail_1 22 rfl rfl)
theorem dX1_sail_47 : decode cX1_sail 47 = .ok (.invokevirtual 410, 3) := dk_182 1 154 (dk_at dksX1_sail_2 0 rfl rfl)
theorem dX1_sail_50 : decode cX1_sail 50 = .ok (.istore 4, 2) := dk_54 4 (dk_at dksX1_sail_2 3 rfl rfl)
theorem dX1_sail_52 : decode cX1_sail 52 = .ok (.aload_n 0, 1) := dk_42 (dk_at dksX1_sail_2 5 rfl rfl)
theorem dX1_sail_53 : decode cX1_sail 53 = .ok (.iconst 0, 1) := dk_3 (dk_at dksX1_sail_2 6 rfl rfl)
theorem dX1_sail_54 : decode cX1_sail 54 = .ok (.putfield 122, 3) := dk_181 0 122 (dk_at dksX1_sail_2 7 rfl rfl)
theorem dX1_sail_57 : decode cX1_sail 57 = .ok (.aload_n 0, 1) := dk_42 (dk_at dksX1_sail_2 10 rfl rfl)
theorem dX1_sail_58 : decode cX1_sail 58 = .ok (.iload_n 3, 1) := dk_29 (dk_at dksX1_sail_2 11 rfl rfl)
theorem dX1_sail_59 : decode cX1_sail 59 = .ok (.i2l, 1) := dk_133 (dk_at dksX1_sail_2 12 rfl rfl)
theorem dX1_sail_60 : decode cX1_sail 60 = .ok (.invokevirtual 331, 3) := dk_182 1 75 (dk_at dksX1_sail_2 13 rfl rfl)
theorem dX1_sail_63 : decode cX1_sail 63 = .ok (.aload_n 0, 1) := dk_42 (dk_at dksX1_sail_2 16 rfl rfl)
theorem dX1_sail_64 : decode cX1_sail 64 = .ok (.aload_n 0, 1) := dk_42 (dk_at dksX1_sail_2 17 rfl rfl)
theorem dX1_sail_65 : decode cX1_sail 65 = .ok (.getfield 407, 3) := dk_180 1 151 (dk_at dksX1_sail_2 18 rfl rfl)
theorem dX1_sail_68 : decode cX1_sail 68 = .ok (.i2l, 1) := dk_133 (dk_at dksX1_sail_2 21 rfl rfl)
theorem dX1_sail_69 : decode cX1_sail 69 = .ok (.invokevirtual 331, 3) := dk_182 1 75 (dk_at dksX1_sail_3 0 rfl rfl)
theorem dX1_sail_72 : decode cX1_sail 72 = .ok (.iload 4, 2) := dk_21 4 (dk_at dksX1_sail_3 3 rfl rfl)
theorem dX1_sail_74 : decode cX1_sail 74 = .ok (.ireturn, 1) := dk_172 (dk_at dksX1_sail_3 5 rfl rfl)
abbrev cX1_bestLandings : ByteArray := prog_1_method_62_code
def yX1_bestLandings : MethodName := ⟨RX1, "bestLandings", "(II)I"⟩
def dkwX1_bestLandings_2 : List UInt8 := [132, 5, 1, 167, 255, 215, 29, 172]
abbrev dktX1_bestLandings_2 : List UInt8 := dkwX1_bestLandings_2 ++ []
def dkwX1_bestLandings_1 : List UInt8 := [182, 1, 154, 54, 6, 21, 6, 21, 4, 163, 0, 6, 167, 0, 10, 21, 5, 62, 21, 6, 54, 4]
abbrev dktX1_bestLandings_1 : List UInt8 := dkwX1_bestLandings_1 ++ dktX1_bestLandings_2
def dkwX1_bestLandings_0 : List UInt8 := [3, 62, 2, 54, 4, 3, 54, 5, 21, 5, 4, 42, 180, 0, 192, 120, 162, 0, 36, 42, 27, 28, 21, 5]
abbrev dktX1_bestLandings_0 : List UInt8 := dkwX1_bestLandings_0 ++ dktX1_bestLandings_1
theorem dksX1_bestLandings_0 : cX1_bestLandings.data.toList.drop 0 = dktX1_bestLandings_0 := by decide +kernel
theorem dksX1_bestLandings_1 : cX1_bestLandings.data.toList.drop 24 = dktX1_bestLandings_1 := dk_seg dksX1_bestLandings_0 24 rfl rfl
theorem dksX1_bestLandings_2 : cX1_bestLandings.data.toList.drop 46 = dktX1_bestLandings_2 := dk_seg dksX1_bestLandings_1 22 rfl rfl
theorem dX1_bestLandings_0 : decode cX1_bestLandings 0 = .ok (.iconst 0, 1) := dk_3 (dk_at dksX1_bestLandings_0 0 rfl rfl)
theorem dX1_bestLandings_1 : decode cX1_bestLandings 1 = .ok (.istore_n 3, 1) := dk_62 (dk_at dksX1_bestLandings_0 1 rfl rfl)
theorem dX1_bestLandings_2 : decode cX1_bestLandings 2 = .ok (.iconst (-1), 1) := dk_2 (dk_at dksX1_bestLandings_0 2 rfl rfl)
theorem dX1_bestLandings_3 : decode cX1_bestLandings 3 = .ok (.istore 4, 2) := dk_54 4 (dk_at dksX1_bestLandings_0 3 rfl rfl)
theorem dX1_bestLandings_5 : decode cX1_bestLandings 5 = .ok (.iconst 0, 1) := dk_3 (dk_at dksX1_bestLandings_0 5 rfl rfl)
theorem dX1_bestLandings_6 : decode cX1_bestLandings 6 = .ok (.istore 5, 2) := dk_54 5 (dk_at dksX1_bestLandings_0 6 rfl rfl)
theorem dX1_bestLandings_8 : decode cX1_bestLandings 8 = .ok (.iload 5, 2) := dk_21 5 (dk_at dksX1_bestLandings_0 8 rfl rfl)
theorem dX1_bestLandings_10 : decode cX1_bestLandings 10 = .ok (.iconst 1, 1) := dk_4 (dk_at dksX1_bestLandings_0 10 rfl rfl)
theorem dX1_bestLandings_11 : decode cX1_bestLandings 11 = .ok (.aload_n 0, 1) := dk_42 (dk_at dksX1_bestLandings_0 11 rfl rfl)
theorem dX1_bestLandings_12 : decode cX1_bestLandings 12 = .ok (.getfield 192, 3) := dk_180 0 192 (dk_at dksX1_bestLandings_0 12 rfl rfl)
theorem dX1_bestLandings_15 : decode cX1_bestLandings 15 = .ok (.ishl, 1) := dk_120 (dk_at dksX1_bestLandings_0 15 rfl rfl)
theorem dX1_bestLandings_16 : decode cX1_bestLandings 16 = .ok (.if_icmp .ge 36, 3) := dk_162 0 36 (dk_at dksX1_bestLandings_0 16 rfl rfl)
theorem dX1_bestLandings_19 : decode cX1_bestLandings 19 = .ok (.aload_n 0, 1) := dk_42 (dk_at dksX1_bestLandings_0 19 rfl rfl)
theorem dX1_bestLandings_20 : decode cX1_bestLandings 20 = .ok (.iload_n 1, 1) := dk_27 (dk_at dksX1_bestLandings_0 20 rfl rfl)
theorem dX1_bestLandings_21 : decode cX1_bestLandings 21 = .ok (.iload_n 2, 1) := dk_28 (dk_at dksX1_bestLandings_0 21 rfl rfl)
theorem dX1_bestLandings_22 : decode cX1_bestLandings 22 = .ok (.iload 5, 2) := dk_21 5 (dk_at dksX1_bestLandings_0 22 rfl rfl)
theorem dX1_bestLandings_24 : decode cX1_bestLandings 24 = .ok (.invokevirtual 410, 3) := dk_182 1 154 (dk_at dksX1_bestLandings_1 0 rfl rfl)
theorem dX1_bestLandings_27 : decode cX1_bestLandings 27 = .ok (.istore 6, 2) := dk_54 6 (dk_at dksX1_bestLandings_1 3 rfl rfl)
theorem dX1_bestLandings_29 : decode cX1_bestLandings 29 = .ok (.iload 6, 2) := dk_21 6 (dk_at dksX1_bestLandings_1 5 rfl rfl)
theorem dX1_bestLandings_31 : decode cX1_bestLandings 31 = .ok (.iload 4, 2) := dk_21 4 (dk_at dksX1_bestLandings_1 7 rfl rfl)
theorem dX1_bestLandings_33 : decode cX1_bestLandings 33 = .ok (.if_icmp .gt 6, 3) := dk_163 0 6 (dk_at dksX1_bestLandings_1 9 rfl rfl)
theorem dX1_bestLandings_36 : decode cX1_bestLandings 36 = .ok (.goto 10, 3) := dk_167 0 10 (dk_at dksX1_bestLandings_1 12 rfl rfl)
theorem dX1_bestLandings_39 : decode cX1_bestLandings 39 = .ok (.iload 5, 2) := dk_21 5 (dk_at dksX1_bestLandings_1 15 rfl rfl)
theorem dX1_bestLandings_41 : decode cX1_bestLandings 41 = .ok (.istore_n 3, 1) := dk_62 (dk_at dksX1_bestLandings_1 17 rfl rfl)
theorem dX1_bestLandings_42 : decode cX1_bestLandings 42 = .ok (.iload 6, 2) := dk_21 6 (dk_at dksX1_bestLandings_1 18 rfl rfl)
theorem dX1_bestLandings_44 : decode cX1_bestLandings 44 = .ok (.istore 4, 2) := dk_54 4 (dk_at dksX1_bestLandings_1 20 rfl rfl)
theorem dX1_bestLandings_46 : decode cX1_bestLandings 46 = .ok (.iinc 5 1, 3) := dk_132 5 1 (dk_at dksX1_bestLandings_2 0 rfl rfl)
theorem dX1_bestLandings_49 : decode cX1_bestLandings 49 = .ok (.goto (-41), 3) := dk_167 255 215 (dk_at dksX1_bestLandings_2 3 rfl rfl)
theorem dX1_bestLandings_52 : decode cX1_bestLandings 52 = .ok (.iload_n 3, 1) := dk_29 (dk_at dksX1_bestLandings_2 6 rfl rfl)
theorem dX1_bestLandings_53 : decode cX1_bestLandings 53 = .ok (.ireturn, 1) := dk_172 (dk_at dksX1_bestLandings_2 7 rfl rfl)
abbrev cX1_aliveBy : ByteArray := prog_1_method_61_code
def yX1_aliveBy : MethodName := ⟨RX1, "aliveBy", "(III)I"⟩
def dkwX1_aliveBy_5 : List UInt8 := [46, 100, 184, 1, 34, 54, 4, 132, 6, 1, 167, 255, 138, 42, 21, 5, 181, 1, 151, 21, 4, 172]
abbrev dktX1_aliveBy_5 : List UInt8 := dkwX1_aliveBy_5 ++ []
def dkwX1_aliveBy_4 : List UInt8 := [167, 0, 31, 21, 5, 42, 180, 0, 78, 21, 6, 46, 96, 54, 5, 3, 21, 4, 42, 180, 0, 81, 21, 6]
abbrev dktX1_aliveBy_4 : List UInt8 := dkwX1_aliveBy_4 ++ dktX1_aliveBy_5
def dkwX1_aliveBy_3 : List UInt8 := [167, 0, 4, 4, 100, 54, 4, 132, 7, 1, 167, 255, 196, 29, 21, 6, 184, 0, 221, 154, 0, 6]
abbrev dktX1_aliveBy_3 : List UInt8 := dkwX1_aliveBy_3 ++ dktX1_aliveBy_4
def dkwX1_aliveBy_2 : List UInt8 := [21, 8, 153, 0, 11, 21, 5, 21, 4, 100, 167, 0, 4, 3, 54, 5, 21, 4, 21, 8, 153, 0, 7, 3]
abbrev dktX1_aliveBy_2 : List UInt8 := dkwX1_aliveBy_2 ++ dktX1_aliveBy_3
def dkwX1_aliveBy_1 : List UInt8 := [180, 0, 75, 21, 6, 46, 162, 0, 54, 21, 5, 21, 4, 161, 0, 7, 4, 167, 0, 4, 3, 54, 8]
abbrev dktX1_aliveBy_1 : List UInt8 := dkwX1_aliveBy_1 ++ dktX1_aliveBy_2
def dkwX1_aliveBy_0 : List UInt8 := [27, 54, 4, 28, 54, 5, 3, 54, 6, 21, 6, 42, 180, 0, 192, 162, 0, 115, 3, 54, 7, 21, 7, 42]
abbrev dktX1_aliveBy_0 : List UInt8 := dkwX1_aliveBy_0 ++ dktX1_aliveBy_1
theorem dksX1_aliveBy_0 : cX1_aliveBy.data.toList.drop 0 = dktX1_aliveBy_0 := by decide +kernel
theorem dksX1_aliveBy_1 : cX1_aliveBy.data.toList.drop 24 = dktX1_aliveBy_1 := dk_seg dksX1_aliveBy_0 24 rfl rfl
theorem dksX1_aliveBy_2 : cX1_aliveBy.data.toList.drop 47 = dktX1_aliveBy_2 := dk_seg dksX1_aliveBy_1 23 rfl rfl
theorem dksX1_aliveBy_3 : cX1_aliveBy.data.toList.drop 71 = dktX1_aliveBy_3 := dk_seg dksX1_aliveBy_2 24 rfl rfl
theorem dksX1_aliveBy_4 : cX1_aliveBy.data.toList.drop 93 = dktX1_aliveBy_4 := dk_seg dksX1_aliveBy_3 22 rfl rfl
theorem dksX1_aliveBy_5 : cX1_aliveBy.data.toList.drop 117 = dktX1_aliveBy_5 := dk_seg dksX1_aliveBy_4 24 rfl rfl
theorem dX1_aliveBy_0 : decode cX1_aliveBy 0 = .ok (.iload_n 1, 1) := dk_27 (dk_at dksX1_aliveBy_0 0 rfl rfl)
theorem dX1_aliveBy_1 : decode cX1_aliveBy 1 = .ok (.istore 4, 2) := dk_54 4 (dk_at dksX1_aliveBy_0 1 rfl rfl)
theorem dX1_aliveBy_3 : decode cX1_aliveBy 3 = .ok (.iload_n 2, 1) := dk_28 (dk_at dksX1_aliveBy_0 3 rfl rfl)
theorem dX1_aliveBy_4 : decode cX1_aliveBy 4 = .ok (.istore 5, 2) := dk_54 5 (dk_at dksX1_aliveBy_0 4 rfl rfl)
theorem dX1_aliveBy_6 : decode cX1_aliveBy 6 = .ok (.iconst 0, 1) := dk_3 (dk_at dksX1_aliveBy_0 6 rfl rfl)
theorem dX1_aliveBy_7 : decode cX1_aliveBy 7 = .ok (.istore 6, 2) := dk_54 6 (dk_at dksX1_aliveBy_0 7 rfl rfl)
theorem dX1_aliveBy_9 : decode cX1_aliveBy 9 = .ok (.iload 6, 2) := dk_21 6 (dk_at dksX1_aliveBy_0 9 rfl rfl)
theorem dX1_aliveBy_11 : decode cX1_aliveBy 11 = .ok (.aload_n 0, 1) := dk_42 (dk_at dksX1_aliveBy_0 11 rfl rfl)
theorem dX1_aliveBy_12 : decode cX1_aliveBy 12 = .ok (.getfield 192, 3) := dk_180 0 192 (dk_at dksX1_aliveBy_0 12 rfl rfl)
theorem dX1_aliveBy_15 : decode cX1_aliveBy 15 = .ok (.if_icmp .ge 115, 3) := dk_162 0 115 (dk_at dksX1_aliveBy_0 15 rfl rfl)
theorem dX1_aliveBy_18 : decode cX1_aliveBy 18 = .ok (.iconst 0, 1) := dk_3 (dk_at dksX1_aliveBy_0 18 rfl rfl)
theorem dX1_aliveBy_19 : decode cX1_aliveBy 19 = .ok (.istore 7, 2) := dk_54 7 (dk_at dksX1_aliveBy_0 19 rfl rfl)
theorem dX1_aliveBy_21 : decode cX1_aliveBy 21 = .ok (.iload 7, 2) := dk_21 7 (dk_at dksX1_aliveBy_0 21 rfl rfl)
theorem dX1_aliveBy_23 : decode cX1_aliveBy 23 = .ok (.aload_n 0, 1) := dk_42 (dk_at dksX1_aliveBy_0 23 rfl rfl)
theorem dX1_aliveBy_24 : decode cX1_aliveBy 24 = .ok (.getfield 75, 3) := dk_180 0 75 (dk_at dksX1_aliveBy_1 0 rfl rfl)
theorem dX1_aliveBy_27 : decode cX1_aliveBy 27 = .ok (.iload 6, 2) := dk_21 6 (dk_at dksX1_aliveBy_1 3 rfl rfl)
theorem dX1_aliveBy_29 : decode cX1_aliveBy 29 = .ok (.iaload, 1) := dk_46 (dk_at dksX1_aliveBy_1 5 rfl rfl)
theorem dX1_aliveBy_30 : decode cX1_aliveBy 30 = .ok (.if_icmp .ge 54, 3) := dk_162 0 54 (dk_at dksX1_aliveBy_1 6 rfl rfl)
theorem dX1_aliveBy_33 : decode cX1_aliveBy 33 = .ok (.iload 5, 2) := dk_21 5 (dk_at dksX1_aliveBy_1 9 rfl rfl)
theorem dX1_aliveBy_35 : decode cX1_aliveBy 35 = .ok (.iload 4, 2) := dk_21 4 (dk_at dksX1_aliveBy_1 11 rfl rfl)
theorem dX1_aliveBy_37 : decode cX1_aliveBy 37 = .ok (.if_icmp .lt 7, 3) := dk_161 0 7 (dk_at dksX1_aliveBy_1 13 rfl rfl)
theorem dX1_aliveBy_40 : decode cX1_aliveBy 40 = .ok (.iconst 1, 1) := dk_4 (dk_at dksX1_aliveBy_1 16 rfl rfl)
theorem dX1_aliveBy_41 : decode cX1_aliveBy 41 = .ok (.goto 4, 3) := dk_167 0 4 (dk_at dksX1_aliveBy_1 17 rfl rfl)
theorem dX1_aliveBy_44 : decode cX1_aliveBy 44 = .ok (.iconst 0, 1) := dk_3 (dk_at dksX1_aliveBy_1 20 rfl rfl)
theorem dX1_aliveBy_45 : decode cX1_aliveBy 45 = .ok (.istore 8, 2) := dk_54 8 (dk_at dksX1_aliveBy_1 21 rfl rfl)
theorem dX1_aliveBy_47 : decode cX1_aliveBy 47 = .ok (.iload 8, 2) := dk_21 8 (dk_at dksX1_aliveBy_2 0 rfl rfl)
theorem dX1_aliveBy_49 : decode cX1_aliveBy 49 = .ok (.ifCond .eq 11, 3) := dk_153 0 11 (dk_at dksX1_aliveBy_2 2 rfl rfl)
theorem dX1_aliveBy_52 : decode cX1_aliveBy 52 = .ok (.iload 5, 2) := dk_21 5 (dk_at dksX1_aliveBy_2 5 rfl rfl)
theorem dX1_aliveBy_54 : decode cX1_aliveBy 54 = .ok (.iload 4, 2) := dk_21 4 (dk_at dksX1_aliveBy_2 7 rfl rfl)
theorem dX1_aliveBy_56 : decode cX1_aliveBy 56 = .ok (.isub, 1) := dk_100 (dk_at dksX1_aliveBy_2 9 rfl rfl)
theorem dX1_aliveBy_57 : decode cX1_aliveBy 57 = .ok (.goto 4, 3) := dk_167 0 4 (dk_at dksX1_aliveBy_2 10 rfl rfl)
theorem dX1_aliveBy_60 : decode cX1_aliveBy 60 = .ok (.iconst 0, 1) := dk_3 (dk_at dksX1_aliveBy_2 13 rfl rfl)
theorem dX1_aliveBy_61 : decode cX1_aliveBy 61 = .ok (.istore 5, 2) := dk_54 5 (dk_at dksX1_aliveBy_2 14 rfl rfl)
theorem dX1_aliveBy_63 : decode cX1_aliveBy 63 = .ok (.iload 4, 2) := dk_21 4 (dk_at dksX1_aliveBy_2 16 rfl rfl)
theorem dX1_aliveBy_65 : decode cX1_aliveBy 65 = .ok (.iload 8, 2) := dk_21 8 (dk_at dksX1_aliveBy_2 18 rfl rfl)
theorem dX1_aliveBy_67 : decode cX1_aliveBy 67 = .ok (.ifCond .eq 7, 3) := dk_153 0 7 (dk_at dksX1_aliveBy_2 20 rfl rfl)
theorem dX1_aliveBy_70 : decode cX1_aliveBy 70 = .ok (.iconst 0, 1) := dk_3 (dk_at dksX1_aliveBy_2 23 rfl rfl)
theorem dX1_aliveBy_71 : decode cX1_aliveBy 71 = .ok (.goto 4, 3) := dk_167 0 4 (dk_at dksX1_aliveBy_3 0 rfl rfl)
theorem dX1_aliveBy_74 : decode cX1_aliveBy 74 = .ok (.iconst 1, 1) := dk_4 (dk_at dksX1_aliveBy_3 3 rfl rfl)
theorem dX1_aliveBy_75 : decode cX1_aliveBy 75 = .ok (.isub, 1) := dk_100 (dk_at dksX1_aliveBy_3 4 rfl rfl)
theorem dX1_aliveBy_76 : decode cX1_aliveBy 76 = .ok (.istore 4, 2) := dk_54 4 (dk_at dksX1_aliveBy_3 5 rfl rfl)
theorem dX1_aliveBy_78 : decode cX1_aliveBy 78 = .ok (.iinc 7 1, 3) := dk_132 7 1 (dk_at dksX1_aliveBy_3 7 rfl rfl)
theorem dX1_aliveBy_81 : decode cX1_aliveBy 81 = .ok (.goto (-60), 3) := dk_167 255 196 (dk_at dksX1_aliveBy_3 10 rfl rfl)
theorem dX1_aliveBy_84 : decode cX1_aliveBy 84 = .ok (.iload_n 3, 1) := dk_29 (dk_at dksX1_aliveBy_3 13 rfl rfl)
theorem dX1_aliveBy_85 : decode cX1_aliveBy 85 = .ok (.iload 6, 2) := dk_21 6 (dk_at dksX1_aliveBy_3 14 rfl rfl)
theorem dX1_aliveBy_87 : decode cX1_aliveBy 87 = .ok (.invokestatic 221, 3) := dk_184 0 221 (dk_at dksX1_aliveBy_3 16 rfl rfl)
theorem dX1_aliveBy_90 : decode cX1_aliveBy 90 = .ok (.ifCond .ne 6, 3) := dk_154 0 6 (dk_at dksX1_aliveBy_3 19 rfl rfl)
theorem dX1_aliveBy_93 : decode cX1_aliveBy 93 = .ok (.goto 31, 3) := dk_167 0 31 (dk_at dksX1_aliveBy_4 0 rfl rfl)
theorem dX1_aliveBy_96 : decode cX1_aliveBy 96 = .ok (.iload 5, 2) := dk_21 5 (dk_at dksX1_aliveBy_4 3 rfl rfl)
theorem dX1_aliveBy_98 : decode cX1_aliveBy 98 = .ok (.aload_n 0, 1) := dk_42 (dk_at dksX1_aliveBy_4 5 rfl rfl)
theorem dX1_aliveBy_99 : decode cX1_aliveBy 99 = .ok (.getfield 78, 3) := dk_180 0 78 (dk_at dksX1_aliveBy_4 6 rfl rfl)
theorem dX1_aliveBy_102 : decode cX1_aliveBy 102 = .ok (.iload 6, 2) := dk_21 6 (dk_at dksX1_aliveBy_4 9 rfl rfl)
theorem dX1_aliveBy_104 : decode cX1_aliveBy 104 = .ok (.iaload, 1) := dk_46 (dk_at dksX1_aliveBy_4 11 rfl rfl)
theorem dX1_aliveBy_105 : decode cX1_aliveBy 105 = .ok (.iadd, 1) := dk_96 (dk_at dksX1_aliveBy_4 12 rfl rfl)
theorem dX1_aliveBy_106 : decode cX1_aliveBy 106 = .ok (.istore 5, 2) := dk_54 5 (dk_at dksX1_aliveBy_4 13 rfl rfl)
theorem dX1_aliveBy_108 : decode cX1_aliveBy 108 = .ok (.iconst 0, 1) := dk_3 (dk_at dksX1_aliveBy_4 15 rfl rfl)
theorem dX1_aliveBy_109 : decode cX1_aliveBy 109 = .ok (.iload 4, 2) := dk_21 4 (dk_at dksX1_aliveBy_4 16 rfl rfl)
theorem dX1_aliveBy_111 : decode cX1_aliveBy 111 = .ok (.aload_n 0, 1) := dk_42 (dk_at dksX1_aliveBy_4 18 rfl rfl)
theorem dX1_aliveBy_112 : decode cX1_aliveBy 112 = .ok (.getfield 81, 3) := dk_180 0 81 (dk_at dksX1_aliveBy_4 19 rfl rfl)
theorem dX1_aliveBy_115 : decode cX1_aliveBy 115 = .ok (.iload 6, 2) := dk_21 6 (dk_at dksX1_aliveBy_4 22 rfl rfl)
theorem dX1_aliveBy_117 : decode cX1_aliveBy 117 = .ok (.iaload, 1) := dk_46 (dk_at dksX1_aliveBy_5 0 rfl rfl)
theorem dX1_aliveBy_118 : decode cX1_aliveBy 118 = .ok (.isub, 1) := dk_100 (dk_at dksX1_aliveBy_5 1 rfl rfl)
theorem dX1_aliveBy_119 : decode cX1_aliveBy 119 = .ok (.invokestatic 290, 3) := dk_184 1 34 (dk_at dksX1_aliveBy_5 2 rfl rfl)
theorem dX1_aliveBy_122 : decode cX1_aliveBy 122 = .ok (.istore 4, 2) := dk_54 4 (dk_at dksX1_aliveBy_5 5 rfl rfl)
theorem dX1_aliveBy_124 : decode cX1_aliveBy 124 = .ok (.iinc 6 1, 3) := dk_132 6 1 (dk_at dksX1_aliveBy_5 7 rfl rfl)
theorem dX1_aliveBy_127 : decode cX1_aliveBy 127 = .ok (.goto (-118), 3) := dk_167 255 138 (dk_at dksX1_aliveBy_5 10 rfl rfl)
theorem dX1_aliveBy_130 : decode cX1_aliveBy 130 = .ok (.aload_n 0, 1) := dk_42 (dk_at dksX1_aliveBy_5 13 rfl rfl)
theorem dX1_aliveBy_131 : decode cX1_aliveBy 131 = .ok (.iload 5, 2) := dk_21 5 (dk_at dksX1_aliveBy_5 14 rfl rfl)
theorem dX1_aliveBy_133 : decode cX1_aliveBy 133 = .ok (.putfield 407, 3) := dk_181 1 151 (dk_at dksX1_aliveBy_5 16 rfl rfl)
theorem dX1_aliveBy_136 : decode cX1_aliveBy 136 = .ok (.iload 4, 2) := dk_21 4 (dk_at dksX1_aliveBy_5 19 rfl rfl)
theorem dX1_aliveBy_138 : decode cX1_aliveBy 138 = .ok (.ireturn, 1) := dk_172 (dk_at dksX1_aliveBy_5 21 rfl rfl)
abbrev cX1_bread : ByteArray := prog_1_method_64_code
def yX1_bread : MethodName := ⟨RX1, "bread", "(I)I"⟩
def dkwX1_bread_2 : List UInt8 := [132, 2, 1, 167, 255, 221, 16, 254, 172]
abbrev dktX1_bread_2 : List UInt8 := dkwX1_bread_2 ++ []
def dkwX1_bread_1 : List UInt8 := [180, 0, 192, 158, 0, 27, 42, 27, 28, 42, 27, 28, 182, 1, 161, 182, 1, 154, 27, 160, 0, 5, 28, 172]
abbrev dktX1_bread_1 : List UInt8 := dkwX1_bread_1 ++ dktX1_bread_2
def dkwX1_bread_0 : List UInt8 := [27, 133, 10, 20, 1, 157, 184, 0, 129, 154, 0, 5, 2, 172, 3, 61, 28, 17, 3, 231, 163, 0, 34, 42]
abbrev dktX1_bread_0 : List UInt8 := dkwX1_bread_0 ++ dktX1_bread_1
theorem dksX1_bread_0 : cX1_bread.data.toList.drop 0 = dktX1_bread_0 := by decide +kernel
theorem dksX1_bread_1 : cX1_bread.data.toList.drop 24 = dktX1_bread_1 := dk_seg dksX1_bread_0 24 rfl rfl
theorem dksX1_bread_2 : cX1_bread.data.toList.drop 48 = dktX1_bread_2 := dk_seg dksX1_bread_1 24 rfl rfl
theorem dX1_bread_0 : decode cX1_bread 0 = .ok (.iload_n 1, 1) := dk_27 (dk_at dksX1_bread_0 0 rfl rfl)
theorem dX1_bread_1 : decode cX1_bread 1 = .ok (.i2l, 1) := dk_133 (dk_at dksX1_bread_0 1 rfl rfl)
theorem dX1_bread_2 : decode cX1_bread 2 = .ok (.lconst 1, 1) := dk_10 (dk_at dksX1_bread_0 2 rfl rfl)
theorem dX1_bread_3 : decode cX1_bread 3 = .ok (.ldc2_w 413, 3) := dk_20 1 157 (dk_at dksX1_bread_0 3 rfl rfl)
theorem dX1_bread_6 : decode cX1_bread 6 = .ok (.invokestatic 129, 3) := dk_184 0 129 (dk_at dksX1_bread_0 6 rfl rfl)
theorem dX1_bread_9 : decode cX1_bread 9 = .ok (.ifCond .ne 5, 3) := dk_154 0 5 (dk_at dksX1_bread_0 9 rfl rfl)
theorem dX1_bread_12 : decode cX1_bread 12 = .ok (.iconst (-1), 1) := dk_2 (dk_at dksX1_bread_0 12 rfl rfl)
theorem dX1_bread_13 : decode cX1_bread 13 = .ok (.ireturn, 1) := dk_172 (dk_at dksX1_bread_0 13 rfl rfl)
theorem dX1_bread_14 : decode cX1_bread 14 = .ok (.iconst 0, 1) := dk_3 (dk_at dksX1_bread_0 14 rfl rfl)
theorem dX1_bread_15 : decode cX1_bread 15 = .ok (.istore_n 2, 1) := dk_61 (dk_at dksX1_bread_0 15 rfl rfl)
theorem dX1_bread_16 : decode cX1_bread 16 = .ok (.iload_n 2, 1) := dk_28 (dk_at dksX1_bread_0 16 rfl rfl)
theorem dX1_bread_17 : decode cX1_bread 17 = .ok (.sipush 999, 3) := dk_17 3 231 (dk_at dksX1_bread_0 17 rfl rfl)
theorem dX1_bread_20 : decode cX1_bread 20 = .ok (.if_icmp .gt 34, 3) := dk_163 0 34 (dk_at dksX1_bread_0 20 rfl rfl)
theorem dX1_bread_23 : decode cX1_bread 23 = .ok (.aload_n 0, 1) := dk_42 (dk_at dksX1_bread_0 23 rfl rfl)
theorem dX1_bread_24 : decode cX1_bread 24 = .ok (.getfield 192, 3) := dk_180 0 192 (dk_at dksX1_bread_1 0 rfl rfl)
theorem dX1_bread_27 : decode cX1_bread 27 = .ok (.ifCond .le 27, 3) := dk_158 0 27 (dk_at dksX1_bread_1 3 rfl rfl)
theorem dX1_bread_30 : decode cX1_bread 30 = .ok (.aload_n 0, 1) := dk_42 (dk_at dksX1_bread_1 6 rfl rfl)
theorem dX1_bread_31 : decode cX1_bread 31 = .ok (.iload_n 1, 1) := dk_27 (dk_at dksX1_bread_1 7 rfl rfl)
theorem dX1_bread_32 : decode cX1_bread 32 = .ok (.iload_n 2, 1) := dk_28 (dk_at dksX1_bread_1 8 rfl rfl)
theorem dX1_bread_33 : decode cX1_bread 33 = .ok (.aload_n 0, 1) := dk_42 (dk_at dksX1_bread_1 9 rfl rfl)
theorem dX1_bread_34 : decode cX1_bread 34 = .ok (.iload_n 1, 1) := dk_27 (dk_at dksX1_bread_1 10 rfl rfl)
theorem dX1_bread_35 : decode cX1_bread 35 = .ok (.iload_n 2, 1) := dk_28 (dk_at dksX1_bread_1 11 rfl rfl)
theorem dX1_bread_36 : decode cX1_bread 36 = .ok (.invokevirtual 417, 3) := dk_182 1 161 (dk_at dksX1_bread_1 12 rfl rfl)
theorem dX1_bread_39 : decode cX1_bread 39 = .ok (.invokevirtual 410, 3) := dk_182 1 154 (dk_at dksX1_bread_1 15 rfl rfl)
theorem dX1_bread_42 : decode cX1_bread 42 = .ok (.iload_n 1, 1) := dk_27 (dk_at dksX1_bread_1 18 rfl rfl)
theorem dX1_bread_43 : decode cX1_bread 43 = .ok (.if_icmp .ne 5, 3) := dk_160 0 5 (dk_at dksX1_bread_1 19 rfl rfl)
theorem dX1_bread_46 : decode cX1_bread 46 = .ok (.iload_n 2, 1) := dk_28 (dk_at dksX1_bread_1 22 rfl rfl)
theorem dX1_bread_47 : decode cX1_bread 47 = .ok (.ireturn, 1) := dk_172 (dk_at dksX1_bread_1 23 rfl rfl)
theorem dX1_bread_48 : decode cX1_bread 48 = .ok (.iinc 2 1, 3) := dk_132 2 1 (dk_at dksX1_bread_2 0 rfl rfl)
theorem dX1_bread_51 : decode cX1_bread 51 = .ok (.goto (-35), 3) := dk_167 255 221 (dk_at dksX1_bread_2 3 rfl rfl)
theorem dX1_bread_54 : decode cX1_bread 54 = .ok (.bipush (-2), 2) := dk_16 254 (dk_at dksX1_bread_2 6 rfl rfl)
theorem dX1_bread_56 : decode cX1_bread 56 = .ok (.ireturn, 1) := dk_172 (dk_at dksX1_bread_2 8 rfl rfl)
abbrev cX1_shares : ByteArray := prog_1_method_65_code
def yX1_shares : MethodName := ⟨RX1, "shares", "(III)I"⟩
def dkwX1_shares_2 : List UInt8 := [112, 133, 182, 1, 75, 16, 100, 27, 104, 28, 29, 104, 108, 172]
abbrev dktX1_shares_2 : List UInt8 := dkwX1_shares_2 ++ []
def dkwX1_shares_1 : List UInt8 := [29, 133, 10, 20, 1, 81, 184, 0, 129, 154, 0, 5, 2, 172, 42, 3, 181, 0, 122, 42, 27, 28, 29, 104]
abbrev dktX1_shares_1 : List UInt8 := dkwX1_shares_1 ++ dktX1_shares_2
def dkwX1_shares_0 : List UInt8 := [27, 133, 9, 20, 1, 159, 184, 0, 129, 153, 0, 27, 28, 133, 10, 20, 1, 157, 184, 0, 129, 153, 0, 15]
abbrev dktX1_shares_0 : List UInt8 := dkwX1_shares_0 ++ dktX1_shares_1
theorem dksX1_shares_0 : cX1_shares.data.toList.drop 0 = dktX1_shares_0 := by decide +kernel
theorem dksX1_shares_1 : cX1_shares.data.toList.drop 24 = dktX1_shares_1 := dk_seg dksX1_shares_0 24 rfl rfl
theorem dksX1_shares_2 : cX1_shares.data.toList.drop 48 = dktX1_shares_2 := dk_seg dksX1_shares_1 24 rfl rfl
theorem dX1_shares_0 : decode cX1_shares 0 = .ok (.iload_n 1, 1) := dk_27 (dk_at dksX1_shares_0 0 rfl rfl)
theorem dX1_shares_1 : decode cX1_shares 1 = .ok (.i2l, 1) := dk_133 (dk_at dksX1_shares_0 1 rfl rfl)
theorem dX1_shares_2 : decode cX1_shares 2 = .ok (.lconst 0, 1) := dk_9 (dk_at dksX1_shares_0 2 rfl rfl)
theorem dX1_shares_3 : decode cX1_shares 3 = .ok (.ldc2_w 415, 3) := dk_20 1 159 (dk_at dksX1_shares_0 3 rfl rfl)
theorem dX1_shares_6 : decode cX1_shares 6 = .ok (.invokestatic 129, 3) := dk_184 0 129 (dk_at dksX1_shares_0 6 rfl rfl)
theorem dX1_shares_9 : decode cX1_shares 9 = .ok (.ifCond .eq 27, 3) := dk_153 0 27 (dk_at dksX1_shares_0 9 rfl rfl)
theorem dX1_shares_12 : decode cX1_shares 12 = .ok (.iload_n 2, 1) := dk_28 (dk_at dksX1_shares_0 12 rfl rfl)
theorem dX1_shares_13 : decode cX1_shares 13 = .ok (.i2l, 1) := dk_133 (dk_at dksX1_shares_0 13 rfl rfl)
theorem dX1_shares_14 : decode cX1_shares 14 = .ok (.lconst 1, 1) := dk_10 (dk_at dksX1_shares_0 14 rfl rfl)
theorem dX1_shares_15 : decode cX1_shares 15 = .ok (.ldc2_w 413, 3) := dk_20 1 157 (dk_at dksX1_shares_0 15 rfl rfl)
theorem dX1_shares_18 : decode cX1_shares 18 = .ok (.invokestatic 129, 3) := dk_184 0 129 (dk_at dksX1_shares_0 18 rfl rfl)
theorem dX1_shares_21 : decode cX1_shares 21 = .ok (.ifCond .eq 15, 3) := dk_153 0 15 (dk_at dksX1_shares_0 21 rfl rfl)
theorem dX1_shares_24 : decode cX1_shares 24 = .ok (.iload_n 3, 1) := dk_29 (dk_at dksX1_shares_1 0 rfl rfl)
theorem dX1_shares_25 : decode cX1_shares 25 = .ok (.i2l, 1) := dk_133 (dk_at dksX1_shares_1 1 rfl rfl)
theorem dX1_shares_26 : decode cX1_shares 26 = .ok (.lconst 1, 1) := dk_10 (dk_at dksX1_shares_1 2 rfl rfl)
theorem dX1_shares_27 : decode cX1_shares 27 = .ok (.ldc2_w 337, 3) := dk_20 1 81 (dk_at dksX1_shares_1 3 rfl rfl)
theorem dX1_shares_30 : decode cX1_shares 30 = .ok (.invokestatic 129, 3) := dk_184 0 129 (dk_at dksX1_shares_1 6 rfl rfl)
theorem dX1_shares_33 : decode cX1_shares 33 = .ok (.ifCond .ne 5, 3) := dk_154 0 5 (dk_at dksX1_shares_1 9 rfl rfl)
theorem dX1_shares_36 : decode cX1_shares 36 = .ok (.iconst (-1), 1) := dk_2 (dk_at dksX1_shares_1 12 rfl rfl)
theorem dX1_shares_37 : decode cX1_shares 37 = .ok (.ireturn, 1) := dk_172 (dk_at dksX1_shares_1 13 rfl rfl)
theorem dX1_shares_38 : decode cX1_shares 38 = .ok (.aload_n 0, 1) := dk_42 (dk_at dksX1_shares_1 14 rfl rfl)
theorem dX1_shares_39 : decode cX1_shares 39 = .ok (.iconst 0, 1) := dk_3 (dk_at dksX1_shares_1 15 rfl rfl)
theorem dX1_shares_40 : decode cX1_shares 40 = .ok (.putfield 122, 3) := dk_181 0 122 (dk_at dksX1_shares_1 16 rfl rfl)
theorem dX1_shares_43 : decode cX1_shares 43 = .ok (.aload_n 0, 1) := dk_42 (dk_at dksX1_shares_1 19 rfl rfl)
theorem dX1_shares_44 : decode cX1_shares 44 = .ok (.iload_n 1, 1) := dk_27 (dk_at dksX1_shares_1 20 rfl rfl)
theorem dX1_shares_45 : decode cX1_shares 45 = .ok (.iload_n 2, 1) := dk_28 (dk_at dksX1_shares_1 21 rfl rfl)
theorem dX1_shares_46 : decode cX1_shares 46 = .ok (.iload_n 3, 1) := dk_29 (dk_at dksX1_shares_1 22 rfl rfl)
theorem dX1_shares_47 : decode cX1_shares 47 = .ok (.imul, 1) := dk_104 (dk_at dksX1_shares_1 23 rfl rfl)
theorem dX1_shares_48 : decode cX1_shares 48 = .ok (.irem, 1) := dk_112 (dk_at dksX1_shares_2 0 rfl rfl)
theorem dX1_shares_49 : decode cX1_shares 49 = .ok (.i2l, 1) := dk_133 (dk_at dksX1_shares_2 1 rfl rfl)
theorem dX1_shares_50 : decode cX1_shares 50 = .ok (.invokevirtual 331, 3) := dk_182 1 75 (dk_at dksX1_shares_2 2 rfl rfl)
theorem dX1_shares_53 : decode cX1_shares 53 = .ok (.bipush 100, 2) := dk_16 100 (dk_at dksX1_shares_2 5 rfl rfl)
theorem dX1_shares_55 : decode cX1_shares 55 = .ok (.iload_n 1, 1) := dk_27 (dk_at dksX1_shares_2 7 rfl rfl)
theorem dX1_shares_56 : decode cX1_shares 56 = .ok (.imul, 1) := dk_104 (dk_at dksX1_shares_2 8 rfl rfl)
theorem dX1_shares_57 : decode cX1_shares 57 = .ok (.iload_n 2, 1) := dk_28 (dk_at dksX1_shares_2 9 rfl rfl)
theorem dX1_shares_58 : decode cX1_shares 58 = .ok (.iload_n 3, 1) := dk_29 (dk_at dksX1_shares_2 10 rfl rfl)
theorem dX1_shares_59 : decode cX1_shares 59 = .ok (.imul, 1) := dk_104 (dk_at dksX1_shares_2 11 rfl rfl)
theorem dX1_shares_60 : decode cX1_shares 60 = .ok (.idiv, 1) := dk_108 (dk_at dksX1_shares_2 12 rfl rfl)
theorem dX1_shares_61 : decode cX1_shares 61 = .ok (.ireturn, 1) := dk_172 (dk_at dksX1_shares_2 13 rfl rfl)
abbrev cX1_searched : ByteArray := prog_1_method_66_code
def yX1_searched : MethodName := ⟨RX1, "searched", "(I)I"⟩
def dkwX1_searched_2 : List UInt8 := [181, 1, 164, 42, 180, 1, 164, 172]
abbrev dktX1_searched_2 : List UInt8 := dkwX1_searched_2 ++ []
def dkwX1_searched_1 : List UInt8 := [160, 0, 5, 2, 172, 42, 180, 0, 84, 27, 92, 46, 4, 96, 79, 42, 89, 180, 1, 164, 4, 96]
abbrev dktX1_searched_1 : List UInt8 := dkwX1_searched_1 ++ dktX1_searched_2
def dkwX1_searched_0 : List UInt8 := [27, 133, 9, 42, 180, 0, 192, 4, 100, 133, 184, 0, 129, 153, 0, 12, 42, 180, 1, 164, 16, 12]
abbrev dktX1_searched_0 : List UInt8 := dkwX1_searched_0 ++ dktX1_searched_1
theorem dksX1_searched_0 : cX1_searched.data.toList.drop 0 = dktX1_searched_0 := by decide +kernel
theorem dksX1_searched_1 : cX1_searched.data.toList.drop 22 = dktX1_searched_1 := dk_seg dksX1_searched_0 22 rfl rfl
theorem dksX1_searched_2 : cX1_searched.data.toList.drop 44 = dktX1_searched_2 := dk_seg dksX1_searched_1 22 rfl rfl
theorem dX1_searched_0 : decode cX1_searched 0 = .ok (.iload_n 1, 1) := dk_27 (dk_at dksX1_searched_0 0 rfl rfl)
theorem dX1_searched_1 : decode cX1_searched 1 = .ok (.i2l, 1) := dk_133 (dk_at dksX1_searched_0 1 rfl rfl)
theorem dX1_searched_2 : decode cX1_searched 2 = .ok (.lconst 0, 1) := dk_9 (dk_at dksX1_searched_0 2 rfl rfl)
theorem dX1_searched_3 : decode cX1_searched 3 = .ok (.aload_n 0, 1) := dk_42 (dk_at dksX1_searched_0 3 rfl rfl)
theorem dX1_searched_4 : decode cX1_searched 4 = .ok (.getfield 192, 3) := dk_180 0 192 (dk_at dksX1_searched_0 4 rfl rfl)
theorem dX1_searched_7 : decode cX1_searched 7 = .ok (.iconst 1, 1) := dk_4 (dk_at dksX1_searched_0 7 rfl rfl)
theorem dX1_searched_8 : decode cX1_searched 8 = .ok (.isub, 1) := dk_100 (dk_at dksX1_searched_0 8 rfl rfl)
theorem dX1_searched_9 : decode cX1_searched 9 = .ok (.i2l, 1) := dk_133 (dk_at dksX1_searched_0 9 rfl rfl)
theorem dX1_searched_10 : decode cX1_searched 10 = .ok (.invokestatic 129, 3) := dk_184 0 129 (dk_at dksX1_searched_0 10 rfl rfl)
theorem dX1_searched_13 : decode cX1_searched 13 = .ok (.ifCond .eq 12, 3) := dk_153 0 12 (dk_at dksX1_searched_0 13 rfl rfl)
theorem dX1_searched_16 : decode cX1_searched 16 = .ok (.aload_n 0, 1) := dk_42 (dk_at dksX1_searched_0 16 rfl rfl)
theorem dX1_searched_17 : decode cX1_searched 17 = .ok (.getfield 420, 3) := dk_180 1 164 (dk_at dksX1_searched_0 17 rfl rfl)
theorem dX1_searched_20 : decode cX1_searched 20 = .ok (.bipush 12, 2) := dk_16 12 (dk_at dksX1_searched_0 20 rfl rfl)
theorem dX1_searched_22 : decode cX1_searched 22 = .ok (.if_icmp .ne 5, 3) := dk_160 0 5 (dk_at dksX1_searched_1 0 rfl rfl)
theorem dX1_searched_25 : decode cX1_searched 25 = .ok (.iconst (-1), 1) := dk_2 (dk_at dksX1_searched_1 3 rfl rfl)
theorem dX1_searched_26 : decode cX1_searched 26 = .ok (.ireturn, 1) := dk_172 (dk_at dksX1_searched_1 4 rfl rfl)
theorem dX1_searched_27 : decode cX1_searched 27 = .ok (.aload_n 0, 1) := dk_42 (dk_at dksX1_searched_1 5 rfl rfl)
theorem dX1_searched_28 : decode cX1_searched 28 = .ok (.getfield 84, 3) := dk_180 0 84 (dk_at dksX1_searched_1 6 rfl rfl)
theorem dX1_searched_31 : decode cX1_searched 31 = .ok (.iload_n 1, 1) := dk_27 (dk_at dksX1_searched_1 9 rfl rfl)
theorem dX1_searched_32 : decode cX1_searched 32 = .ok (.dup2, 1) := dk_92 (dk_at dksX1_searched_1 10 rfl rfl)
theorem dX1_searched_33 : decode cX1_searched 33 = .ok (.iaload, 1) := dk_46 (dk_at dksX1_searched_1 11 rfl rfl)
theorem dX1_searched_34 : decode cX1_searched 34 = .ok (.iconst 1, 1) := dk_4 (dk_at dksX1_searched_1 12 rfl rfl)
theorem dX1_searched_35 : decode cX1_searched 35 = .ok (.iadd, 1) := dk_96 (dk_at dksX1_searched_1 13 rfl rfl)
theorem dX1_searched_36 : decode cX1_searched 36 = .ok (.iastore, 1) := dk_79 (dk_at dksX1_searched_1 14 rfl rfl)
theorem dX1_searched_37 : decode cX1_searched 37 = .ok (.aload_n 0, 1) := dk_42 (dk_at dksX1_searched_1 15 rfl rfl)
theorem dX1_searched_38 : decode cX1_searched 38 = .ok (.dup, 1) := dk_89 (dk_at dksX1_searched_1 16 rfl rfl)
theorem dX1_searched_39 : decode cX1_searched 39 = .ok (.getfield 420, 3) := dk_180 1 164 (dk_at dksX1_searched_1 17 rfl rfl)
theorem dX1_searched_42 : decode cX1_searched 42 = .ok (.iconst 1, 1) := dk_4 (dk_at dksX1_searched_1 20 rfl rfl)
theorem dX1_searched_43 : decode cX1_searched 43 = .ok (.iadd, 1) := dk_96 (dk_at dksX1_searched_1 21 rfl rfl)
theorem dX1_searched_44 : decode cX1_searched 44 = .ok (.putfield 420, 3) := dk_181 1 164 (dk_at dksX1_searched_2 0 rfl rfl)
theorem dX1_searched_47 : decode cX1_searched 47 = .ok (.aload_n 0, 1) := dk_42 (dk_at dksX1_searched_2 3 rfl rfl)
theorem dX1_searched_48 : decode cX1_searched 48 = .ok (.getfield 420, 3) := dk_180 1 164 (dk_at dksX1_searched_2 4 rfl rfl)
theorem dX1_searched_51 : decode cX1_searched 51 = .ok (.ireturn, 1) := dk_172 (dk_at dksX1_searched_2 7 rfl rfl)
abbrev cX1_forget : ByteArray := prog_1_method_67_code
def yX1_forget : MethodName := ⟨RX1, "forget", "()I"⟩
def dkwX1_forget_0 : List UInt8 := [42, 180, 1, 164, 60, 42, 3, 181, 1, 164, 42, 180, 0, 84, 3, 184, 1, 167, 27, 172]
abbrev dktX1_forget_0 : List UInt8 := dkwX1_forget_0 ++ []
theorem dksX1_forget_0 : cX1_forget.data.toList.drop 0 = dktX1_forget_0 := by decide +kernel
theorem dX1_forget_0 : decode cX1_forget 0 = .ok (.aload_n 0, 1) := dk_42 (dk_at dksX1_forget_0 0 rfl rfl)
theorem dX1_forget_1 : decode cX1_forget 1 = .ok (.getfield 420, 3) := dk_180 1 164 (dk_at dksX1_forget_0 1 rfl rfl)
theorem dX1_forget_4 : decode cX1_forget 4 = .ok (.istore_n 1, 1) := dk_60 (dk_at dksX1_forget_0 4 rfl rfl)
theorem dX1_forget_5 : decode cX1_forget 5 = .ok (.aload_n 0, 1) := dk_42 (dk_at dksX1_forget_0 5 rfl rfl)
theorem dX1_forget_6 : decode cX1_forget 6 = .ok (.iconst 0, 1) := dk_3 (dk_at dksX1_forget_0 6 rfl rfl)
theorem dX1_forget_7 : decode cX1_forget 7 = .ok (.putfield 420, 3) := dk_181 1 164 (dk_at dksX1_forget_0 7 rfl rfl)
theorem dX1_forget_10 : decode cX1_forget 10 = .ok (.aload_n 0, 1) := dk_42 (dk_at dksX1_forget_0 10 rfl rfl)
theorem dX1_forget_11 : decode cX1_forget 11 = .ok (.getfield 84, 3) := dk_180 0 84 (dk_at dksX1_forget_0 11 rfl rfl)
theorem dX1_forget_14 : decode cX1_forget 14 = .ok (.iconst 0, 1) := dk_3 (dk_at dksX1_forget_0 14 rfl rfl)
theorem dX1_forget_15 : decode cX1_forget 15 = .ok (.invokestatic 423, 3) := dk_184 1 167 (dk_at dksX1_forget_0 15 rfl rfl)
theorem dX1_forget_18 : decode cX1_forget 18 = .ok (.iload_n 1, 1) := dk_27 (dk_at dksX1_forget_0 18 rfl rfl)
theorem dX1_forget_19 : decode cX1_forget 19 = .ok (.ireturn, 1) := dk_172 (dk_at dksX1_forget_0 19 rfl rfl)
abbrev cX1_belief : ByteArray := prog_1_method_73_code
def yX1_belief : MethodName := ⟨RX1, "belief", "(II)I"⟩
def dkwX1_belief_2 : List UInt8 := [181, 0, 122, 42, 42, 27, 28, 182, 1, 182, 42, 28, 182, 1, 186, 182, 1, 190, 3, 172]
abbrev dktX1_belief_2 : List UInt8 := dkwX1_belief_2 ++ []
def dkwX1_belief_1 : List UInt8 := [184, 0, 129, 154, 0, 5, 2, 172, 42, 28, 182, 1, 186, 9, 148, 154, 0, 6, 16, 254, 172, 42, 3]
abbrev dktX1_belief_1 : List UInt8 := dkwX1_belief_1 ++ dktX1_belief_2
def dkwX1_belief_0 : List UInt8 := [27, 133, 9, 42, 180, 0, 192, 4, 100, 133, 184, 0, 129, 153, 0, 15, 28, 133, 9, 20, 1, 176]
abbrev dktX1_belief_0 : List UInt8 := dkwX1_belief_0 ++ dktX1_belief_1
theorem dksX1_belief_0 : cX1_belief.data.toList.drop 0 = dktX1_belief_0 := by decide +kernel
theorem dksX1_belief_1 : cX1_belief.data.toList.drop 22 = dktX1_belief_1 := dk_seg dksX1_belief_0 22 rfl rfl
theorem dksX1_belief_2 : cX1_belief.data.toList.drop 45 = dktX1_belief_2 := dk_seg dksX1_belief_1 23 rfl rfl
theorem dX1_belief_0 : decode cX1_belief 0 = .ok (.iload_n 1, 1) := dk_27 (dk_at dksX1_belief_0 0 rfl rfl)
theorem dX1_belief_1 : decode cX1_belief 1 = .ok (.i2l, 1) := dk_133 (dk_at dksX1_belief_0 1 rfl rfl)
theorem dX1_belief_2 : decode cX1_belief 2 = .ok (.lconst 0, 1) := dk_9 (dk_at dksX1_belief_0 2 rfl rfl)
theorem dX1_belief_3 : decode cX1_belief 3 = .ok (.aload_n 0, 1) := dk_42 (dk_at dksX1_belief_0 3 rfl rfl)
theorem dX1_belief_4 : decode cX1_belief 4 = .ok (.getfield 192, 3) := dk_180 0 192 (dk_at dksX1_belief_0 4 rfl rfl)
theorem dX1_belief_7 : decode cX1_belief 7 = .ok (.iconst 1, 1) := dk_4 (dk_at dksX1_belief_0 7 rfl rfl)
theorem dX1_belief_8 : decode cX1_belief 8 = .ok (.isub, 1) := dk_100 (dk_at dksX1_belief_0 8 rfl rfl)
theorem dX1_belief_9 : decode cX1_belief 9 = .ok (.i2l, 1) := dk_133 (dk_at dksX1_belief_0 9 rfl rfl)
theorem dX1_belief_10 : decode cX1_belief 10 = .ok (.invokestatic 129, 3) := dk_184 0 129 (dk_at dksX1_belief_0 10 rfl rfl)
theorem dX1_belief_13 : decode cX1_belief 13 = .ok (.ifCond .eq 15, 3) := dk_153 0 15 (dk_at dksX1_belief_0 13 rfl rfl)
theorem dX1_belief_16 : decode cX1_belief 16 = .ok (.iload_n 2, 1) := dk_28 (dk_at dksX1_belief_0 16 rfl rfl)
theorem dX1_belief_17 : decode cX1_belief 17 = .ok (.i2l, 1) := dk_133 (dk_at dksX1_belief_0 17 rfl rfl)
theorem dX1_belief_18 : decode cX1_belief 18 = .ok (.lconst 0, 1) := dk_9 (dk_at dksX1_belief_0 18 rfl rfl)
theorem dX1_belief_19 : decode cX1_belief 19 = .ok (.ldc2_w 432, 3) := dk_20 1 176 (dk_at dksX1_belief_0 19 rfl rfl)
theorem dX1_belief_22 : decode cX1_belief 22 = .ok (.invokestatic 129, 3) := dk_184 0 129 (dk_at dksX1_belief_1 0 rfl rfl)
theorem dX1_belief_25 : decode cX1_belief 25 = .ok (.ifCond .ne 5, 3) := dk_154 0 5 (dk_at dksX1_belief_1 3 rfl rfl)
theorem dX1_belief_28 : decode cX1_belief 28 = .ok (.iconst (-1), 1) := dk_2 (dk_at dksX1_belief_1 6 rfl rfl)
theorem dX1_belief_29 : decode cX1_belief 29 = .ok (.ireturn, 1) := dk_172 (dk_at dksX1_belief_1 7 rfl rfl)
theorem dX1_belief_30 : decode cX1_belief 30 = .ok (.aload_n 0, 1) := dk_42 (dk_at dksX1_belief_1 8 rfl rfl)
theorem dX1_belief_31 : decode cX1_belief 31 = .ok (.iload_n 2, 1) := dk_28 (dk_at dksX1_belief_1 9 rfl rfl)
theorem dX1_belief_32 : decode cX1_belief 32 = .ok (.invokevirtual 442, 3) := dk_182 1 186 (dk_at dksX1_belief_1 10 rfl rfl)
theorem dX1_belief_35 : decode cX1_belief 35 = .ok (.lconst 0, 1) := dk_9 (dk_at dksX1_belief_1 13 rfl rfl)
theorem dX1_belief_36 : decode cX1_belief 36 = .ok (.lcmp, 1) := dk_148 (dk_at dksX1_belief_1 14 rfl rfl)
theorem dX1_belief_37 : decode cX1_belief 37 = .ok (.ifCond .ne 6, 3) := dk_154 0 6 (dk_at dksX1_belief_1 15 rfl rfl)
theorem dX1_belief_40 : decode cX1_belief 40 = .ok (.bipush (-2), 2) := dk_16 254 (dk_at dksX1_belief_1 18 rfl rfl)
theorem dX1_belief_42 : decode cX1_belief 42 = .ok (.ireturn, 1) := dk_172 (dk_at dksX1_belief_1 20 rfl rfl)
theorem dX1_belief_43 : decode cX1_belief 43 = .ok (.aload_n 0, 1) := dk_42 (dk_at dksX1_belief_1 21 rfl rfl)
theorem dX1_belief_44 : decode cX1_belief 44 = .ok (.iconst 0, 1) := dk_3 (dk_at dksX1_belief_1 22 rfl rfl)
theorem dX1_belief_45 : decode cX1_belief 45 = .ok (.putfield 122, 3) := dk_181 0 122 (dk_at dksX1_belief_2 0 rfl rfl)
theorem dX1_belief_48 : decode cX1_belief 48 = .ok (.aload_n 0, 1) := dk_42 (dk_at dksX1_belief_2 3 rfl rfl)
theorem dX1_belief_49 : decode cX1_belief 49 = .ok (.aload_n 0, 1) := dk_42 (dk_at dksX1_belief_2 4 rfl rfl)
theorem dX1_belief_50 : decode cX1_belief 50 = .ok (.iload_n 1, 1) := dk_27 (dk_at dksX1_belief_2 5 rfl rfl)
theorem dX1_belief_51 : decode cX1_belief 51 = .ok (.iload_n 2, 1) := dk_28 (dk_at dksX1_belief_2 6 rfl rfl)
theorem dX1_belief_52 : decode cX1_belief 52 = .ok (.invokevirtual 438, 3) := dk_182 1 182 (dk_at dksX1_belief_2 7 rfl rfl)
theorem dX1_belief_55 : decode cX1_belief 55 = .ok (.aload_n 0, 1) := dk_42 (dk_at dksX1_belief_2 10 rfl rfl)
theorem dX1_belief_56 : decode cX1_belief 56 = .ok (.iload_n 2, 1) := dk_28 (dk_at dksX1_belief_2 11 rfl rfl)
theorem dX1_belief_57 : decode cX1_belief 57 = .ok (.invokevirtual 442, 3) := dk_182 1 186 (dk_at dksX1_belief_2 12 rfl rfl)
theorem dX1_belief_60 : decode cX1_belief 60 = .ok (.invokevirtual 446, 3) := dk_182 1 190 (dk_at dksX1_belief_2 15 rfl rfl)
theorem dX1_belief_63 : decode cX1_belief 63 = .ok (.iconst 0, 1) := dk_3 (dk_at dksX1_belief_2 18 rfl rfl)
theorem dX1_belief_64 : decode cX1_belief 64 = .ok (.ireturn, 1) := dk_172 (dk_at dksX1_belief_2 19 rfl rfl)
abbrev cX1_likelyAll : ByteArray := prog_1_method_72_code
def yX1_likelyAll : MethodName := ⟨RX1, "likelyAll", "(I)J"⟩
def dkwX1_likelyAll_1 : List UInt8 := [132, 4, 1, 167, 255, 234, 32, 173]
abbrev dktX1_likelyAll_1 : List UInt8 := dkwX1_likelyAll_1 ++ []
def dkwX1_likelyAll_0 : List UInt8 := [9, 65, 3, 54, 4, 21, 4, 42, 180, 0, 192, 162, 0, 19, 32, 42, 21, 4, 27, 182, 1, 182, 97, 65]
abbrev dktX1_likelyAll_0 : List UInt8 := dkwX1_likelyAll_0 ++ dktX1_likelyAll_1
theorem dksX1_likelyAll_0 : cX1_likelyAll.data.toList.drop 0 = dktX1_likelyAll_0 := by decide +kernel
theorem dksX1_likelyAll_1 : cX1_likelyAll.data.toList.drop 24 = dktX1_likelyAll_1 := dk_seg dksX1_likelyAll_0 24 rfl rfl
theorem dX1_likelyAll_0 : decode cX1_likelyAll 0 = .ok (.lconst 0, 1) := dk_9 (dk_at dksX1_likelyAll_0 0 rfl rfl)
theorem dX1_likelyAll_1 : decode cX1_likelyAll 1 = .ok (.lstore_n 2, 1) := dk_65 (dk_at dksX1_likelyAll_0 1 rfl rfl)
theorem dX1_likelyAll_2 : decode cX1_likelyAll 2 = .ok (.iconst 0, 1) := dk_3 (dk_at dksX1_likelyAll_0 2 rfl rfl)
theorem dX1_likelyAll_3 : decode cX1_likelyAll 3 = .ok (.istore 4, 2) := dk_54 4 (dk_at dksX1_likelyAll_0 3 rfl rfl)
theorem dX1_likelyAll_5 : decode cX1_likelyAll 5 = .ok (.iload 4, 2) := dk_21 4 (dk_at dksX1_likelyAll_0 5 rfl rfl)
theorem dX1_likelyAll_7 : decode cX1_likelyAll 7 = .ok (.aload_n 0, 1) := dk_42 (dk_at dksX1_likelyAll_0 7 rfl rfl)
theorem dX1_likelyAll_8 : decode cX1_likelyAll 8 = .ok (.getfield 192, 3) := dk_180 0 192 (dk_at dksX1_likelyAll_0 8 rfl rfl)
theorem dX1_likelyAll_11 : decode cX1_likelyAll 11 = .ok (.if_icmp .ge 19, 3) := dk_162 0 19 (dk_at dksX1_likelyAll_0 11 rfl rfl)
theorem dX1_likelyAll_14 : decode cX1_likelyAll 14 = .ok (.lload_n 2, 1) := dk_32 (dk_at dksX1_likelyAll_0 14 rfl rfl)
theorem dX1_likelyAll_15 : decode cX1_likelyAll 15 = .ok (.aload_n 0, 1) := dk_42 (dk_at dksX1_likelyAll_0 15 rfl rfl)
theorem dX1_likelyAll_16 : decode cX1_likelyAll 16 = .ok (.iload 4, 2) := dk_21 4 (dk_at dksX1_likelyAll_0 16 rfl rfl)
theorem dX1_likelyAll_18 : decode cX1_likelyAll 18 = .ok (.iload_n 1, 1) := dk_27 (dk_at dksX1_likelyAll_0 18 rfl rfl)
theorem dX1_likelyAll_19 : decode cX1_likelyAll 19 = .ok (.invokevirtual 438, 3) := dk_182 1 182 (dk_at dksX1_likelyAll_0 19 rfl rfl)
theorem dX1_likelyAll_22 : decode cX1_likelyAll 22 = .ok (.ladd, 1) := dk_97 (dk_at dksX1_likelyAll_0 22 rfl rfl)
theorem dX1_likelyAll_23 : decode cX1_likelyAll 23 = .ok (.lstore_n 2, 1) := dk_65 (dk_at dksX1_likelyAll_0 23 rfl rfl)
theorem dX1_likelyAll_24 : decode cX1_likelyAll 24 = .ok (.iinc 4 1, 3) := dk_132 4 1 (dk_at dksX1_likelyAll_1 0 rfl rfl)
theorem dX1_likelyAll_27 : decode cX1_likelyAll 27 = .ok (.goto (-22), 3) := dk_167 255 234 (dk_at dksX1_likelyAll_1 3 rfl rfl)
theorem dX1_likelyAll_30 : decode cX1_likelyAll 30 = .ok (.lload_n 2, 1) := dk_32 (dk_at dksX1_likelyAll_1 6 rfl rfl)
theorem dX1_likelyAll_31 : decode cX1_likelyAll 31 = .ok (.lreturn, 1) := dk_173 (dk_at dksX1_likelyAll_1 7 rfl rfl)
abbrev cX1_likelyAt : ByteArray := prog_1_method_71_code
def yX1_likelyAt : MethodName := ⟨RX1, "likelyAt", "(II)J"⟩
def dkwX1_likelyAt_1 : List UInt8 := [105, 20, 1, 176, 42, 180, 1, 164, 42, 180, 0, 84, 27, 46, 100, 184, 1, 178, 105, 173]
abbrev dktX1_likelyAt_1 : List UInt8 := dkwX1_likelyAt_1 ++ []
def dkwX1_likelyAt_0 : List UInt8 := [42, 180, 0, 78, 27, 46, 4, 96, 133, 20, 1, 176, 28, 133, 101, 42, 180, 0, 84, 27, 46, 184, 1, 178]
abbrev dktX1_likelyAt_0 : List UInt8 := dkwX1_likelyAt_0 ++ dktX1_likelyAt_1
theorem dksX1_likelyAt_0 : cX1_likelyAt.data.toList.drop 0 = dktX1_likelyAt_0 := by decide +kernel
theorem dksX1_likelyAt_1 : cX1_likelyAt.data.toList.drop 24 = dktX1_likelyAt_1 := dk_seg dksX1_likelyAt_0 24 rfl rfl
theorem dX1_likelyAt_0 : decode cX1_likelyAt 0 = .ok (.aload_n 0, 1) := dk_42 (dk_at dksX1_likelyAt_0 0 rfl rfl)
theorem dX1_likelyAt_1 : decode cX1_likelyAt 1 = .ok (.getfield 78, 3) := dk_180 0 78 (dk_at dksX1_likelyAt_0 1 rfl rfl)
theorem dX1_likelyAt_4 : decode cX1_likelyAt 4 = .ok (.iload_n 1, 1) := dk_27 (dk_at dksX1_likelyAt_0 4 rfl rfl)
theorem dX1_likelyAt_5 : decode cX1_likelyAt 5 = .ok (.iaload, 1) := dk_46 (dk_at dksX1_likelyAt_0 5 rfl rfl)
theorem dX1_likelyAt_6 : decode cX1_likelyAt 6 = .ok (.iconst 1, 1) := dk_4 (dk_at dksX1_likelyAt_0 6 rfl rfl)
theorem dX1_likelyAt_7 : decode cX1_likelyAt 7 = .ok (.iadd, 1) := dk_96 (dk_at dksX1_likelyAt_0 7 rfl rfl)
theorem dX1_likelyAt_8 : decode cX1_likelyAt 8 = .ok (.i2l, 1) := dk_133 (dk_at dksX1_likelyAt_0 8 rfl rfl)
theorem dX1_likelyAt_9 : decode cX1_likelyAt 9 = .ok (.ldc2_w 432, 3) := dk_20 1 176 (dk_at dksX1_likelyAt_0 9 rfl rfl)
theorem dX1_likelyAt_12 : decode cX1_likelyAt 12 = .ok (.iload_n 2, 1) := dk_28 (dk_at dksX1_likelyAt_0 12 rfl rfl)
theorem dX1_likelyAt_13 : decode cX1_likelyAt 13 = .ok (.i2l, 1) := dk_133 (dk_at dksX1_likelyAt_0 13 rfl rfl)
theorem dX1_likelyAt_14 : decode cX1_likelyAt 14 = .ok (.lsub, 1) := dk_101 (dk_at dksX1_likelyAt_0 14 rfl rfl)
theorem dX1_likelyAt_15 : decode cX1_likelyAt 15 = .ok (.aload_n 0, 1) := dk_42 (dk_at dksX1_likelyAt_0 15 rfl rfl)
theorem dX1_likelyAt_16 : decode cX1_likelyAt 16 = .ok (.getfield 84, 3) := dk_180 0 84 (dk_at dksX1_likelyAt_0 16 rfl rfl)
theorem dX1_likelyAt_19 : decode cX1_likelyAt 19 = .ok (.iload_n 1, 1) := dk_27 (dk_at dksX1_likelyAt_0 19 rfl rfl)
theorem dX1_likelyAt_20 : decode cX1_likelyAt 20 = .ok (.iaload, 1) := dk_46 (dk_at dksX1_likelyAt_0 20 rfl rfl)
theorem dX1_likelyAt_21 : decode cX1_likelyAt 21 = .ok (.invokestatic 434, 3) := dk_184 1 178 (dk_at dksX1_likelyAt_0 21 rfl rfl)
theorem dX1_likelyAt_24 : decode cX1_likelyAt 24 = .ok (.lmul, 1) := dk_105 (dk_at dksX1_likelyAt_1 0 rfl rfl)
theorem dX1_likelyAt_25 : decode cX1_likelyAt 25 = .ok (.ldc2_w 432, 3) := dk_20 1 176 (dk_at dksX1_likelyAt_1 1 rfl rfl)
theorem dX1_likelyAt_28 : decode cX1_likelyAt 28 = .ok (.aload_n 0, 1) := dk_42 (dk_at dksX1_likelyAt_1 4 rfl rfl)
theorem dX1_likelyAt_29 : decode cX1_likelyAt 29 = .ok (.getfield 420, 3) := dk_180 1 164 (dk_at dksX1_likelyAt_1 5 rfl rfl)
theorem dX1_likelyAt_32 : decode cX1_likelyAt 32 = .ok (.aload_n 0, 1) := dk_42 (dk_at dksX1_likelyAt_1 8 rfl rfl)
theorem dX1_likelyAt_33 : decode cX1_likelyAt 33 = .ok (.getfield 84, 3) := dk_180 0 84 (dk_at dksX1_likelyAt_1 9 rfl rfl)
theorem dX1_likelyAt_36 : decode cX1_likelyAt 36 = .ok (.iload_n 1, 1) := dk_27 (dk_at dksX1_likelyAt_1 12 rfl rfl)
theorem dX1_likelyAt_37 : decode cX1_likelyAt 37 = .ok (.iaload, 1) := dk_46 (dk_at dksX1_likelyAt_1 13 rfl rfl)
theorem dX1_likelyAt_38 : decode cX1_likelyAt 38 = .ok (.isub, 1) := dk_100 (dk_at dksX1_likelyAt_1 14 rfl rfl)
theorem dX1_likelyAt_39 : decode cX1_likelyAt 39 = .ok (.invokestatic 434, 3) := dk_184 1 178 (dk_at dksX1_likelyAt_1 15 rfl rfl)
theorem dX1_likelyAt_42 : decode cX1_likelyAt 42 = .ok (.lmul, 1) := dk_105 (dk_at dksX1_likelyAt_1 18 rfl rfl)
theorem dX1_likelyAt_43 : decode cX1_likelyAt 43 = .ok (.lreturn, 1) := dk_173 (dk_at dksX1_likelyAt_1 19 rfl rfl)
abbrev cX1_power : ByteArray := prog_1_method_70_code
def yX1_power : MethodName := ⟨RX1, "power", "(JI)J"⟩
def dkwX1_power_0 : List UInt8 := [10, 66, 3, 54, 5, 21, 5, 28, 162, 0, 13, 33, 30, 105, 66, 132, 5, 1, 167, 255, 243, 33, 173]
abbrev dktX1_power_0 : List UInt8 := dkwX1_power_0 ++ []
theorem dksX1_power_0 : cX1_power.data.toList.drop 0 = dktX1_power_0 := by decide +kernel
theorem dX1_power_0 : decode cX1_power 0 = .ok (.lconst 1, 1) := dk_10 (dk_at dksX1_power_0 0 rfl rfl)
theorem dX1_power_1 : decode cX1_power 1 = .ok (.lstore_n 3, 1) := dk_66 (dk_at dksX1_power_0 1 rfl rfl)
theorem dX1_power_2 : decode cX1_power 2 = .ok (.iconst 0, 1) := dk_3 (dk_at dksX1_power_0 2 rfl rfl)
theorem dX1_power_3 : decode cX1_power 3 = .ok (.istore 5, 2) := dk_54 5 (dk_at dksX1_power_0 3 rfl rfl)
theorem dX1_power_5 : decode cX1_power 5 = .ok (.iload 5, 2) := dk_21 5 (dk_at dksX1_power_0 5 rfl rfl)
theorem dX1_power_7 : decode cX1_power 7 = .ok (.iload_n 2, 1) := dk_28 (dk_at dksX1_power_0 7 rfl rfl)
theorem dX1_power_8 : decode cX1_power 8 = .ok (.if_icmp .ge 13, 3) := dk_162 0 13 (dk_at dksX1_power_0 8 rfl rfl)
theorem dX1_power_11 : decode cX1_power 11 = .ok (.lload_n 3, 1) := dk_33 (dk_at dksX1_power_0 11 rfl rfl)
theorem dX1_power_12 : decode cX1_power 12 = .ok (.lload_n 0, 1) := dk_30 (dk_at dksX1_power_0 12 rfl rfl)
theorem dX1_power_13 : decode cX1_power 13 = .ok (.lmul, 1) := dk_105 (dk_at dksX1_power_0 13 rfl rfl)
theorem dX1_power_14 : decode cX1_power 14 = .ok (.lstore_n 3, 1) := dk_66 (dk_at dksX1_power_0 14 rfl rfl)
theorem dX1_power_15 : decode cX1_power 15 = .ok (.iinc 5 1, 3) := dk_132 5 1 (dk_at dksX1_power_0 15 rfl rfl)
theorem dX1_power_18 : decode cX1_power 18 = .ok (.goto (-13), 3) := dk_167 255 243 (dk_at dksX1_power_0 18 rfl rfl)
theorem dX1_power_21 : decode cX1_power 21 = .ok (.lload_n 3, 1) := dk_33 (dk_at dksX1_power_0 21 rfl rfl)
theorem dX1_power_22 : decode cX1_power 22 = .ok (.lreturn, 1) := dk_173 (dk_at dksX1_power_0 22 rfl rfl)
abbrev cX1_tellPart : ByteArray := prog_1_method_69_code
def yX1_tellPart : MethodName := ⟨RX1, "tellPart", "(JJ)V"⟩
def dkwX1_tellPart_0 : List UInt8 := [31, 33, 184, 1, 172, 55, 5, 42, 31, 22, 5, 109, 182, 1, 75, 42, 33, 22, 5, 109, 182, 1, 75, 177]
abbrev dktX1_tellPart_0 : List UInt8 := dkwX1_tellPart_0 ++ []
theorem dksX1_tellPart_0 : cX1_tellPart.data.toList.drop 0 = dktX1_tellPart_0 := by decide +kernel
theorem dX1_tellPart_0 : decode cX1_tellPart 0 = .ok (.lload_n 1, 1) := dk_31 (dk_at dksX1_tellPart_0 0 rfl rfl)
theorem dX1_tellPart_1 : decode cX1_tellPart 1 = .ok (.lload_n 3, 1) := dk_33 (dk_at dksX1_tellPart_0 1 rfl rfl)
theorem dX1_tellPart_2 : decode cX1_tellPart 2 = .ok (.invokestatic 428, 3) := dk_184 1 172 (dk_at dksX1_tellPart_0 2 rfl rfl)
theorem dX1_tellPart_5 : decode cX1_tellPart 5 = .ok (.lstore 5, 2) := dk_55 5 (dk_at dksX1_tellPart_0 5 rfl rfl)
theorem dX1_tellPart_7 : decode cX1_tellPart 7 = .ok (.aload_n 0, 1) := dk_42 (dk_at dksX1_tellPart_0 7 rfl rfl)
theorem dX1_tellPart_8 : decode cX1_tellPart 8 = .ok (.lload_n 1, 1) := dk_31 (dk_at dksX1_tellPart_0 8 rfl rfl)
theorem dX1_tellPart_9 : decode cX1_tellPart 9 = .ok (.lload 5, 2) := dk_22 5 (dk_at dksX1_tellPart_0 9 rfl rfl)
theorem dX1_tellPart_11 : decode cX1_tellPart 11 = .ok (.ldiv, 1) := dk_109 (dk_at dksX1_tellPart_0 11 rfl rfl)
theorem dX1_tellPart_12 : decode cX1_tellPart 12 = .ok (.invokevirtual 331, 3) := dk_182 1 75 (dk_at dksX1_tellPart_0 12 rfl rfl)
theorem dX1_tellPart_15 : decode cX1_tellPart 15 = .ok (.aload_n 0, 1) := dk_42 (dk_at dksX1_tellPart_0 15 rfl rfl)
theorem dX1_tellPart_16 : decode cX1_tellPart 16 = .ok (.lload_n 3, 1) := dk_33 (dk_at dksX1_tellPart_0 16 rfl rfl)
theorem dX1_tellPart_17 : decode cX1_tellPart 17 = .ok (.lload 5, 2) := dk_22 5 (dk_at dksX1_tellPart_0 17 rfl rfl)
theorem dX1_tellPart_19 : decode cX1_tellPart 19 = .ok (.ldiv, 1) := dk_109 (dk_at dksX1_tellPart_0 19 rfl rfl)
theorem dX1_tellPart_20 : decode cX1_tellPart 20 = .ok (.invokevirtual 331, 3) := dk_182 1 75 (dk_at dksX1_tellPart_0 20 rfl rfl)
theorem dX1_tellPart_23 : decode cX1_tellPart 23 = .ok (.return_, 1) := dk_177 (dk_at dksX1_tellPart_0 23 rfl rfl)
abbrev cX1_common : ByteArray := prog_1_method_68_code
def yX1_common : MethodName := ⟨RX1, "common", "(JJ)J"⟩
def dkwX1_common_0 : List UInt8 := [32, 9, 148, 154, 0, 7, 30, 167, 0, 10, 32, 30, 32, 113, 184, 1, 172, 173]
abbrev dktX1_common_0 : List UInt8 := dkwX1_common_0 ++ []
theorem dksX1_common_0 : cX1_common.data.toList.drop 0 = dktX1_common_0 := by decide +kernel
theorem dX1_common_0 : decode cX1_common 0 = .ok (.lload_n 2, 1) := dk_32 (dk_at dksX1_common_0 0 rfl rfl)
theorem dX1_common_1 : decode cX1_common 1 = .ok (.lconst 0, 1) := dk_9 (dk_at dksX1_common_0 1 rfl rfl)
theorem dX1_common_2 : decode cX1_common 2 = .ok (.lcmp, 1) := dk_148 (dk_at dksX1_common_0 2 rfl rfl)
theorem dX1_common_3 : decode cX1_common 3 = .ok (.ifCond .ne 7, 3) := dk_154 0 7 (dk_at dksX1_common_0 3 rfl rfl)
theorem dX1_common_6 : decode cX1_common 6 = .ok (.lload_n 0, 1) := dk_30 (dk_at dksX1_common_0 6 rfl rfl)
theorem dX1_common_7 : decode cX1_common 7 = .ok (.goto 10, 3) := dk_167 0 10 (dk_at dksX1_common_0 7 rfl rfl)
theorem dX1_common_10 : decode cX1_common 10 = .ok (.lload_n 2, 1) := dk_32 (dk_at dksX1_common_0 10 rfl rfl)
theorem dX1_common_11 : decode cX1_common 11 = .ok (.lload_n 0, 1) := dk_30 (dk_at dksX1_common_0 11 rfl rfl)
theorem dX1_common_12 : decode cX1_common 12 = .ok (.lload_n 2, 1) := dk_32 (dk_at dksX1_common_0 12 rfl rfl)
theorem dX1_common_13 : decode cX1_common 13 = .ok (.lrem, 1) := dk_113 (dk_at dksX1_common_0 13 rfl rfl)
theorem dX1_common_14 : decode cX1_common 14 = .ok (.invokestatic 428, 3) := dk_184 1 172 (dk_at dksX1_common_0 14 rfl rfl)
theorem dX1_common_17 : decode cX1_common 17 = .ok (.lreturn, 1) := dk_173 (dk_at dksX1_common_0 17 rfl rfl)
abbrev cX1_hunt : ByteArray := prog_1_method_74_code
def yX1_hunt : MethodName := ⟨RX1, "hunt", "(I)I"⟩
def dkwX1_hunt_4 : List UInt8 := [182, 1, 190, 28, 172]
abbrev dktX1_hunt_4 : List UInt8 := dkwX1_hunt_4 ++ []
def dkwX1_hunt_3 : List UInt8 := [181, 0, 122, 42, 27, 133, 42, 28, 27, 182, 1, 182, 105, 20, 1, 176, 42, 27, 182, 1, 186, 105]
abbrev dktX1_hunt_3 : List UInt8 := dkwX1_hunt_3 ++ dktX1_hunt_4
def dkwX1_hunt_2 : List UInt8 := [27, 133, 42, 28, 27, 182, 1, 182, 105, 148, 158, 0, 5, 29, 61, 132, 3, 1, 167, 255, 221, 42, 3]
abbrev dktX1_hunt_2 : List UInt8 := dkwX1_hunt_2 ++ dktX1_hunt_3
def dkwX1_hunt_1 : List UInt8 := [16, 254, 172, 3, 61, 4, 62, 29, 42, 180, 0, 192, 162, 0, 33, 27, 133, 42, 29, 27, 182, 1, 182, 105]
abbrev dktX1_hunt_1 : List UInt8 := dkwX1_hunt_1 ++ dktX1_hunt_2
def dkwX1_hunt_0 : List UInt8 := [27, 133, 9, 20, 1, 176, 184, 0, 129, 154, 0, 5, 2, 172, 42, 27, 182, 1, 186, 9, 148, 154, 0, 6]
abbrev dktX1_hunt_0 : List UInt8 := dkwX1_hunt_0 ++ dktX1_hunt_1
theorem dksX1_hunt_0 : cX1_hunt.data.toList.drop 0 = dktX1_hunt_0 := by decide +kernel
theorem dksX1_hunt_1 : cX1_hunt.data.toList.drop 24 = dktX1_hunt_1 := dk_seg dksX1_hunt_0 24 rfl rfl
theorem dksX1_hunt_2 : cX1_hunt.data.toList.drop 48 = dktX1_hunt_2 := dk_seg dksX1_hunt_1 24 rfl rfl
theorem dksX1_hunt_3 : cX1_hunt.data.toList.drop 71 = dktX1_hunt_3 := dk_seg dksX1_hunt_2 23 rfl rfl
theorem dksX1_hunt_4 : cX1_hunt.data.toList.drop 93 = dktX1_hunt_4 := dk_seg dksX1_hunt_3 22 rfl rfl
theorem dX1_hunt_0 : decode cX1_hunt 0 = .ok (.iload_n 1, 1) := dk_27 (dk_at dksX1_hunt_0 0 rfl rfl)
theorem dX1_hunt_1 : decode cX1_hunt 1 = .ok (.i2l, 1) := dk_133 (dk_at dksX1_hunt_0 1 rfl rfl)
theorem dX1_hunt_2 : decode cX1_hunt 2 = .ok (.lconst 0, 1) := dk_9 (dk_at dksX1_hunt_0 2 rfl rfl)
theorem dX1_hunt_3 : decode cX1_hunt 3 = .ok (.ldc2_w 432, 3) := dk_20 1 176 (dk_at dksX1_hunt_0 3 rfl rfl)
theorem dX1_hunt_6 : decode cX1_hunt 6 = .ok (.invokestatic 129, 3) := dk_184 0 129 (dk_at dksX1_hunt_0 6 rfl rfl)
theorem dX1_hunt_9 : decode cX1_hunt 9 = .ok (.ifCond .ne 5, 3) := dk_154 0 5 (dk_at dksX1_hunt_0 9 rfl rfl)
theorem dX1_hunt_12 : decode cX1_hunt 12 = .ok (.iconst (-1), 1) := dk_2 (dk_at dksX1_hunt_0 12 rfl rfl)
theorem dX1_hunt_13 : decode cX1_hunt 13 = .ok (.ireturn, 1) := dk_172 (dk_at dksX1_hunt_0 13 rfl rfl)
theorem dX1_hunt_14 : decode cX1_hunt 14 = .ok (.aload_n 0, 1) := dk_42 (dk_at dksX1_hunt_0 14 rfl rfl)
theorem dX1_hunt_15 : decode cX1_hunt 15 = .ok (.iload_n 1, 1) := dk_27 (dk_at dksX1_hunt_0 15 rfl rfl)
theorem dX1_hunt_16 : decode cX1_hunt 16 = .ok (.invokevirtual 442, 3) := dk_182 1 186 (dk_at dksX1_hunt_0 16 rfl rfl)
theorem dX1_hunt_19 : decode cX1_hunt 19 = .ok (.lconst 0, 1) := dk_9 (dk_at dksX1_hunt_0 19 rfl rfl)
theorem dX1_hunt_20 : decode cX1_hunt 20 = .ok (.lcmp, 1) := dk_148 (dk_at dksX1_hunt_0 20 rfl rfl)
theorem dX1_hunt_21 : decode cX1_hunt 21 = .ok (.ifCond .ne 6, 3) := dk_154 0 6 (dk_at dksX1_hunt_0 21 rfl rfl)
theorem dX1_hunt_24 : decode cX1_hunt 24 = .ok (.bipush (-2), 2) := dk_16 254 (dk_at dksX1_hunt_1 0 rfl rfl)
theorem dX1_hunt_26 : decode cX1_hunt 26 = .ok (.ireturn, 1) := dk_172 (dk_at dksX1_hunt_1 2 rfl rfl)
theorem dX1_hunt_27 : decode cX1_hunt 27 = .ok (.iconst 0, 1) := dk_3 (dk_at dksX1_hunt_1 3 rfl rfl)
theorem dX1_hunt_28 : decode cX1_hunt 28 = .ok (.istore_n 2, 1) := dk_61 (dk_at dksX1_hunt_1 4 rfl rfl)
theorem dX1_hunt_29 : decode cX1_hunt 29 = .ok (.iconst 1, 1) := dk_4 (dk_at dksX1_hunt_1 5 rfl rfl)
theorem dX1_hunt_30 : decode cX1_hunt 30 = .ok (.istore_n 3, 1) := dk_62 (dk_at dksX1_hunt_1 6 rfl rfl)
theorem dX1_hunt_31 : decode cX1_hunt 31 = .ok (.iload_n 3, 1) := dk_29 (dk_at dksX1_hunt_1 7 rfl rfl)
theorem dX1_hunt_32 : decode cX1_hunt 32 = .ok (.aload_n 0, 1) := dk_42 (dk_at dksX1_hunt_1 8 rfl rfl)
theorem dX1_hunt_33 : decode cX1_hunt 33 = .ok (.getfield 192, 3) := dk_180 0 192 (dk_at dksX1_hunt_1 9 rfl rfl)
theorem dX1_hunt_36 : decode cX1_hunt 36 = .ok (.if_icmp .ge 33, 3) := dk_162 0 33 (dk_at dksX1_hunt_1 12 rfl rfl)
theorem dX1_hunt_39 : decode cX1_hunt 39 = .ok (.iload_n 1, 1) := dk_27 (dk_at dksX1_hunt_1 15 rfl rfl)
theorem dX1_hunt_40 : decode cX1_hunt 40 = .ok (.i2l, 1) := dk_133 (dk_at dksX1_hunt_1 16 rfl rfl)
theorem dX1_hunt_41 : decode cX1_hunt 41 = .ok (.aload_n 0, 1) := dk_42 (dk_at dksX1_hunt_1 17 rfl rfl)
theorem dX1_hunt_42 : decode cX1_hunt 42 = .ok (.iload_n 3, 1) := dk_29 (dk_at dksX1_hunt_1 18 rfl rfl)
theorem dX1_hunt_43 : decode cX1_hunt 43 = .ok (.iload_n 1, 1) := dk_27 (dk_at dksX1_hunt_1 19 rfl rfl)
theorem dX1_hunt_44 : decode cX1_hunt 44 = .ok (.invokevirtual 438, 3) := dk_182 1 182 (dk_at dksX1_hunt_1 20 rfl rfl)
theorem dX1_hunt_47 : decode cX1_hunt 47 = .ok (.lmul, 1) := dk_105 (dk_at dksX1_hunt_1 23 rfl rfl)
theorem dX1_hunt_48 : decode cX1_hunt 48 = .ok (.iload_n 1, 1) := dk_27 (dk_at dksX1_hunt_2 0 rfl rfl)
theorem dX1_hunt_49 : decode cX1_hunt 49 = .ok (.i2l, 1) := dk_133 (dk_at dksX1_hunt_2 1 rfl rfl)
theorem dX1_hunt_50 : decode cX1_hunt 50 = .ok (.aload_n 0, 1) := dk_42 (dk_at dksX1_hunt_2 2 rfl rfl)
theorem dX1_hunt_51 : decode cX1_hunt 51 = .ok (.iload_n 2, 1) := dk_28 (dk_at dksX1_hunt_2 3 rfl rfl)
theorem dX1_hunt_52 : decode cX1_hunt 52 = .ok (.iload_n 1, 1) := dk_27 (dk_at dksX1_hunt_2 4 rfl rfl)
theorem dX1_hunt_53 : decode cX1_hunt 53 = .ok (.invokevirtual 438, 3) := dk_182 1 182 (dk_at dksX1_hunt_2 5 rfl rfl)
theorem dX1_hunt_56 : decode cX1_hunt 56 = .ok (.lmul, 1) := dk_105 (dk_at dksX1_hunt_2 8 rfl rfl)
theorem dX1_hunt_57 : decode cX1_hunt 57 = .ok (.lcmp, 1) := dk_148 (dk_at dksX1_hunt_2 9 rfl rfl)
theorem dX1_hunt_58 : decode cX1_hunt 58 = .ok (.ifCond .le 5, 3) := dk_158 0 5 (dk_at dksX1_hunt_2 10 rfl rfl)
theorem dX1_hunt_61 : decode cX1_hunt 61 = .ok (.iload_n 3, 1) := dk_29 (dk_at dksX1_hunt_2 13 rfl rfl)
theorem dX1_hunt_62 : decode cX1_hunt 62 = .ok (.istore_n 2, 1) := dk_61 (dk_at dksX1_hunt_2 14 rfl rfl)
theorem dX1_hunt_63 : decode cX1_hunt 63 = .ok (.iinc 3 1, 3) := dk_132 3 1 (dk_at dksX1_hunt_2 15 rfl rfl)
theorem dX1_hunt_66 : decode cX1_hunt 66 = .ok (.goto (-35), 3) := dk_167 255 221 (dk_at dksX1_hunt_2 18 rfl rfl)
theorem dX1_hunt_69 : decode cX1_hunt 69 = .ok (.aload_n 0, 1) := dk_42 (dk_at dksX1_hunt_2 21 rfl rfl)
theorem dX1_hunt_70 : decode cX1_hunt 70 = .ok (.iconst 0, 1) := dk_3 (dk_at dksX1_hunt_2 22 rfl rfl)
theorem dX1_hunt_71 : decode cX1_hunt 71 = .ok (.putfield 122, 3) := dk_181 0 122 (dk_at dksX1_hunt_3 0 rfl rfl)
theorem dX1_hunt_74 : decode cX1_hunt 74 = .ok (.aload_n 0, 1) := dk_42 (dk_at dksX1_hunt_3 3 rfl rfl)
theorem dX1_hunt_75 : decode cX1_hunt 75 = .ok (.iload_n 1, 1) := dk_27 (dk_at dksX1_hunt_3 4 rfl rfl)
theorem dX1_hunt_76 : decode cX1_hunt 76 = .ok (.i2l, 1) := dk_133 (dk_at dksX1_hunt_3 5 rfl rfl)
theorem dX1_hunt_77 : decode cX1_hunt 77 = .ok (.aload_n 0, 1) := dk_42 (dk_at dksX1_hunt_3 6 rfl rfl)
theorem dX1_hunt_78 : decode cX1_hunt 78 = .ok (.iload_n 2, 1) := dk_28 (dk_at dksX1_hunt_3 7 rfl rfl)
theorem dX1_hunt_79 : decode cX1_hunt 79 = .ok (.iload_n 1, 1) := dk_27 (dk_at dksX1_hunt_3 8 rfl rfl)
theorem dX1_hunt_80 : decode cX1_hunt 80 = .ok (.invokevirtual 438, 3) := dk_182 1 182 (dk_at dksX1_hunt_3 9 rfl rfl)
theorem dX1_hunt_83 : decode cX1_hunt 83 = .ok (.lmul, 1) := dk_105 (dk_at dksX1_hunt_3 12 rfl rfl)
theorem dX1_hunt_84 : decode cX1_hunt 84 = .ok (.ldc2_w 432, 3) := dk_20 1 176 (dk_at dksX1_hunt_3 13 rfl rfl)
theorem dX1_hunt_87 : decode cX1_hunt 87 = .ok (.aload_n 0, 1) := dk_42 (dk_at dksX1_hunt_3 16 rfl rfl)
theorem dX1_hunt_88 : decode cX1_hunt 88 = .ok (.iload_n 1, 1) := dk_27 (dk_at dksX1_hunt_3 17 rfl rfl)
theorem dX1_hunt_89 : decode cX1_hunt 89 = .ok (.invokevirtual 442, 3) := dk_182 1 186 (dk_at dksX1_hunt_3 18 rfl rfl)
theorem dX1_hunt_92 : decode cX1_hunt 92 = .ok (.lmul, 1) := dk_105 (dk_at dksX1_hunt_3 21 rfl rfl)
theorem dX1_hunt_93 : decode cX1_hunt 93 = .ok (.invokevirtual 446, 3) := dk_182 1 190 (dk_at dksX1_hunt_4 0 rfl rfl)
theorem dX1_hunt_96 : decode cX1_hunt 96 = .ok (.iload_n 2, 1) := dk_28 (dk_at dksX1_hunt_4 3 rfl rfl)
theorem dX1_hunt_97 : decode cX1_hunt 97 = .ok (.ireturn, 1) := dk_172 (dk_at dksX1_hunt_4 4 rfl rfl)
abbrev cX1_heard : ByteArray := prog_1_method_75_code
def yX1_heard : MethodName := ⟨RX1, "heard", "(II)I"⟩
def dkwX1_heard_3 : List UInt8 := [42, 180, 1, 196, 28, 79, 42, 89, 180, 1, 196, 4, 96, 181, 1, 196, 42, 180, 1, 196, 172]
abbrev dktX1_heard_3 : List UInt8 := dkwX1_heard_3 ++ []
def dkwX1_heard_2 : List UInt8 := [180, 1, 196, 16, 12, 160, 0, 5, 2, 172, 42, 180, 0, 110, 42, 180, 1, 196, 27, 79, 42, 180, 0, 113]
abbrev dktX1_heard_2 : List UInt8 := dkwX1_heard_2 ++ dktX1_heard_3
def dkwX1_heard_1 : List UInt8 := [167, 0, 17, 27, 6, 160, 0, 9, 20, 1, 81, 167, 0, 6, 20, 1, 7, 184, 0, 129, 153, 0, 12, 42]
abbrev dktX1_heard_1 : List UInt8 := dkwX1_heard_1 ++ dktX1_heard_2
def dkwX1_heard_0 : List UInt8 := [27, 133, 9, 20, 0, 255, 184, 0, 129, 153, 0, 45, 28, 133, 9, 27, 154, 0, 9, 20, 1, 194]
abbrev dktX1_heard_0 : List UInt8 := dkwX1_heard_0 ++ dktX1_heard_1
theorem dksX1_heard_0 : cX1_heard.data.toList.drop 0 = dktX1_heard_0 := by decide +kernel
theorem dksX1_heard_1 : cX1_heard.data.toList.drop 22 = dktX1_heard_1 := dk_seg dksX1_heard_0 22 rfl rfl
theorem dksX1_heard_2 : cX1_heard.data.toList.drop 46 = dktX1_heard_2 := dk_seg dksX1_heard_1 24 rfl rfl
theorem dksX1_heard_3 : cX1_heard.data.toList.drop 70 = dktX1_heard_3 := dk_seg dksX1_heard_2 24 rfl rfl
theorem dX1_heard_0 : decode cX1_heard 0 = .ok (.iload_n 1, 1) := dk_27 (dk_at dksX1_heard_0 0 rfl rfl)
theorem dX1_heard_1 : decode cX1_heard 1 = .ok (.i2l, 1) := dk_133 (dk_at dksX1_heard_0 1 rfl rfl)
theorem dX1_heard_2 : decode cX1_heard 2 = .ok (.lconst 0, 1) := dk_9 (dk_at dksX1_heard_0 2 rfl rfl)
theorem dX1_heard_3 : decode cX1_heard 3 = .ok (.ldc2_w 255, 3) := dk_20 0 255 (dk_at dksX1_heard_0 3 rfl rfl)
theorem dX1_heard_6 : decode cX1_heard 6 = .ok (.invokestatic 129, 3) := dk_184 0 129 (dk_at dksX1_heard_0 6 rfl rfl)
theorem dX1_heard_9 : decode cX1_heard 9 = .ok (.ifCond .eq 45, 3) := dk_153 0 45 (dk_at dksX1_heard_0 9 rfl rfl)
theorem dX1_heard_12 : decode cX1_heard 12 = .ok (.iload_n 2, 1) := dk_28 (dk_at dksX1_heard_0 12 rfl rfl)
theorem dX1_heard_13 : decode cX1_heard 13 = .ok (.i2l, 1) := dk_133 (dk_at dksX1_heard_0 13 rfl rfl)
theorem dX1_heard_14 : decode cX1_heard 14 = .ok (.lconst 0, 1) := dk_9 (dk_at dksX1_heard_0 14 rfl rfl)
theorem dX1_heard_15 : decode cX1_heard 15 = .ok (.iload_n 1, 1) := dk_27 (dk_at dksX1_heard_0 15 rfl rfl)
theorem dX1_heard_16 : decode cX1_heard 16 = .ok (.ifCond .ne 9, 3) := dk_154 0 9 (dk_at dksX1_heard_0 16 rfl rfl)
theorem dX1_heard_19 : decode cX1_heard 19 = .ok (.ldc2_w 450, 3) := dk_20 1 194 (dk_at dksX1_heard_0 19 rfl rfl)
theorem dX1_heard_22 : decode cX1_heard 22 = .ok (.goto 17, 3) := dk_167 0 17 (dk_at dksX1_heard_1 0 rfl rfl)
theorem dX1_heard_25 : decode cX1_heard 25 = .ok (.iload_n 1, 1) := dk_27 (dk_at dksX1_heard_1 3 rfl rfl)
theorem dX1_heard_26 : decode cX1_heard 26 = .ok (.iconst 3, 1) := dk_6 (dk_at dksX1_heard_1 4 rfl rfl)
theorem dX1_heard_27 : decode cX1_heard 27 = .ok (.if_icmp .ne 9, 3) := dk_160 0 9 (dk_at dksX1_heard_1 5 rfl rfl)
theorem dX1_heard_30 : decode cX1_heard 30 = .ok (.ldc2_w 337, 3) := dk_20 1 81 (dk_at dksX1_heard_1 8 rfl rfl)
theorem dX1_heard_33 : decode cX1_heard 33 = .ok (.goto 6, 3) := dk_167 0 6 (dk_at dksX1_heard_1 11 rfl rfl)
theorem dX1_heard_36 : decode cX1_heard 36 = .ok (.ldc2_w 263, 3) := dk_20 1 7 (dk_at dksX1_heard_1 14 rfl rfl)
theorem dX1_heard_39 : decode cX1_heard 39 = .ok (.invokestatic 129, 3) := dk_184 0 129 (dk_at dksX1_heard_1 17 rfl rfl)
theorem dX1_heard_42 : decode cX1_heard 42 = .ok (.ifCond .eq 12, 3) := dk_153 0 12 (dk_at dksX1_heard_1 20 rfl rfl)
theorem dX1_heard_45 : decode cX1_heard 45 = .ok (.aload_n 0, 1) := dk_42 (dk_at dksX1_heard_1 23 rfl rfl)
theorem dX1_heard_46 : decode cX1_heard 46 = .ok (.getfield 452, 3) := dk_180 1 196 (dk_at dksX1_heard_2 0 rfl rfl)
theorem dX1_heard_49 : decode cX1_heard 49 = .ok (.bipush 12, 2) := dk_16 12 (dk_at dksX1_heard_2 3 rfl rfl)
theorem dX1_heard_51 : decode cX1_heard 51 = .ok (.if_icmp .ne 5, 3) := dk_160 0 5 (dk_at dksX1_heard_2 5 rfl rfl)
theorem dX1_heard_54 : decode cX1_heard 54 = .ok (.iconst (-1), 1) := dk_2 (dk_at dksX1_heard_2 8 rfl rfl)
theorem dX1_heard_55 : decode cX1_heard 55 = .ok (.ireturn, 1) := dk_172 (dk_at dksX1_heard_2 9 rfl rfl)
theorem dX1_heard_56 : decode cX1_heard 56 = .ok (.aload_n 0, 1) := dk_42 (dk_at dksX1_heard_2 10 rfl rfl)
theorem dX1_heard_57 : decode cX1_heard 57 = .ok (.getfield 110, 3) := dk_180 0 110 (dk_at dksX1_heard_2 11 rfl rfl)
theorem dX1_heard_60 : decode cX1_heard 60 = .ok (.aload_n 0, 1) := dk_42 (dk_at dksX1_heard_2 14 rfl rfl)
theorem dX1_heard_61 : decode cX1_heard 61 = .ok (.getfield 452, 3) := dk_180 1 196 (dk_at dksX1_heard_2 15 rfl rfl)
theorem dX1_heard_64 : decode cX1_heard 64 = .ok (.iload_n 1, 1) := dk_27 (dk_at dksX1_heard_2 18 rfl rfl)
theorem dX1_heard_65 : decode cX1_heard 65 = .ok (.iastore, 1) := dk_79 (dk_at dksX1_heard_2 19 rfl rfl)
theorem dX1_heard_66 : decode cX1_heard 66 = .ok (.aload_n 0, 1) := dk_42 (dk_at dksX1_heard_2 20 rfl rfl)
theorem dX1_heard_67 : decode cX1_heard 67 = .ok (.getfield 113, 3) := dk_180 0 113 (dk_at dksX1_heard_2 21 rfl rfl)
theorem dX1_heard_70 : decode cX1_heard 70 = .ok (.aload_n 0, 1) := dk_42 (dk_at dksX1_heard_3 0 rfl rfl)
theorem dX1_heard_71 : decode cX1_heard 71 = .ok (.getfield 452, 3) := dk_180 1 196 (dk_at dksX1_heard_3 1 rfl rfl)
theorem dX1_heard_74 : decode cX1_heard 74 = .ok (.iload_n 2, 1) := dk_28 (dk_at dksX1_heard_3 4 rfl rfl)
theorem dX1_heard_75 : decode cX1_heard 75 = .ok (.iastore, 1) := dk_79 (dk_at dksX1_heard_3 5 rfl rfl)
theorem dX1_heard_76 : decode cX1_heard 76 = .ok (.aload_n 0, 1) := dk_42 (dk_at dksX1_heard_3 6 rfl rfl)
theorem dX1_heard_77 : decode cX1_heard 77 = .ok (.dup, 1) := dk_89 (dk_at dksX1_heard_3 7 rfl rfl)
theorem dX1_heard_78 : decode cX1_heard 78 = .ok (.getfield 452, 3) := dk_180 1 196 (dk_at dksX1_heard_3 8 rfl rfl)
theorem dX1_heard_81 : decode cX1_heard 81 = .ok (.iconst 1, 1) := dk_4 (dk_at dksX1_heard_3 11 rfl rfl)
theorem dX1_heard_82 : decode cX1_heard 82 = .ok (.iadd, 1) := dk_96 (dk_at dksX1_heard_3 12 rfl rfl)
theorem dX1_heard_83 : decode cX1_heard 83 = .ok (.putfield 452, 3) := dk_181 1 196 (dk_at dksX1_heard_3 13 rfl rfl)
theorem dX1_heard_86 : decode cX1_heard 86 = .ok (.aload_n 0, 1) := dk_42 (dk_at dksX1_heard_3 16 rfl rfl)
theorem dX1_heard_87 : decode cX1_heard 87 = .ok (.getfield 452, 3) := dk_180 1 196 (dk_at dksX1_heard_3 17 rfl rfl)
theorem dX1_heard_90 : decode cX1_heard 90 = .ok (.ireturn, 1) := dk_172 (dk_at dksX1_heard_3 20 rfl rfl)
abbrev cX1_pardon : ByteArray := prog_1_method_76_code
def yX1_pardon : MethodName := ⟨RX1, "pardon", "()I"⟩
def dkwX1_pardon_0 : List UInt8 := [42, 180, 1, 196, 60, 42, 3, 181, 1, 196, 27, 172]
abbrev dktX1_pardon_0 : List UInt8 := dkwX1_pardon_0 ++ []
theorem dksX1_pardon_0 : cX1_pardon.data.toList.drop 0 = dktX1_pardon_0 := by decide +kernel
theorem dX1_pardon_0 : decode cX1_pardon 0 = .ok (.aload_n 0, 1) := dk_42 (dk_at dksX1_pardon_0 0 rfl rfl)
theorem dX1_pardon_1 : decode cX1_pardon 1 = .ok (.getfield 452, 3) := dk_180 1 196 (dk_at dksX1_pardon_0 1 rfl rfl)
theorem dX1_pardon_4 : decode cX1_pardon 4 = .ok (.istore_n 1, 1) := dk_60 (dk_at dksX1_pardon_0 4 rfl rfl)
theorem dX1_pardon_5 : decode cX1_pardon 5 = .ok (.aload_n 0, 1) := dk_42 (dk_at dksX1_pardon_0 5 rfl rfl)
theorem dX1_pardon_6 : decode cX1_pardon 6 = .ok (.iconst 0, 1) := dk_3 (dk_at dksX1_pardon_0 6 rfl rfl)
theorem dX1_pardon_7 : decode cX1_pardon 7 = .ok (.putfield 452, 3) := dk_181 1 196 (dk_at dksX1_pardon_0 7 rfl rfl)
theorem dX1_pardon_10 : decode cX1_pardon 10 = .ok (.iload_n 1, 1) := dk_27 (dk_at dksX1_pardon_0 10 rfl rfl)
theorem dX1_pardon_11 : decode cX1_pardon 11 = .ok (.ireturn, 1) := dk_172 (dk_at dksX1_pardon_0 11 rfl rfl)
abbrev cX1_fits : ByteArray := prog_1_method_79_code
def yX1_fits : MethodName := ⟨RX1, "fits", "()I"⟩
def dkwX1_fits_0 : List UInt8 := [42, 3, 181, 0, 122, 42, 42, 182, 1, 203, 184, 0, 229, 133, 182, 1, 75, 42, 182, 1, 203, 172]
abbrev dktX1_fits_0 : List UInt8 := dkwX1_fits_0 ++ []
theorem dksX1_fits_0 : cX1_fits.data.toList.drop 0 = dktX1_fits_0 := by decide +kernel
theorem dX1_fits_0 : decode cX1_fits 0 = .ok (.aload_n 0, 1) := dk_42 (dk_at dksX1_fits_0 0 rfl rfl)
theorem dX1_fits_1 : decode cX1_fits 1 = .ok (.iconst 0, 1) := dk_3 (dk_at dksX1_fits_0 1 rfl rfl)
theorem dX1_fits_2 : decode cX1_fits 2 = .ok (.putfield 122, 3) := dk_181 0 122 (dk_at dksX1_fits_0 2 rfl rfl)
theorem dX1_fits_5 : decode cX1_fits 5 = .ok (.aload_n 0, 1) := dk_42 (dk_at dksX1_fits_0 5 rfl rfl)
theorem dX1_fits_6 : decode cX1_fits 6 = .ok (.aload_n 0, 1) := dk_42 (dk_at dksX1_fits_0 6 rfl rfl)
theorem dX1_fits_7 : decode cX1_fits 7 = .ok (.invokevirtual 459, 3) := dk_182 1 203 (dk_at dksX1_fits_0 7 rfl rfl)
theorem dX1_fits_10 : decode cX1_fits 10 = .ok (.invokestatic 229, 3) := dk_184 0 229 (dk_at dksX1_fits_0 10 rfl rfl)
theorem dX1_fits_13 : decode cX1_fits 13 = .ok (.i2l, 1) := dk_133 (dk_at dksX1_fits_0 13 rfl rfl)
theorem dX1_fits_14 : decode cX1_fits 14 = .ok (.invokevirtual 331, 3) := dk_182 1 75 (dk_at dksX1_fits_0 14 rfl rfl)
theorem dX1_fits_17 : decode cX1_fits 17 = .ok (.aload_n 0, 1) := dk_42 (dk_at dksX1_fits_0 17 rfl rfl)
theorem dX1_fits_18 : decode cX1_fits 18 = .ok (.invokevirtual 459, 3) := dk_182 1 203 (dk_at dksX1_fits_0 18 rfl rfl)
theorem dX1_fits_21 : decode cX1_fits 21 = .ok (.ireturn, 1) := dk_172 (dk_at dksX1_fits_0 21 rfl rfl)
abbrev cX1_fitting : ByteArray := prog_1_method_78_code
def yX1_fitting : MethodName := ⟨RX1, "fitting", "()I"⟩
def dkwX1_fitting_3 : List UInt8 := [167, 255, 189, 27, 172]
abbrev dktX1_fitting_3 : List UInt8 := dkwX1_fitting_3 ++ []
def dkwX1_fitting_2 : List UInt8 := [62, 132, 4, 1, 167, 255, 222, 27, 29, 153, 0, 9, 4, 28, 120, 167, 0, 4, 3, 128, 60, 132, 2, 1]
abbrev dktX1_fitting_2 : List UInt8 := dkwX1_fitting_2 ++ dktX1_fitting_3
def dkwX1_fitting_1 : List UInt8 := [162, 0, 31, 29, 42, 28, 42, 180, 0, 110, 21, 4, 46, 42, 180, 0, 113, 21, 4, 46, 182, 1, 199, 126]
abbrev dktX1_fitting_1 : List UInt8 := dkwX1_fitting_1 ++ dktX1_fitting_2
def dkwX1_fitting_0 : List UInt8 := [3, 60, 3, 61, 28, 42, 180, 0, 126, 162, 0, 65, 4, 62, 3, 54, 4, 21, 4, 42, 180, 1, 196]
abbrev dktX1_fitting_0 : List UInt8 := dkwX1_fitting_0 ++ dktX1_fitting_1
theorem dksX1_fitting_0 : cX1_fitting.data.toList.drop 0 = dktX1_fitting_0 := by decide +kernel
theorem dksX1_fitting_1 : cX1_fitting.data.toList.drop 23 = dktX1_fitting_1 := dk_seg dksX1_fitting_0 23 rfl rfl
theorem dksX1_fitting_2 : cX1_fitting.data.toList.drop 47 = dktX1_fitting_2 := dk_seg dksX1_fitting_1 24 rfl rfl
theorem dksX1_fitting_3 : cX1_fitting.data.toList.drop 71 = dktX1_fitting_3 := dk_seg dksX1_fitting_2 24 rfl rfl
theorem dX1_fitting_0 : decode cX1_fitting 0 = .ok (.iconst 0, 1) := dk_3 (dk_at dksX1_fitting_0 0 rfl rfl)
theorem dX1_fitting_1 : decode cX1_fitting 1 = .ok (.istore_n 1, 1) := dk_60 (dk_at dksX1_fitting_0 1 rfl rfl)
theorem dX1_fitting_2 : decode cX1_fitting 2 = .ok (.iconst 0, 1) := dk_3 (dk_at dksX1_fitting_0 2 rfl rfl)
theorem dX1_fitting_3 : decode cX1_fitting 3 = .ok (.istore_n 2, 1) := dk_61 (dk_at dksX1_fitting_0 3 rfl rfl)
theorem dX1_fitting_4 : decode cX1_fitting 4 = .ok (.iload_n 2, 1) := dk_28 (dk_at dksX1_fitting_0 4 rfl rfl)
theorem dX1_fitting_5 : decode cX1_fitting 5 = .ok (.aload_n 0, 1) := dk_42 (dk_at dksX1_fitting_0 5 rfl rfl)
theorem dX1_fitting_6 : decode cX1_fitting 6 = .ok (.getfield 126, 3) := dk_180 0 126 (dk_at dksX1_fitting_0 6 rfl rfl)
theorem dX1_fitting_9 : decode cX1_fitting 9 = .ok (.if_icmp .ge 65, 3) := dk_162 0 65 (dk_at dksX1_fitting_0 9 rfl rfl)
theorem dX1_fitting_12 : decode cX1_fitting 12 = .ok (.iconst 1, 1) := dk_4 (dk_at dksX1_fitting_0 12 rfl rfl)
theorem dX1_fitting_13 : decode cX1_fitting 13 = .ok (.istore_n 3, 1) := dk_62 (dk_at dksX1_fitting_0 13 rfl rfl)
theorem dX1_fitting_14 : decode cX1_fitting 14 = .ok (.iconst 0, 1) := dk_3 (dk_at dksX1_fitting_0 14 rfl rfl)
theorem dX1_fitting_15 : decode cX1_fitting 15 = .ok (.istore 4, 2) := dk_54 4 (dk_at dksX1_fitting_0 15 rfl rfl)
theorem dX1_fitting_17 : decode cX1_fitting 17 = .ok (.iload 4, 2) := dk_21 4 (dk_at dksX1_fitting_0 17 rfl rfl)
theorem dX1_fitting_19 : decode cX1_fitting 19 = .ok (.aload_n 0, 1) := dk_42 (dk_at dksX1_fitting_0 19 rfl rfl)
theorem dX1_fitting_20 : decode cX1_fitting 20 = .ok (.getfield 452, 3) := dk_180 1 196 (dk_at dksX1_fitting_0 20 rfl rfl)
theorem dX1_fitting_23 : decode cX1_fitting 23 = .ok (.if_icmp .ge 31, 3) := dk_162 0 31 (dk_at dksX1_fitting_1 0 rfl rfl)
theorem dX1_fitting_26 : decode cX1_fitting 26 = .ok (.iload_n 3, 1) := dk_29 (dk_at dksX1_fitting_1 3 rfl rfl)
theorem dX1_fitting_27 : decode cX1_fitting 27 = .ok (.aload_n 0, 1) := dk_42 (dk_at dksX1_fitting_1 4 rfl rfl)
theorem dX1_fitting_28 : decode cX1_fitting 28 = .ok (.iload_n 2, 1) := dk_28 (dk_at dksX1_fitting_1 5 rfl rfl)
theorem dX1_fitting_29 : decode cX1_fitting 29 = .ok (.aload_n 0, 1) := dk_42 (dk_at dksX1_fitting_1 6 rfl rfl)
theorem dX1_fitting_30 : decode cX1_fitting 30 = .ok (.getfield 110, 3) := dk_180 0 110 (dk_at dksX1_fitting_1 7 rfl rfl)
theorem dX1_fitting_33 : decode cX1_fitting 33 = .ok (.iload 4, 2) := dk_21 4 (dk_at dksX1_fitting_1 10 rfl rfl)
theorem dX1_fitting_35 : decode cX1_fitting 35 = .ok (.iaload, 1) := dk_46 (dk_at dksX1_fitting_1 12 rfl rfl)
theorem dX1_fitting_36 : decode cX1_fitting 36 = .ok (.aload_n 0, 1) := dk_42 (dk_at dksX1_fitting_1 13 rfl rfl)
theorem dX1_fitting_37 : decode cX1_fitting 37 = .ok (.getfield 113, 3) := dk_180 0 113 (dk_at dksX1_fitting_1 14 rfl rfl)
theorem dX1_fitting_40 : decode cX1_fitting 40 = .ok (.iload 4, 2) := dk_21 4 (dk_at dksX1_fitting_1 17 rfl rfl)
theorem dX1_fitting_42 : decode cX1_fitting 42 = .ok (.iaload, 1) := dk_46 (dk_at dksX1_fitting_1 19 rfl rfl)
theorem dX1_fitting_43 : decode cX1_fitting 43 = .ok (.invokevirtual 455, 3) := dk_182 1 199 (dk_at dksX1_fitting_1 20 rfl rfl)
theorem dX1_fitting_46 : decode cX1_fitting 46 = .ok (.iand, 1) := dk_126 (dk_at dksX1_fitting_1 23 rfl rfl)
theorem dX1_fitting_47 : decode cX1_fitting 47 = .ok (.istore_n 3, 1) := dk_62 (dk_at dksX1_fitting_2 0 rfl rfl)
theorem dX1_fitting_48 : decode cX1_fitting 48 = .ok (.iinc 4 1, 3) := dk_132 4 1 (dk_at dksX1_fitting_2 1 rfl rfl)
theorem dX1_fitting_51 : decode cX1_fitting 51 = .ok (.goto (-34), 3) := dk_167 255 222 (dk_at dksX1_fitting_2 4 rfl rfl)
theorem dX1_fitting_54 : decode cX1_fitting 54 = .ok (.iload_n 1, 1) := dk_27 (dk_at dksX1_fitting_2 7 rfl rfl)
theorem dX1_fitting_55 : decode cX1_fitting 55 = .ok (.iload_n 3, 1) := dk_29 (dk_at dksX1_fitting_2 8 rfl rfl)
theorem dX1_fitting_56 : decode cX1_fitting 56 = .ok (.ifCond .eq 9, 3) := dk_153 0 9 (dk_at dksX1_fitting_2 9 rfl rfl)
theorem dX1_fitting_59 : decode cX1_fitting 59 = .ok (.iconst 1, 1) := dk_4 (dk_at dksX1_fitting_2 12 rfl rfl)
theorem dX1_fitting_60 : decode cX1_fitting 60 = .ok (.iload_n 2, 1) := dk_28 (dk_at dksX1_fitting_2 13 rfl rfl)
theorem dX1_fitting_61 : decode cX1_fitting 61 = .ok (.ishl, 1) := dk_120 (dk_at dksX1_fitting_2 14 rfl rfl)
theorem dX1_fitting_62 : decode cX1_fitting 62 = .ok (.goto 4, 3) := dk_167 0 4 (dk_at dksX1_fitting_2 15 rfl rfl)
theorem dX1_fitting_65 : decode cX1_fitting 65 = .ok (.iconst 0, 1) := dk_3 (dk_at dksX1_fitting_2 18 rfl rfl)
theorem dX1_fitting_66 : decode cX1_fitting 66 = .ok (.ior, 1) := dk_128 (dk_at dksX1_fitting_2 19 rfl rfl)
theorem dX1_fitting_67 : decode cX1_fitting 67 = .ok (.istore_n 1, 1) := dk_60 (dk_at dksX1_fitting_2 20 rfl rfl)
theorem dX1_fitting_68 : decode cX1_fitting 68 = .ok (.iinc 2 1, 3) := dk_132 2 1 (dk_at dksX1_fitting_2 21 rfl rfl)
theorem dX1_fitting_71 : decode cX1_fitting 71 = .ok (.goto (-67), 3) := dk_167 255 189 (dk_at dksX1_fitting_3 0 rfl rfl)
theorem dX1_fitting_74 : decode cX1_fitting 74 = .ok (.iload_n 1, 1) := dk_27 (dk_at dksX1_fitting_3 3 rfl rfl)
theorem dX1_fitting_75 : decode cX1_fitting 75 = .ok (.ireturn, 1) := dk_172 (dk_at dksX1_fitting_3 4 rfl rfl)
abbrev cX1_fitsTo : ByteArray := prog_1_method_77_code
def yX1_fitsTo : MethodName := ⟨RX1, "fitsTo", "(III)Z"⟩
def dkwX1_fitsTo_4 : List UInt8 := [172, 42, 180, 0, 49, 180, 0, 169, 27, 46, 29, 161, 0, 7, 4, 167, 0, 4, 3, 172]
abbrev dktX1_fitsTo_4 : List UInt8 := dkwX1_fitsTo_4 ++ []
def dkwX1_fitsTo_3 : List UInt8 := [161, 0, 7, 4, 167, 0, 4, 3, 172, 42, 180, 0, 72, 27, 46, 29, 163, 0, 7, 4, 167, 0, 4, 3]
abbrev dktX1_fitsTo_3 : List UInt8 := dkwX1_fitsTo_3 ++ dktX1_fitsTo_4
def dkwX1_fitsTo_2 : List UInt8 := [42, 180, 0, 1, 27, 46, 29, 160, 0, 7, 4, 167, 0, 4, 3, 172, 42, 180, 0, 69, 27, 46, 29]
abbrev dktX1_fitsTo_2 : List UInt8 := dkwX1_fitsTo_2 ++ dktX1_fitsTo_3
def dkwX1_fitsTo_1 : List UInt8 := [170, 0, 0, 0, 0, 0, 75, 0, 0, 0, 0, 0, 0, 0, 2, 0, 0, 0, 27, 0, 0, 0, 43, 0, 0, 0, 59]
abbrev dktX1_fitsTo_1 : List UInt8 := dkwX1_fitsTo_1 ++ dktX1_fitsTo_2
def dkwX1_fitsTo_0 : List UInt8 := [28]
abbrev dktX1_fitsTo_0 : List UInt8 := dkwX1_fitsTo_0 ++ dktX1_fitsTo_1
theorem dksX1_fitsTo_0 : cX1_fitsTo.data.toList.drop 0 = dktX1_fitsTo_0 := by decide +kernel
theorem dksX1_fitsTo_1 : cX1_fitsTo.data.toList.drop 1 = dktX1_fitsTo_1 := dk_seg dksX1_fitsTo_0 1 rfl rfl
theorem dksX1_fitsTo_2 : cX1_fitsTo.data.toList.drop 28 = dktX1_fitsTo_2 := dk_seg dksX1_fitsTo_1 27 rfl rfl
theorem dksX1_fitsTo_3 : cX1_fitsTo.data.toList.drop 51 = dktX1_fitsTo_3 := dk_seg dksX1_fitsTo_2 23 rfl rfl
theorem dksX1_fitsTo_4 : cX1_fitsTo.data.toList.drop 75 = dktX1_fitsTo_4 := dk_seg dksX1_fitsTo_3 24 rfl rfl
theorem dX1_fitsTo_0 : decode cX1_fitsTo 0 = .ok (.iload_n 2, 1) := dk_28 (dk_at dksX1_fitsTo_0 0 rfl rfl)
theorem dX1_fitsTo_1 : decode cX1_fitsTo 1 = .ok (.tableswitch 75 0 2 #[27, 43, 59], 27) := by decide +kernel
theorem dX1_fitsTo_28 : decode cX1_fitsTo 28 = .ok (.aload_n 0, 1) := dk_42 (dk_at dksX1_fitsTo_2 0 rfl rfl)
theorem dX1_fitsTo_29 : decode cX1_fitsTo 29 = .ok (.getfield 1, 3) := dk_180 0 1 (dk_at dksX1_fitsTo_2 1 rfl rfl)
theorem dX1_fitsTo_32 : decode cX1_fitsTo 32 = .ok (.iload_n 1, 1) := dk_27 (dk_at dksX1_fitsTo_2 4 rfl rfl)
theorem dX1_fitsTo_33 : decode cX1_fitsTo 33 = .ok (.iaload, 1) := dk_46 (dk_at dksX1_fitsTo_2 5 rfl rfl)
theorem dX1_fitsTo_34 : decode cX1_fitsTo 34 = .ok (.iload_n 3, 1) := dk_29 (dk_at dksX1_fitsTo_2 6 rfl rfl)
theorem dX1_fitsTo_35 : decode cX1_fitsTo 35 = .ok (.if_icmp .ne 7, 3) := dk_160 0 7 (dk_at dksX1_fitsTo_2 7 rfl rfl)
theorem dX1_fitsTo_38 : decode cX1_fitsTo 38 = .ok (.iconst 1, 1) := dk_4 (dk_at dksX1_fitsTo_2 10 rfl rfl)
theorem dX1_fitsTo_39 : decode cX1_fitsTo 39 = .ok (.goto 4, 3) := dk_167 0 4 (dk_at dksX1_fitsTo_2 11 rfl rfl)
theorem dX1_fitsTo_42 : decode cX1_fitsTo 42 = .ok (.iconst 0, 1) := dk_3 (dk_at dksX1_fitsTo_2 14 rfl rfl)
theorem dX1_fitsTo_43 : decode cX1_fitsTo 43 = .ok (.ireturn, 1) := dk_172 (dk_at dksX1_fitsTo_2 15 rfl rfl)
theorem dX1_fitsTo_44 : decode cX1_fitsTo 44 = .ok (.aload_n 0, 1) := dk_42 (dk_at dksX1_fitsTo_2 16 rfl rfl)
theorem dX1_fitsTo_45 : decode cX1_fitsTo 45 = .ok (.getfield 69, 3) := dk_180 0 69 (dk_at dksX1_fitsTo_2 17 rfl rfl)
theorem dX1_fitsTo_48 : decode cX1_fitsTo 48 = .ok (.iload_n 1, 1) := dk_27 (dk_at dksX1_fitsTo_2 20 rfl rfl)
theorem dX1_fitsTo_49 : decode cX1_fitsTo 49 = .ok (.iaload, 1) := dk_46 (dk_at dksX1_fitsTo_2 21 rfl rfl)
theorem dX1_fitsTo_50 : decode cX1_fitsTo 50 = .ok (.iload_n 3, 1) := dk_29 (dk_at dksX1_fitsTo_2 22 rfl rfl)
theorem dX1_fitsTo_51 : decode cX1_fitsTo 51 = .ok (.if_icmp .lt 7, 3) := dk_161 0 7 (dk_at dksX1_fitsTo_3 0 rfl rfl)
theorem dX1_fitsTo_54 : decode cX1_fitsTo 54 = .ok (.iconst 1, 1) := dk_4 (dk_at dksX1_fitsTo_3 3 rfl rfl)
theorem dX1_fitsTo_55 : decode cX1_fitsTo 55 = .ok (.goto 4, 3) := dk_167 0 4 (dk_at dksX1_fitsTo_3 4 rfl rfl)
theorem dX1_fitsTo_58 : decode cX1_fitsTo 58 = .ok (.iconst 0, 1) := dk_3 (dk_at dksX1_fitsTo_3 7 rfl rfl)
theorem dX1_fitsTo_59 : decode cX1_fitsTo 59 = .ok (.ireturn, 1) := dk_172 (dk_at dksX1_fitsTo_3 8 rfl rfl)
theorem dX1_fitsTo_60 : decode cX1_fitsTo 60 = .ok (.aload_n 0, 1) := dk_42 (dk_at dksX1_fitsTo_3 9 rfl rfl)
theorem dX1_fitsTo_61 : decode cX1_fitsTo 61 = .ok (.getfield 72, 3) := dk_180 0 72 (dk_at dksX1_fitsTo_3 10 rfl rfl)
theorem dX1_fitsTo_64 : decode cX1_fitsTo 64 = .ok (.iload_n 1, 1) := dk_27 (dk_at dksX1_fitsTo_3 13 rfl rfl)
theorem dX1_fitsTo_65 : decode cX1_fitsTo 65 = .ok (.iaload, 1) := dk_46 (dk_at dksX1_fitsTo_3 14 rfl rfl)
theorem dX1_fitsTo_66 : decode cX1_fitsTo 66 = .ok (.iload_n 3, 1) := dk_29 (dk_at dksX1_fitsTo_3 15 rfl rfl)
theorem dX1_fitsTo_67 : decode cX1_fitsTo 67 = .ok (.if_icmp .gt 7, 3) := dk_163 0 7 (dk_at dksX1_fitsTo_3 16 rfl rfl)
theorem dX1_fitsTo_70 : decode cX1_fitsTo 70 = .ok (.iconst 1, 1) := dk_4 (dk_at dksX1_fitsTo_3 19 rfl rfl)
theorem dX1_fitsTo_71 : decode cX1_fitsTo 71 = .ok (.goto 4, 3) := dk_167 0 4 (dk_at dksX1_fitsTo_3 20 rfl rfl)
theorem dX1_fitsTo_74 : decode cX1_fitsTo 74 = .ok (.iconst 0, 1) := dk_3 (dk_at dksX1_fitsTo_3 23 rfl rfl)
theorem dX1_fitsTo_75 : decode cX1_fitsTo 75 = .ok (.ireturn, 1) := dk_172 (dk_at dksX1_fitsTo_4 0 rfl rfl)
theorem dX1_fitsTo_76 : decode cX1_fitsTo 76 = .ok (.aload_n 0, 1) := dk_42 (dk_at dksX1_fitsTo_4 1 rfl rfl)
theorem dX1_fitsTo_77 : decode cX1_fitsTo 77 = .ok (.getfield 49, 3) := dk_180 0 49 (dk_at dksX1_fitsTo_4 2 rfl rfl)
theorem dX1_fitsTo_80 : decode cX1_fitsTo 80 = .ok (.getfield 169, 3) := dk_180 0 169 (dk_at dksX1_fitsTo_4 5 rfl rfl)
theorem dX1_fitsTo_83 : decode cX1_fitsTo 83 = .ok (.iload_n 1, 1) := dk_27 (dk_at dksX1_fitsTo_4 8 rfl rfl)
theorem dX1_fitsTo_84 : decode cX1_fitsTo 84 = .ok (.iaload, 1) := dk_46 (dk_at dksX1_fitsTo_4 9 rfl rfl)
theorem dX1_fitsTo_85 : decode cX1_fitsTo 85 = .ok (.iload_n 3, 1) := dk_29 (dk_at dksX1_fitsTo_4 10 rfl rfl)
theorem dX1_fitsTo_86 : decode cX1_fitsTo 86 = .ok (.if_icmp .lt 7, 3) := dk_161 0 7 (dk_at dksX1_fitsTo_4 11 rfl rfl)
theorem dX1_fitsTo_89 : decode cX1_fitsTo 89 = .ok (.iconst 1, 1) := dk_4 (dk_at dksX1_fitsTo_4 14 rfl rfl)
theorem dX1_fitsTo_90 : decode cX1_fitsTo 90 = .ok (.goto 4, 3) := dk_167 0 4 (dk_at dksX1_fitsTo_4 15 rfl rfl)
theorem dX1_fitsTo_93 : decode cX1_fitsTo 93 = .ok (.iconst 0, 1) := dk_3 (dk_at dksX1_fitsTo_4 18 rfl rfl)
theorem dX1_fitsTo_94 : decode cX1_fitsTo 94 = .ok (.ireturn, 1) := dk_172 (dk_at dksX1_fitsTo_4 19 rfl rfl)
abbrev cX1_ask : ByteArray := prog_1_method_80_code
def yX1_ask : MethodName := ⟨RX1, "ask", "()I"⟩
def dkwX1_ask_5 : List UInt8 := [42, 29, 133, 182, 1, 75, 28, 172]
abbrev dktX1_ask_5 : List UInt8 := dkwX1_ask_5 ++ []
def dkwX1_ask_4 : List UInt8 := [29, 161, 0, 6, 167, 0, 9, 21, 4, 61, 21, 6, 62, 132, 4, 1, 167, 255, 166, 42, 3, 181, 0, 122]
abbrev dktX1_ask_4 : List UInt8 := dkwX1_ask_4 ++ dktX1_ask_5
def dkwX1_ask_3 : List UInt8 := [54, 5, 132, 6, 1, 167, 255, 213, 21, 5, 27, 184, 0, 229, 21, 5, 100, 184, 1, 34, 54, 6, 21, 6]
abbrev dktX1_ask_3 : List UInt8 := dkwX1_ask_3 ++ dktX1_ask_4
def dkwX1_ask_2 : List UInt8 := [184, 0, 221, 153, 0, 19, 42, 180, 0, 1, 21, 6, 46, 21, 4, 160, 0, 7, 4, 167, 0, 4, 3, 96]
abbrev dktX1_ask_2 : List UInt8 := dkwX1_ask_2 ++ dktX1_ask_3
def dkwX1_ask_1 : List UInt8 := [163, 0, 90, 3, 54, 5, 3, 54, 6, 21, 6, 42, 180, 0, 126, 162, 0, 40, 21, 5, 27, 21, 6]
abbrev dktX1_ask_1 : List UInt8 := dkwX1_ask_1 ++ dktX1_ask_2
def dkwX1_ask_0 : List UInt8 := [42, 182, 1, 203, 60, 27, 154, 0, 6, 16, 254, 172, 2, 61, 19, 1, 123, 62, 3, 54, 4, 21, 4, 7]
abbrev dktX1_ask_0 : List UInt8 := dkwX1_ask_0 ++ dktX1_ask_1
theorem dksX1_ask_0 : cX1_ask.data.toList.drop 0 = dktX1_ask_0 := by decide +kernel
theorem dksX1_ask_1 : cX1_ask.data.toList.drop 24 = dktX1_ask_1 := dk_seg dksX1_ask_0 24 rfl rfl
theorem dksX1_ask_2 : cX1_ask.data.toList.drop 47 = dktX1_ask_2 := dk_seg dksX1_ask_1 23 rfl rfl
theorem dksX1_ask_3 : cX1_ask.data.toList.drop 71 = dktX1_ask_3 := dk_seg dksX1_ask_2 24 rfl rfl
theorem dksX1_ask_4 : cX1_ask.data.toList.drop 95 = dktX1_ask_4 := dk_seg dksX1_ask_3 24 rfl rfl
theorem dksX1_ask_5 : cX1_ask.data.toList.drop 119 = dktX1_ask_5 := dk_seg dksX1_ask_4 24 rfl rfl
theorem dX1_ask_0 : decode cX1_ask 0 = .ok (.aload_n 0, 1) := dk_42 (dk_at dksX1_ask_0 0 rfl rfl)
theorem dX1_ask_1 : decode cX1_ask 1 = .ok (.invokevirtual 459, 3) := dk_182 1 203 (dk_at dksX1_ask_0 1 rfl rfl)
theorem dX1_ask_4 : decode cX1_ask 4 = .ok (.istore_n 1, 1) := dk_60 (dk_at dksX1_ask_0 4 rfl rfl)
theorem dX1_ask_5 : decode cX1_ask 5 = .ok (.iload_n 1, 1) := dk_27 (dk_at dksX1_ask_0 5 rfl rfl)
theorem dX1_ask_6 : decode cX1_ask 6 = .ok (.ifCond .ne 6, 3) := dk_154 0 6 (dk_at dksX1_ask_0 6 rfl rfl)
theorem dX1_ask_9 : decode cX1_ask 9 = .ok (.bipush (-2), 2) := dk_16 254 (dk_at dksX1_ask_0 9 rfl rfl)
theorem dX1_ask_11 : decode cX1_ask 11 = .ok (.ireturn, 1) := dk_172 (dk_at dksX1_ask_0 11 rfl rfl)
theorem dX1_ask_12 : decode cX1_ask 12 = .ok (.iconst (-1), 1) := dk_2 (dk_at dksX1_ask_0 12 rfl rfl)
theorem dX1_ask_13 : decode cX1_ask 13 = .ok (.istore_n 2, 1) := dk_61 (dk_at dksX1_ask_0 13 rfl rfl)
theorem dX1_ask_14 : decode cX1_ask 14 = .ok (.ldc_w 379, 3) := dk_19 1 123 (dk_at dksX1_ask_0 14 rfl rfl)
theorem dX1_ask_17 : decode cX1_ask 17 = .ok (.istore_n 3, 1) := dk_62 (dk_at dksX1_ask_0 17 rfl rfl)
theorem dX1_ask_18 : decode cX1_ask 18 = .ok (.iconst 0, 1) := dk_3 (dk_at dksX1_ask_0 18 rfl rfl)
theorem dX1_ask_19 : decode cX1_ask 19 = .ok (.istore 4, 2) := dk_54 4 (dk_at dksX1_ask_0 19 rfl rfl)
theorem dX1_ask_21 : decode cX1_ask 21 = .ok (.iload 4, 2) := dk_21 4 (dk_at dksX1_ask_0 21 rfl rfl)
theorem dX1_ask_23 : decode cX1_ask 23 = .ok (.iconst 4, 1) := dk_7 (dk_at dksX1_ask_0 23 rfl rfl)
theorem dX1_ask_24 : decode cX1_ask 24 = .ok (.if_icmp .gt 90, 3) := dk_163 0 90 (dk_at dksX1_ask_1 0 rfl rfl)
theorem dX1_ask_27 : decode cX1_ask 27 = .ok (.iconst 0, 1) := dk_3 (dk_at dksX1_ask_1 3 rfl rfl)
theorem dX1_ask_28 : decode cX1_ask 28 = .ok (.istore 5, 2) := dk_54 5 (dk_at dksX1_ask_1 4 rfl rfl)
theorem dX1_ask_30 : decode cX1_ask 30 = .ok (.iconst 0, 1) := dk_3 (dk_at dksX1_ask_1 6 rfl rfl)
theorem dX1_ask_31 : decode cX1_ask 31 = .ok (.istore 6, 2) := dk_54 6 (dk_at dksX1_ask_1 7 rfl rfl)
theorem dX1_ask_33 : decode cX1_ask 33 = .ok (.iload 6, 2) := dk_21 6 (dk_at dksX1_ask_1 9 rfl rfl)
theorem dX1_ask_35 : decode cX1_ask 35 = .ok (.aload_n 0, 1) := dk_42 (dk_at dksX1_ask_1 11 rfl rfl)
theorem dX1_ask_36 : decode cX1_ask 36 = .ok (.getfield 126, 3) := dk_180 0 126 (dk_at dksX1_ask_1 12 rfl rfl)
theorem dX1_ask_39 : decode cX1_ask 39 = .ok (.if_icmp .ge 40, 3) := dk_162 0 40 (dk_at dksX1_ask_1 15 rfl rfl)
theorem dX1_ask_42 : decode cX1_ask 42 = .ok (.iload 5, 2) := dk_21 5 (dk_at dksX1_ask_1 18 rfl rfl)
theorem dX1_ask_44 : decode cX1_ask 44 = .ok (.iload_n 1, 1) := dk_27 (dk_at dksX1_ask_1 20 rfl rfl)
theorem dX1_ask_45 : decode cX1_ask 45 = .ok (.iload 6, 2) := dk_21 6 (dk_at dksX1_ask_1 21 rfl rfl)
theorem dX1_ask_47 : decode cX1_ask 47 = .ok (.invokestatic 221, 3) := dk_184 0 221 (dk_at dksX1_ask_2 0 rfl rfl)
theorem dX1_ask_50 : decode cX1_ask 50 = .ok (.ifCond .eq 19, 3) := dk_153 0 19 (dk_at dksX1_ask_2 3 rfl rfl)
theorem dX1_ask_53 : decode cX1_ask 53 = .ok (.aload_n 0, 1) := dk_42 (dk_at dksX1_ask_2 6 rfl rfl)
theorem dX1_ask_54 : decode cX1_ask 54 = .ok (.getfield 1, 3) := dk_180 0 1 (dk_at dksX1_ask_2 7 rfl rfl)
theorem dX1_ask_57 : decode cX1_ask 57 = .ok (.iload 6, 2) := dk_21 6 (dk_at dksX1_ask_2 10 rfl rfl)
theorem dX1_ask_59 : decode cX1_ask 59 = .ok (.iaload, 1) := dk_46 (dk_at dksX1_ask_2 12 rfl rfl)
theorem dX1_ask_60 : decode cX1_ask 60 = .ok (.iload 4, 2) := dk_21 4 (dk_at dksX1_ask_2 13 rfl rfl)
theorem dX1_ask_62 : decode cX1_ask 62 = .ok (.if_icmp .ne 7, 3) := dk_160 0 7 (dk_at dksX1_ask_2 15 rfl rfl)
theorem dX1_ask_65 : decode cX1_ask 65 = .ok (.iconst 1, 1) := dk_4 (dk_at dksX1_ask_2 18 rfl rfl)
theorem dX1_ask_66 : decode cX1_ask 66 = .ok (.goto 4, 3) := dk_167 0 4 (dk_at dksX1_ask_2 19 rfl rfl)
theorem dX1_ask_69 : decode cX1_ask 69 = .ok (.iconst 0, 1) := dk_3 (dk_at dksX1_ask_2 22 rfl rfl)
theorem dX1_ask_70 : decode cX1_ask 70 = .ok (.iadd, 1) := dk_96 (dk_at dksX1_ask_2 23 rfl rfl)
theorem dX1_ask_71 : decode cX1_ask 71 = .ok (.istore 5, 2) := dk_54 5 (dk_at dksX1_ask_3 0 rfl rfl)
theorem dX1_ask_73 : decode cX1_ask 73 = .ok (.iinc 6 1, 3) := dk_132 6 1 (dk_at dksX1_ask_3 2 rfl rfl)
theorem dX1_ask_76 : decode cX1_ask 76 = .ok (.goto (-43), 3) := dk_167 255 213 (dk_at dksX1_ask_3 5 rfl rfl)
theorem dX1_ask_79 : decode cX1_ask 79 = .ok (.iload 5, 2) := dk_21 5 (dk_at dksX1_ask_3 8 rfl rfl)
theorem dX1_ask_81 : decode cX1_ask 81 = .ok (.iload_n 1, 1) := dk_27 (dk_at dksX1_ask_3 10 rfl rfl)
theorem dX1_ask_82 : decode cX1_ask 82 = .ok (.invokestatic 229, 3) := dk_184 0 229 (dk_at dksX1_ask_3 11 rfl rfl)
theorem dX1_ask_85 : decode cX1_ask 85 = .ok (.iload 5, 2) := dk_21 5 (dk_at dksX1_ask_3 14 rfl rfl)
theorem dX1_ask_87 : decode cX1_ask 87 = .ok (.isub, 1) := dk_100 (dk_at dksX1_ask_3 16 rfl rfl)
theorem dX1_ask_88 : decode cX1_ask 88 = .ok (.invokestatic 290, 3) := dk_184 1 34 (dk_at dksX1_ask_3 17 rfl rfl)
theorem dX1_ask_91 : decode cX1_ask 91 = .ok (.istore 6, 2) := dk_54 6 (dk_at dksX1_ask_3 20 rfl rfl)
theorem dX1_ask_93 : decode cX1_ask 93 = .ok (.iload 6, 2) := dk_21 6 (dk_at dksX1_ask_3 22 rfl rfl)
theorem dX1_ask_95 : decode cX1_ask 95 = .ok (.iload_n 3, 1) := dk_29 (dk_at dksX1_ask_4 0 rfl rfl)
theorem dX1_ask_96 : decode cX1_ask 96 = .ok (.if_icmp .lt 6, 3) := dk_161 0 6 (dk_at dksX1_ask_4 1 rfl rfl)
theorem dX1_ask_99 : decode cX1_ask 99 = .ok (.goto 9, 3) := dk_167 0 9 (dk_at dksX1_ask_4 4 rfl rfl)
theorem dX1_ask_102 : decode cX1_ask 102 = .ok (.iload 4, 2) := dk_21 4 (dk_at dksX1_ask_4 7 rfl rfl)
theorem dX1_ask_104 : decode cX1_ask 104 = .ok (.istore_n 2, 1) := dk_61 (dk_at dksX1_ask_4 9 rfl rfl)
theorem dX1_ask_105 : decode cX1_ask 105 = .ok (.iload 6, 2) := dk_21 6 (dk_at dksX1_ask_4 10 rfl rfl)
theorem dX1_ask_107 : decode cX1_ask 107 = .ok (.istore_n 3, 1) := dk_62 (dk_at dksX1_ask_4 12 rfl rfl)
theorem dX1_ask_108 : decode cX1_ask 108 = .ok (.iinc 4 1, 3) := dk_132 4 1 (dk_at dksX1_ask_4 13 rfl rfl)
theorem dX1_ask_111 : decode cX1_ask 111 = .ok (.goto (-90), 3) := dk_167 255 166 (dk_at dksX1_ask_4 16 rfl rfl)
theorem dX1_ask_114 : decode cX1_ask 114 = .ok (.aload_n 0, 1) := dk_42 (dk_at dksX1_ask_4 19 rfl rfl)
theorem dX1_ask_115 : decode cX1_ask 115 = .ok (.iconst 0, 1) := dk_3 (dk_at dksX1_ask_4 20 rfl rfl)
theorem dX1_ask_116 : decode cX1_ask 116 = .ok (.putfield 122, 3) := dk_181 0 122 (dk_at dksX1_ask_4 21 rfl rfl)
theorem dX1_ask_119 : decode cX1_ask 119 = .ok (.aload_n 0, 1) := dk_42 (dk_at dksX1_ask_5 0 rfl rfl)
theorem dX1_ask_120 : decode cX1_ask 120 = .ok (.iload_n 3, 1) := dk_29 (dk_at dksX1_ask_5 1 rfl rfl)
theorem dX1_ask_121 : decode cX1_ask 121 = .ok (.i2l, 1) := dk_133 (dk_at dksX1_ask_5 2 rfl rfl)
theorem dX1_ask_122 : decode cX1_ask 122 = .ok (.invokevirtual 331, 3) := dk_182 1 75 (dk_at dksX1_ask_5 3 rfl rfl)
theorem dX1_ask_125 : decode cX1_ask 125 = .ok (.iload_n 2, 1) := dk_28 (dk_at dksX1_ask_5 6 rfl rfl)
theorem dX1_ask_126 : decode cX1_ask 126 = .ok (.ireturn, 1) := dk_172 (dk_at dksX1_ask_5 7 rfl rfl)
abbrev cX1_rests : ByteArray := prog_1_method_83_code
def yX1_rests : MethodName := ⟨RX1, "rests", "(I)I"⟩
def dkwX1_rests_4 : List UInt8 := [167, 255, 188, 28, 172]
abbrev dktX1_rests_4 : List UInt8 := dkwX1_rests_4 ++ []
def dkwX1_rests_3 : List UInt8 := [182, 1, 75, 42, 21, 4, 133, 182, 1, 75, 132, 2, 1, 132, 4, 1, 167, 255, 203, 132, 3, 1]
abbrev dktX1_rests_3 : List UInt8 := dkwX1_rests_3 ++ dktX1_rests_4
def dkwX1_rests_2 : List UInt8 := [153, 0, 36, 21, 4, 29, 27, 184, 1, 211, 154, 0, 6, 167, 0, 23, 28, 154, 0, 16, 42, 29, 133]
abbrev dktX1_rests_2 : List UInt8 := dkwX1_rests_2 ++ dktX1_rests_3
def dkwX1_rests_1 : List UInt8 := [16, 9, 163, 0, 68, 3, 54, 4, 21, 4, 16, 9, 163, 0, 52, 29, 21, 4, 27, 184, 1, 211]
abbrev dktX1_rests_1 : List UInt8 := dkwX1_rests_1 ++ dktX1_rests_2
def dkwX1_rests_0 : List UInt8 := [27, 133, 9, 20, 1, 209, 184, 0, 129, 154, 0, 5, 2, 172, 3, 61, 42, 3, 181, 0, 122, 3, 62, 29]
abbrev dktX1_rests_0 : List UInt8 := dkwX1_rests_0 ++ dktX1_rests_1
theorem dksX1_rests_0 : cX1_rests.data.toList.drop 0 = dktX1_rests_0 := by decide +kernel
theorem dksX1_rests_1 : cX1_rests.data.toList.drop 24 = dktX1_rests_1 := dk_seg dksX1_rests_0 24 rfl rfl
theorem dksX1_rests_2 : cX1_rests.data.toList.drop 46 = dktX1_rests_2 := dk_seg dksX1_rests_1 22 rfl rfl
theorem dksX1_rests_3 : cX1_rests.data.toList.drop 69 = dktX1_rests_3 := dk_seg dksX1_rests_2 23 rfl rfl
theorem dksX1_rests_4 : cX1_rests.data.toList.drop 91 = dktX1_rests_4 := dk_seg dksX1_rests_3 22 rfl rfl
theorem dX1_rests_0 : decode cX1_rests 0 = .ok (.iload_n 1, 1) := dk_27 (dk_at dksX1_rests_0 0 rfl rfl)
theorem dX1_rests_1 : decode cX1_rests 1 = .ok (.i2l, 1) := dk_133 (dk_at dksX1_rests_0 1 rfl rfl)
theorem dX1_rests_2 : decode cX1_rests 2 = .ok (.lconst 0, 1) := dk_9 (dk_at dksX1_rests_0 2 rfl rfl)
theorem dX1_rests_3 : decode cX1_rests 3 = .ok (.ldc2_w 465, 3) := dk_20 1 209 (dk_at dksX1_rests_0 3 rfl rfl)
theorem dX1_rests_6 : decode cX1_rests 6 = .ok (.invokestatic 129, 3) := dk_184 0 129 (dk_at dksX1_rests_0 6 rfl rfl)
theorem dX1_rests_9 : decode cX1_rests 9 = .ok (.ifCond .ne 5, 3) := dk_154 0 5 (dk_at dksX1_rests_0 9 rfl rfl)
theorem dX1_rests_12 : decode cX1_rests 12 = .ok (.iconst (-1), 1) := dk_2 (dk_at dksX1_rests_0 12 rfl rfl)
theorem dX1_rests_13 : decode cX1_rests 13 = .ok (.ireturn, 1) := dk_172 (dk_at dksX1_rests_0 13 rfl rfl)
theorem dX1_rests_14 : decode cX1_rests 14 = .ok (.iconst 0, 1) := dk_3 (dk_at dksX1_rests_0 14 rfl rfl)
theorem dX1_rests_15 : decode cX1_rests 15 = .ok (.istore_n 2, 1) := dk_61 (dk_at dksX1_rests_0 15 rfl rfl)
theorem dX1_rests_16 : decode cX1_rests 16 = .ok (.aload_n 0, 1) := dk_42 (dk_at dksX1_rests_0 16 rfl rfl)
theorem dX1_rests_17 : decode cX1_rests 17 = .ok (.iconst 0, 1) := dk_3 (dk_at dksX1_rests_0 17 rfl rfl)
theorem dX1_rests_18 : decode cX1_rests 18 = .ok (.putfield 122, 3) := dk_181 0 122 (dk_at dksX1_rests_0 18 rfl rfl)
theorem dX1_rests_21 : decode cX1_rests 21 = .ok (.iconst 0, 1) := dk_3 (dk_at dksX1_rests_0 21 rfl rfl)
theorem dX1_rests_22 : decode cX1_rests 22 = .ok (.istore_n 3, 1) := dk_62 (dk_at dksX1_rests_0 22 rfl rfl)
theorem dX1_rests_23 : decode cX1_rests 23 = .ok (.iload_n 3, 1) := dk_29 (dk_at dksX1_rests_0 23 rfl rfl)
theorem dX1_rests_24 : decode cX1_rests 24 = .ok (.bipush 9, 2) := dk_16 9 (dk_at dksX1_rests_1 0 rfl rfl)
theorem dX1_rests_26 : decode cX1_rests 26 = .ok (.if_icmp .gt 68, 3) := dk_163 0 68 (dk_at dksX1_rests_1 2 rfl rfl)
theorem dX1_rests_29 : decode cX1_rests 29 = .ok (.iconst 0, 1) := dk_3 (dk_at dksX1_rests_1 5 rfl rfl)
theorem dX1_rests_30 : decode cX1_rests 30 = .ok (.istore 4, 2) := dk_54 4 (dk_at dksX1_rests_1 6 rfl rfl)
theorem dX1_rests_32 : decode cX1_rests 32 = .ok (.iload 4, 2) := dk_21 4 (dk_at dksX1_rests_1 8 rfl rfl)
theorem dX1_rests_34 : decode cX1_rests 34 = .ok (.bipush 9, 2) := dk_16 9 (dk_at dksX1_rests_1 10 rfl rfl)
theorem dX1_rests_36 : decode cX1_rests 36 = .ok (.if_icmp .gt 52, 3) := dk_163 0 52 (dk_at dksX1_rests_1 12 rfl rfl)
theorem dX1_rests_39 : decode cX1_rests 39 = .ok (.iload_n 3, 1) := dk_29 (dk_at dksX1_rests_1 15 rfl rfl)
theorem dX1_rests_40 : decode cX1_rests 40 = .ok (.iload 4, 2) := dk_21 4 (dk_at dksX1_rests_1 16 rfl rfl)
theorem dX1_rests_42 : decode cX1_rests 42 = .ok (.iload_n 1, 1) := dk_27 (dk_at dksX1_rests_1 18 rfl rfl)
theorem dX1_rests_43 : decode cX1_rests 43 = .ok (.invokestatic 467, 3) := dk_184 1 211 (dk_at dksX1_rests_1 19 rfl rfl)
theorem dX1_rests_46 : decode cX1_rests 46 = .ok (.ifCond .eq 36, 3) := dk_153 0 36 (dk_at dksX1_rests_2 0 rfl rfl)
theorem dX1_rests_49 : decode cX1_rests 49 = .ok (.iload 4, 2) := dk_21 4 (dk_at dksX1_rests_2 3 rfl rfl)
theorem dX1_rests_51 : decode cX1_rests 51 = .ok (.iload_n 3, 1) := dk_29 (dk_at dksX1_rests_2 5 rfl rfl)
theorem dX1_rests_52 : decode cX1_rests 52 = .ok (.iload_n 1, 1) := dk_27 (dk_at dksX1_rests_2 6 rfl rfl)
theorem dX1_rests_53 : decode cX1_rests 53 = .ok (.invokestatic 467, 3) := dk_184 1 211 (dk_at dksX1_rests_2 7 rfl rfl)
theorem dX1_rests_56 : decode cX1_rests 56 = .ok (.ifCond .ne 6, 3) := dk_154 0 6 (dk_at dksX1_rests_2 10 rfl rfl)
theorem dX1_rests_59 : decode cX1_rests 59 = .ok (.goto 23, 3) := dk_167 0 23 (dk_at dksX1_rests_2 13 rfl rfl)
theorem dX1_rests_62 : decode cX1_rests 62 = .ok (.iload_n 2, 1) := dk_28 (dk_at dksX1_rests_2 16 rfl rfl)
theorem dX1_rests_63 : decode cX1_rests 63 = .ok (.ifCond .ne 16, 3) := dk_154 0 16 (dk_at dksX1_rests_2 17 rfl rfl)
theorem dX1_rests_66 : decode cX1_rests 66 = .ok (.aload_n 0, 1) := dk_42 (dk_at dksX1_rests_2 20 rfl rfl)
theorem dX1_rests_67 : decode cX1_rests 67 = .ok (.iload_n 3, 1) := dk_29 (dk_at dksX1_rests_2 21 rfl rfl)
theorem dX1_rests_68 : decode cX1_rests 68 = .ok (.i2l, 1) := dk_133 (dk_at dksX1_rests_2 22 rfl rfl)
theorem dX1_rests_69 : decode cX1_rests 69 = .ok (.invokevirtual 331, 3) := dk_182 1 75 (dk_at dksX1_rests_3 0 rfl rfl)
theorem dX1_rests_72 : decode cX1_rests 72 = .ok (.aload_n 0, 1) := dk_42 (dk_at dksX1_rests_3 3 rfl rfl)
theorem dX1_rests_73 : decode cX1_rests 73 = .ok (.iload 4, 2) := dk_21 4 (dk_at dksX1_rests_3 4 rfl rfl)
theorem dX1_rests_75 : decode cX1_rests 75 = .ok (.i2l, 1) := dk_133 (dk_at dksX1_rests_3 6 rfl rfl)
theorem dX1_rests_76 : decode cX1_rests 76 = .ok (.invokevirtual 331, 3) := dk_182 1 75 (dk_at dksX1_rests_3 7 rfl rfl)
theorem dX1_rests_79 : decode cX1_rests 79 = .ok (.iinc 2 1, 3) := dk_132 2 1 (dk_at dksX1_rests_3 10 rfl rfl)
theorem dX1_rests_82 : decode cX1_rests 82 = .ok (.iinc 4 1, 3) := dk_132 4 1 (dk_at dksX1_rests_3 13 rfl rfl)
theorem dX1_rests_85 : decode cX1_rests 85 = .ok (.goto (-53), 3) := dk_167 255 203 (dk_at dksX1_rests_3 16 rfl rfl)
theorem dX1_rests_88 : decode cX1_rests 88 = .ok (.iinc 3 1, 3) := dk_132 3 1 (dk_at dksX1_rests_3 19 rfl rfl)
theorem dX1_rests_91 : decode cX1_rests 91 = .ok (.goto (-68), 3) := dk_167 255 188 (dk_at dksX1_rests_4 0 rfl rfl)
theorem dX1_rests_94 : decode cX1_rests 94 = .ok (.iload_n 2, 1) := dk_28 (dk_at dksX1_rests_4 3 rfl rfl)
theorem dX1_rests_95 : decode cX1_rests 95 = .ok (.ireturn, 1) := dk_172 (dk_at dksX1_rests_4 4 rfl rfl)
abbrev cX1_isBest : ByteArray := prog_1_method_82_code
def yX1_isBest : MethodName := ⟨RX1, "isBest", "(III)Z"⟩
def dkwX1_isBest_1 : List UInt8 := [172, 132, 3, 1, 167, 255, 230, 4, 172]
abbrev dktX1_isBest_1 : List UInt8 := dkwX1_isBest_1 ++ []
def dkwX1_isBest_0 : List UInt8 := [3, 62, 29, 16, 9, 163, 0, 26, 29, 27, 28, 184, 1, 206, 26, 27, 28, 184, 1, 206, 164, 0, 5, 3]
abbrev dktX1_isBest_0 : List UInt8 := dkwX1_isBest_0 ++ dktX1_isBest_1
theorem dksX1_isBest_0 : cX1_isBest.data.toList.drop 0 = dktX1_isBest_0 := by decide +kernel
theorem dksX1_isBest_1 : cX1_isBest.data.toList.drop 24 = dktX1_isBest_1 := dk_seg dksX1_isBest_0 24 rfl rfl
theorem dX1_isBest_0 : decode cX1_isBest 0 = .ok (.iconst 0, 1) := dk_3 (dk_at dksX1_isBest_0 0 rfl rfl)
theorem dX1_isBest_1 : decode cX1_isBest 1 = .ok (.istore_n 3, 1) := dk_62 (dk_at dksX1_isBest_0 1 rfl rfl)
theorem dX1_isBest_2 : decode cX1_isBest 2 = .ok (.iload_n 3, 1) := dk_29 (dk_at dksX1_isBest_0 2 rfl rfl)
theorem dX1_isBest_3 : decode cX1_isBest 3 = .ok (.bipush 9, 2) := dk_16 9 (dk_at dksX1_isBest_0 3 rfl rfl)
theorem dX1_isBest_5 : decode cX1_isBest 5 = .ok (.if_icmp .gt 26, 3) := dk_163 0 26 (dk_at dksX1_isBest_0 5 rfl rfl)
theorem dX1_isBest_8 : decode cX1_isBest 8 = .ok (.iload_n 3, 1) := dk_29 (dk_at dksX1_isBest_0 8 rfl rfl)
theorem dX1_isBest_9 : decode cX1_isBest 9 = .ok (.iload_n 1, 1) := dk_27 (dk_at dksX1_isBest_0 9 rfl rfl)
theorem dX1_isBest_10 : decode cX1_isBest 10 = .ok (.iload_n 2, 1) := dk_28 (dk_at dksX1_isBest_0 10 rfl rfl)
theorem dX1_isBest_11 : decode cX1_isBest 11 = .ok (.invokestatic 462, 3) := dk_184 1 206 (dk_at dksX1_isBest_0 11 rfl rfl)
theorem dX1_isBest_14 : decode cX1_isBest 14 = .ok (.iload_n 0, 1) := dk_26 (dk_at dksX1_isBest_0 14 rfl rfl)
theorem dX1_isBest_15 : decode cX1_isBest 15 = .ok (.iload_n 1, 1) := dk_27 (dk_at dksX1_isBest_0 15 rfl rfl)
theorem dX1_isBest_16 : decode cX1_isBest 16 = .ok (.iload_n 2, 1) := dk_28 (dk_at dksX1_isBest_0 16 rfl rfl)
theorem dX1_isBest_17 : decode cX1_isBest 17 = .ok (.invokestatic 462, 3) := dk_184 1 206 (dk_at dksX1_isBest_0 17 rfl rfl)
theorem dX1_isBest_20 : decode cX1_isBest 20 = .ok (.if_icmp .le 5, 3) := dk_164 0 5 (dk_at dksX1_isBest_0 20 rfl rfl)
theorem dX1_isBest_23 : decode cX1_isBest 23 = .ok (.iconst 0, 1) := dk_3 (dk_at dksX1_isBest_0 23 rfl rfl)
theorem dX1_isBest_24 : decode cX1_isBest 24 = .ok (.ireturn, 1) := dk_172 (dk_at dksX1_isBest_1 0 rfl rfl)
theorem dX1_isBest_25 : decode cX1_isBest 25 = .ok (.iinc 3 1, 3) := dk_132 3 1 (dk_at dksX1_isBest_1 1 rfl rfl)
theorem dX1_isBest_28 : decode cX1_isBest 28 = .ok (.goto (-26), 3) := dk_167 255 230 (dk_at dksX1_isBest_1 4 rfl rfl)
theorem dX1_isBest_31 : decode cX1_isBest 31 = .ok (.iconst 1, 1) := dk_4 (dk_at dksX1_isBest_1 7 rfl rfl)
theorem dX1_isBest_32 : decode cX1_isBest 32 = .ok (.ireturn, 1) := dk_172 (dk_at dksX1_isBest_1 8 rfl rfl)
abbrev cX1_gets : ByteArray := prog_1_method_81_code
def yX1_gets : MethodName := ⟨RX1, "gets", "(III)I"⟩
def dkwX1_gets_0 : List UInt8 := [26, 27, 96, 28, 163, 0, 7, 26, 167, 0, 12, 3, 28, 5, 108, 4, 100, 184, 1, 34, 172]
abbrev dktX1_gets_0 : List UInt8 := dkwX1_gets_0 ++ []
theorem dksX1_gets_0 : cX1_gets.data.toList.drop 0 = dktX1_gets_0 := by decide +kernel
theorem dX1_gets_0 : decode cX1_gets 0 = .ok (.iload_n 0, 1) := dk_26 (dk_at dksX1_gets_0 0 rfl rfl)
theorem dX1_gets_1 : decode cX1_gets 1 = .ok (.iload_n 1, 1) := dk_27 (dk_at dksX1_gets_0 1 rfl rfl)
theorem dX1_gets_2 : decode cX1_gets 2 = .ok (.iadd, 1) := dk_96 (dk_at dksX1_gets_0 2 rfl rfl)
theorem dX1_gets_3 : decode cX1_gets 3 = .ok (.iload_n 2, 1) := dk_28 (dk_at dksX1_gets_0 3 rfl rfl)
theorem dX1_gets_4 : decode cX1_gets 4 = .ok (.if_icmp .gt 7, 3) := dk_163 0 7 (dk_at dksX1_gets_0 4 rfl rfl)
theorem dX1_gets_7 : decode cX1_gets 7 = .ok (.iload_n 0, 1) := dk_26 (dk_at dksX1_gets_0 7 rfl rfl)
theorem dX1_gets_8 : decode cX1_gets 8 = .ok (.goto 12, 3) := dk_167 0 12 (dk_at dksX1_gets_0 8 rfl rfl)
theorem dX1_gets_11 : decode cX1_gets 11 = .ok (.iconst 0, 1) := dk_3 (dk_at dksX1_gets_0 11 rfl rfl)
theorem dX1_gets_12 : decode cX1_gets 12 = .ok (.iload_n 2, 1) := dk_28 (dk_at dksX1_gets_0 12 rfl rfl)
theorem dX1_gets_13 : decode cX1_gets 13 = .ok (.iconst 2, 1) := dk_5 (dk_at dksX1_gets_0 13 rfl rfl)
theorem dX1_gets_14 : decode cX1_gets 14 = .ok (.idiv, 1) := dk_108 (dk_at dksX1_gets_0 14 rfl rfl)
theorem dX1_gets_15 : decode cX1_gets 15 = .ok (.iconst 1, 1) := dk_4 (dk_at dksX1_gets_0 15 rfl rfl)
theorem dX1_gets_16 : decode cX1_gets 16 = .ok (.isub, 1) := dk_100 (dk_at dksX1_gets_0 16 rfl rfl)
theorem dX1_gets_17 : decode cX1_gets 17 = .ok (.invokestatic 290, 3) := dk_184 1 34 (dk_at dksX1_gets_0 17 rfl rfl)
theorem dX1_gets_20 : decode cX1_gets 20 = .ok (.ireturn, 1) := dk_172 (dk_at dksX1_gets_0 20 rfl rfl)
abbrev cX1_voyages : ByteArray := prog_1_method_85_code
def yX1_voyages : MethodName := ⟨RX1, "voyages", "(II)I"⟩
def dkwX1_voyages_8 : List UInt8 := [180, 1, 46, 172]
abbrev dktX1_voyages_8 : List UInt8 := dkwX1_voyages_8 ++ []
def dkwX1_voyages_7 : List UInt8 := [184, 0, 229, 133, 182, 1, 75, 42, 42, 180, 0, 56, 180, 1, 132, 133, 182, 1, 75, 42, 180, 0, 56]
abbrev dktX1_voyages_7 : List UInt8 := dkwX1_voyages_7 ++ dktX1_voyages_8
def dkwX1_voyages_6 : List UInt8 := [132, 3, 1, 167, 255, 144, 42, 3, 181, 0, 122, 42, 42, 42, 180, 0, 56, 3, 3, 182, 0, 240]
abbrev dktX1_voyages_6 : List UInt8 := dkwX1_voyages_6 ++ dktX1_voyages_7
def dkwX1_voyages_5 : List UInt8 := [154, 0, 24, 42, 180, 0, 56, 21, 5, 21, 4, 5, 160, 0, 7, 6, 167, 0, 5, 16, 253, 182, 1, 59]
abbrev dktX1_voyages_5 : List UInt8 := dkwX1_voyages_5 ++ dktX1_voyages_6
def dkwX1_voyages_4 : List UInt8 := [167, 0, 47, 42, 42, 180, 0, 126, 182, 1, 218, 54, 5, 42, 180, 0, 56, 180, 0, 172, 21, 5, 46]
abbrev dktX1_voyages_4 : List UInt8 := dkwX1_voyages_4 ++ dktX1_voyages_5
def dkwX1_voyages_3 : List UInt8 := [182, 1, 63, 87, 21, 4, 5, 159, 0, 9, 21, 4, 6, 160, 0, 57, 42, 180, 0, 126, 154, 0, 6]
abbrev dktX1_voyages_3 : List UInt8 := dkwX1_voyages_3 ++ dktX1_voyages_4
def dkwX1_voyages_2 : List UInt8 := [162, 0, 12, 42, 42, 180, 0, 56, 182, 1, 66, 87, 21, 4, 7, 160, 0, 13, 42, 180, 0, 56, 16, 10]
abbrev dktX1_voyages_2 : List UInt8 := dkwX1_voyages_2 ++ dktX1_voyages_3
def dkwX1_voyages_1 : List UInt8 := [180, 0, 49, 182, 1, 37, 3, 62, 29, 28, 162, 0, 113, 42, 8, 182, 1, 218, 54, 4, 21, 4, 5]
abbrev dktX1_voyages_1 : List UInt8 := dkwX1_voyages_1 ++ dktX1_voyages_2
def dkwX1_voyages_0 : List UInt8 := [28, 133, 10, 20, 1, 70, 184, 0, 129, 154, 0, 5, 2, 172, 42, 27, 181, 1, 214, 42, 180, 0, 56, 42]
abbrev dktX1_voyages_0 : List UInt8 := dkwX1_voyages_0 ++ dktX1_voyages_1
theorem dksX1_voyages_0 : cX1_voyages.data.toList.drop 0 = dktX1_voyages_0 := by decide +kernel
theorem dksX1_voyages_1 : cX1_voyages.data.toList.drop 24 = dktX1_voyages_1 := dk_seg dksX1_voyages_0 24 rfl rfl
theorem dksX1_voyages_2 : cX1_voyages.data.toList.drop 47 = dktX1_voyages_2 := dk_seg dksX1_voyages_1 23 rfl rfl
theorem dksX1_voyages_3 : cX1_voyages.data.toList.drop 71 = dktX1_voyages_3 := dk_seg dksX1_voyages_2 24 rfl rfl
theorem dksX1_voyages_4 : cX1_voyages.data.toList.drop 94 = dktX1_voyages_4 := dk_seg dksX1_voyages_3 23 rfl rfl
theorem dksX1_voyages_5 : cX1_voyages.data.toList.drop 117 = dktX1_voyages_5 := dk_seg dksX1_voyages_4 23 rfl rfl
theorem dksX1_voyages_6 : cX1_voyages.data.toList.drop 141 = dktX1_voyages_6 := dk_seg dksX1_voyages_5 24 rfl rfl
theorem dksX1_voyages_7 : cX1_voyages.data.toList.drop 163 = dktX1_voyages_7 := dk_seg dksX1_voyages_6 22 rfl rfl
theorem dksX1_voyages_8 : cX1_voyages.data.toList.drop 186 = dktX1_voyages_8 := dk_seg dksX1_voyages_7 23 rfl rfl
theorem dX1_voyages_0 : decode cX1_voyages 0 = .ok (.iload_n 2, 1) := dk_28 (dk_at dksX1_voyages_0 0 rfl rfl)
theorem dX1_voyages_1 : decode cX1_voyages 1 = .ok (.i2l, 1) := dk_133 (dk_at dksX1_voyages_0 1 rfl rfl)
theorem dX1_voyages_2 : decode cX1_voyages 2 = .ok (.lconst 1, 1) := dk_10 (dk_at dksX1_voyages_0 2 rfl rfl)
theorem dX1_voyages_3 : decode cX1_voyages 3 = .ok (.ldc2_w 326, 3) := dk_20 1 70 (dk_at dksX1_voyages_0 3 rfl rfl)
theorem dX1_voyages_6 : decode cX1_voyages 6 = .ok (.invokestatic 129, 3) := dk_184 0 129 (dk_at dksX1_voyages_0 6 rfl rfl)
theorem dX1_voyages_9 : decode cX1_voyages 9 = .ok (.ifCond .ne 5, 3) := dk_154 0 5 (dk_at dksX1_voyages_0 9 rfl rfl)
theorem dX1_voyages_12 : decode cX1_voyages 12 = .ok (.iconst (-1), 1) := dk_2 (dk_at dksX1_voyages_0 12 rfl rfl)
theorem dX1_voyages_13 : decode cX1_voyages 13 = .ok (.ireturn, 1) := dk_172 (dk_at dksX1_voyages_0 13 rfl rfl)
theorem dX1_voyages_14 : decode cX1_voyages 14 = .ok (.aload_n 0, 1) := dk_42 (dk_at dksX1_voyages_0 14 rfl rfl)
theorem dX1_voyages_15 : decode cX1_voyages 15 = .ok (.iload_n 1, 1) := dk_27 (dk_at dksX1_voyages_0 15 rfl rfl)
theorem dX1_voyages_16 : decode cX1_voyages 16 = .ok (.putfield 470, 3) := dk_181 1 214 (dk_at dksX1_voyages_0 16 rfl rfl)
theorem dX1_voyages_19 : decode cX1_voyages 19 = .ok (.aload_n 0, 1) := dk_42 (dk_at dksX1_voyages_0 19 rfl rfl)
theorem dX1_voyages_20 : decode cX1_voyages 20 = .ok (.getfield 56, 3) := dk_180 0 56 (dk_at dksX1_voyages_0 20 rfl rfl)
theorem dX1_voyages_23 : decode cX1_voyages 23 = .ok (.aload_n 0, 1) := dk_42 (dk_at dksX1_voyages_0 23 rfl rfl)
theorem dX1_voyages_24 : decode cX1_voyages 24 = .ok (.getfield 49, 3) := dk_180 0 49 (dk_at dksX1_voyages_1 0 rfl rfl)
theorem dX1_voyages_27 : decode cX1_voyages 27 = .ok (.invokevirtual 293, 3) := dk_182 1 37 (dk_at dksX1_voyages_1 3 rfl rfl)
theorem dX1_voyages_30 : decode cX1_voyages 30 = .ok (.iconst 0, 1) := dk_3 (dk_at dksX1_voyages_1 6 rfl rfl)
theorem dX1_voyages_31 : decode cX1_voyages 31 = .ok (.istore_n 3, 1) := dk_62 (dk_at dksX1_voyages_1 7 rfl rfl)
theorem dX1_voyages_32 : decode cX1_voyages 32 = .ok (.iload_n 3, 1) := dk_29 (dk_at dksX1_voyages_1 8 rfl rfl)
theorem dX1_voyages_33 : decode cX1_voyages 33 = .ok (.iload_n 2, 1) := dk_28 (dk_at dksX1_voyages_1 9 rfl rfl)
theorem dX1_voyages_34 : decode cX1_voyages 34 = .ok (.if_icmp .ge 113, 3) := dk_162 0 113 (dk_at dksX1_voyages_1 10 rfl rfl)
theorem dX1_voyages_37 : decode cX1_voyages 37 = .ok (.aload_n 0, 1) := dk_42 (dk_at dksX1_voyages_1 13 rfl rfl)
theorem dX1_voyages_38 : decode cX1_voyages 38 = .ok (.iconst 5, 1) := dk_8 (dk_at dksX1_voyages_1 14 rfl rfl)
theorem dX1_voyages_39 : decode cX1_voyages 39 = .ok (.invokevirtual 474, 3) := dk_182 1 218 (dk_at dksX1_voyages_1 15 rfl rfl)
theorem dX1_voyages_42 : decode cX1_voyages 42 = .ok (.istore 4, 2) := dk_54 4 (dk_at dksX1_voyages_1 18 rfl rfl)
theorem dX1_voyages_44 : decode cX1_voyages 44 = .ok (.iload 4, 2) := dk_21 4 (dk_at dksX1_voyages_1 20 rfl rfl)
theorem dX1_voyages_46 : decode cX1_voyages 46 = .ok (.iconst 2, 1) := dk_5 (dk_at dksX1_voyages_1 22 rfl rfl)
theorem dX1_voyages_47 : decode cX1_voyages 47 = .ok (.if_icmp .ge 12, 3) := dk_162 0 12 (dk_at dksX1_voyages_2 0 rfl rfl)
theorem dX1_voyages_50 : decode cX1_voyages 50 = .ok (.aload_n 0, 1) := dk_42 (dk_at dksX1_voyages_2 3 rfl rfl)
theorem dX1_voyages_51 : decode cX1_voyages 51 = .ok (.aload_n 0, 1) := dk_42 (dk_at dksX1_voyages_2 4 rfl rfl)
theorem dX1_voyages_52 : decode cX1_voyages 52 = .ok (.getfield 56, 3) := dk_180 0 56 (dk_at dksX1_voyages_2 5 rfl rfl)
theorem dX1_voyages_55 : decode cX1_voyages 55 = .ok (.invokevirtual 322, 3) := dk_182 1 66 (dk_at dksX1_voyages_2 8 rfl rfl)
theorem dX1_voyages_58 : decode cX1_voyages 58 = .ok (.pop, 1) := dk_87 (dk_at dksX1_voyages_2 11 rfl rfl)
theorem dX1_voyages_59 : decode cX1_voyages 59 = .ok (.iload 4, 2) := dk_21 4 (dk_at dksX1_voyages_2 12 rfl rfl)
theorem dX1_voyages_61 : decode cX1_voyages 61 = .ok (.iconst 4, 1) := dk_7 (dk_at dksX1_voyages_2 14 rfl rfl)
theorem dX1_voyages_62 : decode cX1_voyages 62 = .ok (.if_icmp .ne 13, 3) := dk_160 0 13 (dk_at dksX1_voyages_2 15 rfl rfl)
theorem dX1_voyages_65 : decode cX1_voyages 65 = .ok (.aload_n 0, 1) := dk_42 (dk_at dksX1_voyages_2 18 rfl rfl)
theorem dX1_voyages_66 : decode cX1_voyages 66 = .ok (.getfield 56, 3) := dk_180 0 56 (dk_at dksX1_voyages_2 19 rfl rfl)
theorem dX1_voyages_69 : decode cX1_voyages 69 = .ok (.bipush 10, 2) := dk_16 10 (dk_at dksX1_voyages_2 22 rfl rfl)
theorem dX1_voyages_71 : decode cX1_voyages 71 = .ok (.invokevirtual 319, 3) := dk_182 1 63 (dk_at dksX1_voyages_3 0 rfl rfl)
theorem dX1_voyages_74 : decode cX1_voyages 74 = .ok (.pop, 1) := dk_87 (dk_at dksX1_voyages_3 3 rfl rfl)
theorem dX1_voyages_75 : decode cX1_voyages 75 = .ok (.iload 4, 2) := dk_21 4 (dk_at dksX1_voyages_3 4 rfl rfl)
theorem dX1_voyages_77 : decode cX1_voyages 77 = .ok (.iconst 2, 1) := dk_5 (dk_at dksX1_voyages_3 6 rfl rfl)
theorem dX1_voyages_78 : decode cX1_voyages 78 = .ok (.if_icmp .eq 9, 3) := dk_159 0 9 (dk_at dksX1_voyages_3 7 rfl rfl)
theorem dX1_voyages_81 : decode cX1_voyages 81 = .ok (.iload 4, 2) := dk_21 4 (dk_at dksX1_voyages_3 10 rfl rfl)
theorem dX1_voyages_83 : decode cX1_voyages 83 = .ok (.iconst 3, 1) := dk_6 (dk_at dksX1_voyages_3 12 rfl rfl)
theorem dX1_voyages_84 : decode cX1_voyages 84 = .ok (.if_icmp .ne 57, 3) := dk_160 0 57 (dk_at dksX1_voyages_3 13 rfl rfl)
theorem dX1_voyages_87 : decode cX1_voyages 87 = .ok (.aload_n 0, 1) := dk_42 (dk_at dksX1_voyages_3 16 rfl rfl)
theorem dX1_voyages_88 : decode cX1_voyages 88 = .ok (.getfield 126, 3) := dk_180 0 126 (dk_at dksX1_voyages_3 17 rfl rfl)
theorem dX1_voyages_91 : decode cX1_voyages 91 = .ok (.ifCond .ne 6, 3) := dk_154 0 6 (dk_at dksX1_voyages_3 20 rfl rfl)
theorem dX1_voyages_94 : decode cX1_voyages 94 = .ok (.goto 47, 3) := dk_167 0 47 (dk_at dksX1_voyages_4 0 rfl rfl)
theorem dX1_voyages_97 : decode cX1_voyages 97 = .ok (.aload_n 0, 1) := dk_42 (dk_at dksX1_voyages_4 3 rfl rfl)
theorem dX1_voyages_98 : decode cX1_voyages 98 = .ok (.aload_n 0, 1) := dk_42 (dk_at dksX1_voyages_4 4 rfl rfl)
theorem dX1_voyages_99 : decode cX1_voyages 99 = .ok (.getfield 126, 3) := dk_180 0 126 (dk_at dksX1_voyages_4 5 rfl rfl)
theorem dX1_voyages_102 : decode cX1_voyages 102 = .ok (.invokevirtual 474, 3) := dk_182 1 218 (dk_at dksX1_voyages_4 8 rfl rfl)
theorem dX1_voyages_105 : decode cX1_voyages 105 = .ok (.istore 5, 2) := dk_54 5 (dk_at dksX1_voyages_4 11 rfl rfl)
theorem dX1_voyages_107 : decode cX1_voyages 107 = .ok (.aload_n 0, 1) := dk_42 (dk_at dksX1_voyages_4 13 rfl rfl)
theorem dX1_voyages_108 : decode cX1_voyages 108 = .ok (.getfield 56, 3) := dk_180 0 56 (dk_at dksX1_voyages_4 14 rfl rfl)
theorem dX1_voyages_111 : decode cX1_voyages 111 = .ok (.getfield 172, 3) := dk_180 0 172 (dk_at dksX1_voyages_4 17 rfl rfl)
theorem dX1_voyages_114 : decode cX1_voyages 114 = .ok (.iload 5, 2) := dk_21 5 (dk_at dksX1_voyages_4 20 rfl rfl)
theorem dX1_voyages_116 : decode cX1_voyages 116 = .ok (.iaload, 1) := dk_46 (dk_at dksX1_voyages_4 22 rfl rfl)
theorem dX1_voyages_117 : decode cX1_voyages 117 = .ok (.ifCond .ne 24, 3) := dk_154 0 24 (dk_at dksX1_voyages_5 0 rfl rfl)
theorem dX1_voyages_120 : decode cX1_voyages 120 = .ok (.aload_n 0, 1) := dk_42 (dk_at dksX1_voyages_5 3 rfl rfl)
theorem dX1_voyages_121 : decode cX1_voyages 121 = .ok (.getfield 56, 3) := dk_180 0 56 (dk_at dksX1_voyages_5 4 rfl rfl)
theorem dX1_voyages_124 : decode cX1_voyages 124 = .ok (.iload 5, 2) := dk_21 5 (dk_at dksX1_voyages_5 7 rfl rfl)
theorem dX1_voyages_126 : decode cX1_voyages 126 = .ok (.iload 4, 2) := dk_21 4 (dk_at dksX1_voyages_5 9 rfl rfl)
theorem dX1_voyages_128 : decode cX1_voyages 128 = .ok (.iconst 2, 1) := dk_5 (dk_at dksX1_voyages_5 11 rfl rfl)
theorem dX1_voyages_129 : decode cX1_voyages 129 = .ok (.if_icmp .ne 7, 3) := dk_160 0 7 (dk_at dksX1_voyages_5 12 rfl rfl)
theorem dX1_voyages_132 : decode cX1_voyages 132 = .ok (.iconst 3, 1) := dk_6 (dk_at dksX1_voyages_5 15 rfl rfl)
theorem dX1_voyages_133 : decode cX1_voyages 133 = .ok (.goto 5, 3) := dk_167 0 5 (dk_at dksX1_voyages_5 16 rfl rfl)
theorem dX1_voyages_136 : decode cX1_voyages 136 = .ok (.bipush (-3), 2) := dk_16 253 (dk_at dksX1_voyages_5 19 rfl rfl)
theorem dX1_voyages_138 : decode cX1_voyages 138 = .ok (.invokevirtual 315, 3) := dk_182 1 59 (dk_at dksX1_voyages_5 21 rfl rfl)
theorem dX1_voyages_141 : decode cX1_voyages 141 = .ok (.iinc 3 1, 3) := dk_132 3 1 (dk_at dksX1_voyages_6 0 rfl rfl)
theorem dX1_voyages_144 : decode cX1_voyages 144 = .ok (.goto (-112), 3) := dk_167 255 144 (dk_at dksX1_voyages_6 3 rfl rfl)
theorem dX1_voyages_147 : decode cX1_voyages 147 = .ok (.aload_n 0, 1) := dk_42 (dk_at dksX1_voyages_6 6 rfl rfl)
theorem dX1_voyages_148 : decode cX1_voyages 148 = .ok (.iconst 0, 1) := dk_3 (dk_at dksX1_voyages_6 7 rfl rfl)
theorem dX1_voyages_149 : decode cX1_voyages 149 = .ok (.putfield 122, 3) := dk_181 0 122 (dk_at dksX1_voyages_6 8 rfl rfl)
theorem dX1_voyages_152 : decode cX1_voyages 152 = .ok (.aload_n 0, 1) := dk_42 (dk_at dksX1_voyages_6 11 rfl rfl)
theorem dX1_voyages_153 : decode cX1_voyages 153 = .ok (.aload_n 0, 1) := dk_42 (dk_at dksX1_voyages_6 12 rfl rfl)
theorem dX1_voyages_154 : decode cX1_voyages 154 = .ok (.aload_n 0, 1) := dk_42 (dk_at dksX1_voyages_6 13 rfl rfl)
theorem dX1_voyages_155 : decode cX1_voyages 155 = .ok (.getfield 56, 3) := dk_180 0 56 (dk_at dksX1_voyages_6 14 rfl rfl)
theorem dX1_voyages_158 : decode cX1_voyages 158 = .ok (.iconst 0, 1) := dk_3 (dk_at dksX1_voyages_6 17 rfl rfl)
theorem dX1_voyages_159 : decode cX1_voyages 159 = .ok (.iconst 0, 1) := dk_3 (dk_at dksX1_voyages_6 18 rfl rfl)
theorem dX1_voyages_160 : decode cX1_voyages 160 = .ok (.invokevirtual 240, 3) := dk_182 0 240 (dk_at dksX1_voyages_6 19 rfl rfl)
theorem dX1_voyages_163 : decode cX1_voyages 163 = .ok (.invokestatic 229, 3) := dk_184 0 229 (dk_at dksX1_voyages_7 0 rfl rfl)
theorem dX1_voyages_166 : decode cX1_voyages 166 = .ok (.i2l, 1) := dk_133 (dk_at dksX1_voyages_7 3 rfl rfl)
theorem dX1_voyages_167 : decode cX1_voyages 167 = .ok (.invokevirtual 331, 3) := dk_182 1 75 (dk_at dksX1_voyages_7 4 rfl rfl)
theorem dX1_voyages_170 : decode cX1_voyages 170 = .ok (.aload_n 0, 1) := dk_42 (dk_at dksX1_voyages_7 7 rfl rfl)
theorem dX1_voyages_171 : decode cX1_voyages 171 = .ok (.aload_n 0, 1) := dk_42 (dk_at dksX1_voyages_7 8 rfl rfl)
theorem dX1_voyages_172 : decode cX1_voyages 172 = .ok (.getfield 56, 3) := dk_180 0 56 (dk_at dksX1_voyages_7 9 rfl rfl)
theorem dX1_voyages_175 : decode cX1_voyages 175 = .ok (.getfield 388, 3) := dk_180 1 132 (dk_at dksX1_voyages_7 12 rfl rfl)
theorem dX1_voyages_178 : decode cX1_voyages 178 = .ok (.i2l, 1) := dk_133 (dk_at dksX1_voyages_7 15 rfl rfl)
theorem dX1_voyages_179 : decode cX1_voyages 179 = .ok (.invokevirtual 331, 3) := dk_182 1 75 (dk_at dksX1_voyages_7 16 rfl rfl)
theorem dX1_voyages_182 : decode cX1_voyages 182 = .ok (.aload_n 0, 1) := dk_42 (dk_at dksX1_voyages_7 19 rfl rfl)
theorem dX1_voyages_183 : decode cX1_voyages 183 = .ok (.getfield 56, 3) := dk_180 0 56 (dk_at dksX1_voyages_7 20 rfl rfl)
theorem dX1_voyages_186 : decode cX1_voyages 186 = .ok (.getfield 302, 3) := dk_180 1 46 (dk_at dksX1_voyages_8 0 rfl rfl)
theorem dX1_voyages_189 : decode cX1_voyages 189 = .ok (.ireturn, 1) := dk_172 (dk_at dksX1_voyages_8 3 rfl rfl)
abbrev cX1_draw : ByteArray := prog_1_method_84_code
def yX1_draw : MethodName := ⟨RX1, "draw", "(I)I"⟩
def dkwX1_draw_1 : List UInt8 := [112, 172]
abbrev dktX1_draw_1 : List UInt8 := dkwX1_draw_1 ++ []
def dkwX1_draw_0 : List UInt8 := [42, 42, 180, 1, 214, 19, 1, 217, 104, 17, 48, 57, 96, 181, 1, 214, 42, 180, 1, 214, 16, 16, 124, 27]
abbrev dktX1_draw_0 : List UInt8 := dkwX1_draw_0 ++ dktX1_draw_1
theorem dksX1_draw_0 : cX1_draw.data.toList.drop 0 = dktX1_draw_0 := by decide +kernel
theorem dksX1_draw_1 : cX1_draw.data.toList.drop 24 = dktX1_draw_1 := dk_seg dksX1_draw_0 24 rfl rfl
theorem dX1_draw_0 : decode cX1_draw 0 = .ok (.aload_n 0, 1) := dk_42 (dk_at dksX1_draw_0 0 rfl rfl)
theorem dX1_draw_1 : decode cX1_draw 1 = .ok (.aload_n 0, 1) := dk_42 (dk_at dksX1_draw_0 1 rfl rfl)
theorem dX1_draw_2 : decode cX1_draw 2 = .ok (.getfield 470, 3) := dk_180 1 214 (dk_at dksX1_draw_0 2 rfl rfl)
theorem dX1_draw_5 : decode cX1_draw 5 = .ok (.ldc_w 473, 3) := dk_19 1 217 (dk_at dksX1_draw_0 5 rfl rfl)
theorem dX1_draw_8 : decode cX1_draw 8 = .ok (.imul, 1) := dk_104 (dk_at dksX1_draw_0 8 rfl rfl)
theorem dX1_draw_9 : decode cX1_draw 9 = .ok (.sipush 12345, 3) := dk_17 48 57 (dk_at dksX1_draw_0 9 rfl rfl)
theorem dX1_draw_12 : decode cX1_draw 12 = .ok (.iadd, 1) := dk_96 (dk_at dksX1_draw_0 12 rfl rfl)
theorem dX1_draw_13 : decode cX1_draw 13 = .ok (.putfield 470, 3) := dk_181 1 214 (dk_at dksX1_draw_0 13 rfl rfl)
theorem dX1_draw_16 : decode cX1_draw 16 = .ok (.aload_n 0, 1) := dk_42 (dk_at dksX1_draw_0 16 rfl rfl)
theorem dX1_draw_17 : decode cX1_draw 17 = .ok (.getfield 470, 3) := dk_180 1 214 (dk_at dksX1_draw_0 17 rfl rfl)
theorem dX1_draw_20 : decode cX1_draw 20 = .ok (.bipush 16, 2) := dk_16 16 (dk_at dksX1_draw_0 20 rfl rfl)
theorem dX1_draw_22 : decode cX1_draw 22 = .ok (.iushr, 1) := dk_124 (dk_at dksX1_draw_0 22 rfl rfl)
theorem dX1_draw_23 : decode cX1_draw 23 = .ok (.iload_n 1, 1) := dk_27 (dk_at dksX1_draw_0 23 rfl rfl)
theorem dX1_draw_24 : decode cX1_draw 24 = .ok (.irem, 1) := dk_112 (dk_at dksX1_draw_1 0 rfl rfl)
theorem dX1_draw_25 : decode cX1_draw 25 = .ok (.ireturn, 1) := dk_172 (dk_at dksX1_draw_1 1 rfl rfl)
abbrev cX1_keep : ByteArray := prog_1_method_86_code
def yX1_keep : MethodName := ⟨RX1, "keep", "(I)Z"⟩
def dkwX1_keep_1 : List UInt8 := [183, 1, 223, 83, 4, 172]
abbrev dktX1_keep_1 : List UInt8 := dkwX1_keep_1 ++ []
def dkwX1_keep_0 : List UInt8 := [27, 133, 9, 20, 1, 221, 184, 0, 129, 154, 0, 5, 3, 172, 42, 180, 0, 118, 27, 187, 0, 116, 89, 42]
abbrev dktX1_keep_0 : List UInt8 := dkwX1_keep_0 ++ dktX1_keep_1
theorem dksX1_keep_0 : cX1_keep.data.toList.drop 0 = dktX1_keep_0 := by decide +kernel
theorem dksX1_keep_1 : cX1_keep.data.toList.drop 24 = dktX1_keep_1 := dk_seg dksX1_keep_0 24 rfl rfl
theorem dX1_keep_0 : decode cX1_keep 0 = .ok (.iload_n 1, 1) := dk_27 (dk_at dksX1_keep_0 0 rfl rfl)
theorem dX1_keep_1 : decode cX1_keep 1 = .ok (.i2l, 1) := dk_133 (dk_at dksX1_keep_0 1 rfl rfl)
theorem dX1_keep_2 : decode cX1_keep 2 = .ok (.lconst 0, 1) := dk_9 (dk_at dksX1_keep_0 2 rfl rfl)
theorem dX1_keep_3 : decode cX1_keep 3 = .ok (.ldc2_w 477, 3) := dk_20 1 221 (dk_at dksX1_keep_0 3 rfl rfl)
theorem dX1_keep_6 : decode cX1_keep 6 = .ok (.invokestatic 129, 3) := dk_184 0 129 (dk_at dksX1_keep_0 6 rfl rfl)
theorem dX1_keep_9 : decode cX1_keep 9 = .ok (.ifCond .ne 5, 3) := dk_154 0 5 (dk_at dksX1_keep_0 9 rfl rfl)
theorem dX1_keep_12 : decode cX1_keep 12 = .ok (.iconst 0, 1) := dk_3 (dk_at dksX1_keep_0 12 rfl rfl)
theorem dX1_keep_13 : decode cX1_keep 13 = .ok (.ireturn, 1) := dk_172 (dk_at dksX1_keep_0 13 rfl rfl)
theorem dX1_keep_14 : decode cX1_keep 14 = .ok (.aload_n 0, 1) := dk_42 (dk_at dksX1_keep_0 14 rfl rfl)
theorem dX1_keep_15 : decode cX1_keep 15 = .ok (.getfield 118, 3) := dk_180 0 118 (dk_at dksX1_keep_0 15 rfl rfl)
theorem dX1_keep_18 : decode cX1_keep 18 = .ok (.iload_n 1, 1) := dk_27 (dk_at dksX1_keep_0 18 rfl rfl)
theorem dX1_keep_19 : decode cX1_keep 19 = .ok (.new 116, 3) := dk_187 0 116 (dk_at dksX1_keep_0 19 rfl rfl)
theorem dX1_keep_22 : decode cX1_keep 22 = .ok (.dup, 1) := dk_89 (dk_at dksX1_keep_0 22 rfl rfl)
theorem dX1_keep_23 : decode cX1_keep 23 = .ok (.aload_n 0, 1) := dk_42 (dk_at dksX1_keep_0 23 rfl rfl)
theorem dX1_keep_24 : decode cX1_keep 24 = .ok (.invokespecial 479, 3) := dk_183 1 223 (dk_at dksX1_keep_1 0 rfl rfl)
theorem dX1_keep_27 : decode cX1_keep 27 = .ok (.aastore, 1) := dk_83 (dk_at dksX1_keep_1 3 rfl rfl)
theorem dX1_keep_28 : decode cX1_keep 28 = .ok (.iconst 1, 1) := dk_4 (dk_at dksX1_keep_1 4 rfl rfl)
theorem dX1_keep_29 : decode cX1_keep 29 = .ok (.ireturn, 1) := dk_172 (dk_at dksX1_keep_1 5 rfl rfl)
abbrev cX1_again : ByteArray := prog_1_method_87_code
def yX1_again : MethodName := ⟨RX1, "again", "(I)Z"⟩
def dkwX1_again_2 : List UInt8 := [180, 0, 118, 27, 50, 180, 1, 227, 182, 1, 37, 42, 3, 181, 0, 175, 4, 172]
abbrev dktX1_again_2 : List UInt8 := dkwX1_again_2 ++ []
def dkwX1_again_1 : List UInt8 := [180, 0, 118, 27, 50, 180, 1, 224, 42, 180, 0, 178, 159, 0, 5, 3, 172, 42, 180, 0, 49, 42]
abbrev dktX1_again_1 : List UInt8 := dkwX1_again_1 ++ dktX1_again_2
def dkwX1_again_0 : List UInt8 := [27, 133, 9, 20, 1, 221, 184, 0, 129, 153, 0, 28, 42, 180, 0, 118, 27, 50, 198, 0, 19, 42]
abbrev dktX1_again_0 : List UInt8 := dkwX1_again_0 ++ dktX1_again_1
theorem dksX1_again_0 : cX1_again.data.toList.drop 0 = dktX1_again_0 := by decide +kernel
theorem dksX1_again_1 : cX1_again.data.toList.drop 22 = dktX1_again_1 := dk_seg dksX1_again_0 22 rfl rfl
theorem dksX1_again_2 : cX1_again.data.toList.drop 44 = dktX1_again_2 := dk_seg dksX1_again_1 22 rfl rfl
theorem dX1_again_0 : decode cX1_again 0 = .ok (.iload_n 1, 1) := dk_27 (dk_at dksX1_again_0 0 rfl rfl)
theorem dX1_again_1 : decode cX1_again 1 = .ok (.i2l, 1) := dk_133 (dk_at dksX1_again_0 1 rfl rfl)
theorem dX1_again_2 : decode cX1_again 2 = .ok (.lconst 0, 1) := dk_9 (dk_at dksX1_again_0 2 rfl rfl)
theorem dX1_again_3 : decode cX1_again 3 = .ok (.ldc2_w 477, 3) := dk_20 1 221 (dk_at dksX1_again_0 3 rfl rfl)
theorem dX1_again_6 : decode cX1_again 6 = .ok (.invokestatic 129, 3) := dk_184 0 129 (dk_at dksX1_again_0 6 rfl rfl)
theorem dX1_again_9 : decode cX1_again 9 = .ok (.ifCond .eq 28, 3) := dk_153 0 28 (dk_at dksX1_again_0 9 rfl rfl)
theorem dX1_again_12 : decode cX1_again 12 = .ok (.aload_n 0, 1) := dk_42 (dk_at dksX1_again_0 12 rfl rfl)
theorem dX1_again_13 : decode cX1_again 13 = .ok (.getfield 118, 3) := dk_180 0 118 (dk_at dksX1_again_0 13 rfl rfl)
theorem dX1_again_16 : decode cX1_again 16 = .ok (.iload_n 1, 1) := dk_27 (dk_at dksX1_again_0 16 rfl rfl)
theorem dX1_again_17 : decode cX1_again 17 = .ok (.aaload, 1) := dk_50 (dk_at dksX1_again_0 17 rfl rfl)
theorem dX1_again_18 : decode cX1_again 18 = .ok (.ifnull 19, 3) := dk_198 0 19 (dk_at dksX1_again_0 18 rfl rfl)
theorem dX1_again_21 : decode cX1_again 21 = .ok (.aload_n 0, 1) := dk_42 (dk_at dksX1_again_0 21 rfl rfl)
theorem dX1_again_22 : decode cX1_again 22 = .ok (.getfield 118, 3) := dk_180 0 118 (dk_at dksX1_again_1 0 rfl rfl)
theorem dX1_again_25 : decode cX1_again 25 = .ok (.iload_n 1, 1) := dk_27 (dk_at dksX1_again_1 3 rfl rfl)
theorem dX1_again_26 : decode cX1_again 26 = .ok (.aaload, 1) := dk_50 (dk_at dksX1_again_1 4 rfl rfl)
theorem dX1_again_27 : decode cX1_again 27 = .ok (.getfield 480, 3) := dk_180 1 224 (dk_at dksX1_again_1 5 rfl rfl)
theorem dX1_again_30 : decode cX1_again 30 = .ok (.aload_n 0, 1) := dk_42 (dk_at dksX1_again_1 8 rfl rfl)
theorem dX1_again_31 : decode cX1_again 31 = .ok (.getfield 178, 3) := dk_180 0 178 (dk_at dksX1_again_1 9 rfl rfl)
theorem dX1_again_34 : decode cX1_again 34 = .ok (.if_icmp .eq 5, 3) := dk_159 0 5 (dk_at dksX1_again_1 12 rfl rfl)
theorem dX1_again_37 : decode cX1_again 37 = .ok (.iconst 0, 1) := dk_3 (dk_at dksX1_again_1 15 rfl rfl)
theorem dX1_again_38 : decode cX1_again 38 = .ok (.ireturn, 1) := dk_172 (dk_at dksX1_again_1 16 rfl rfl)
theorem dX1_again_39 : decode cX1_again 39 = .ok (.aload_n 0, 1) := dk_42 (dk_at dksX1_again_1 17 rfl rfl)
theorem dX1_again_40 : decode cX1_again 40 = .ok (.getfield 49, 3) := dk_180 0 49 (dk_at dksX1_again_1 18 rfl rfl)
theorem dX1_again_43 : decode cX1_again 43 = .ok (.aload_n 0, 1) := dk_42 (dk_at dksX1_again_1 21 rfl rfl)
theorem dX1_again_44 : decode cX1_again 44 = .ok (.getfield 118, 3) := dk_180 0 118 (dk_at dksX1_again_2 0 rfl rfl)
theorem dX1_again_47 : decode cX1_again 47 = .ok (.iload_n 1, 1) := dk_27 (dk_at dksX1_again_2 3 rfl rfl)
theorem dX1_again_48 : decode cX1_again 48 = .ok (.aaload, 1) := dk_50 (dk_at dksX1_again_2 4 rfl rfl)
theorem dX1_again_49 : decode cX1_again 49 = .ok (.getfield 483, 3) := dk_180 1 227 (dk_at dksX1_again_2 5 rfl rfl)
theorem dX1_again_52 : decode cX1_again 52 = .ok (.invokevirtual 293, 3) := dk_182 1 37 (dk_at dksX1_again_2 8 rfl rfl)
theorem dX1_again_55 : decode cX1_again 55 = .ok (.aload_n 0, 1) := dk_42 (dk_at dksX1_again_2 11 rfl rfl)
theorem dX1_again_56 : decode cX1_again 56 = .ok (.iconst 0, 1) := dk_3 (dk_at dksX1_again_2 12 rfl rfl)
theorem dX1_again_57 : decode cX1_again 57 = .ok (.putfield 175, 3) := dk_181 0 175 (dk_at dksX1_again_2 13 rfl rfl)
theorem dX1_again_60 : decode cX1_again 60 = .ok (.iconst 1, 1) := dk_4 (dk_at dksX1_again_2 16 rfl rfl)
theorem dX1_again_61 : decode cX1_again 61 = .ok (.ireturn, 1) := dk_172 (dk_at dksX1_again_2 17 rfl rfl)
abbrev cX1_count : ByteArray := prog_1_method_88_code
def yX1_count : MethodName := ⟨RX1, "count", "(I)I"⟩
def dkwX1_count_7 : List UInt8 := [172, 42, 180, 0, 135, 172, 16, 156, 172]
abbrev dktX1_count_7 : List UInt8 := dkwX1_count_7 ++ []
def dkwX1_count_6 : List UInt8 := [180, 0, 87, 190, 172, 42, 180, 1, 164, 172, 42, 180, 1, 196, 172, 42, 180, 0, 175, 172, 42, 180, 0, 122]
abbrev dktX1_count_6 : List UInt8 := dkwX1_count_6 ++ dktX1_count_7
def dkwX1_count_5 : List UInt8 := [180, 0, 126, 4, 182, 0, 217, 172, 42, 180, 0, 49, 42, 180, 0, 126, 5, 182, 0, 217, 172, 42]
abbrev dktX1_count_5 : List UInt8 := dkwX1_count_5 ++ dktX1_count_6
def dkwX1_count_4 : List UInt8 := [180, 1, 40, 172, 42, 180, 0, 49, 42, 180, 0, 126, 3, 182, 0, 217, 172, 42, 180, 0, 49, 42]
abbrev dktX1_count_4 : List UInt8 := dkwX1_count_4 ++ dktX1_count_5
def dkwX1_count_3 : List UInt8 := [180, 1, 46, 172, 42, 180, 0, 49, 180, 1, 1, 172, 42, 180, 0, 49, 180, 1, 4, 172, 42, 180, 0, 49]
abbrev dktX1_count_3 : List UInt8 := dkwX1_count_3 ++ dktX1_count_4
def dkwX1_count_2 : List UInt8 := [42, 180, 0, 126, 172, 42, 180, 0, 192, 172, 42, 180, 0, 49, 180, 1, 132, 172, 42, 180, 0, 49]
abbrev dktX1_count_2 : List UInt8 := dkwX1_count_2 ++ dktX1_count_3
def dkwX1_count_1 : List UInt8 := [170, 0, 0, 0, 0, 0, 199, 0, 0, 0, 0, 0, 0, 0, 15, 0, 0, 0, 79, 0, 0, 0, 84, 0, 0, 0, 89, 0, 0, 0, 97, 0, 0, 0, 105, 0, 0, 0, 113, 0, 0, 0, 121, 0, 0, 0, 129, 0, 0, 0, 142, 0, 0, 0, 155, 0, 0, 0, 168, 0, 0, 0, 174, 0, 0, 0, 179, 0, 0, 0, 184, 0, 0, 0, 189, 0, 0, 0, 194]
abbrev dktX1_count_1 : List UInt8 := dkwX1_count_1 ++ dktX1_count_2
def dkwX1_count_0 : List UInt8 := [27]
abbrev dktX1_count_0 : List UInt8 := dkwX1_count_0 ++ dktX1_count_1
theorem dksX1_count_0 : cX1_count.data.toList.drop 0 = dktX1_count_0 := by decide +kernel
theorem dksX1_count_1 : cX1_count.data.toList.drop 1 = dktX1_count_1 := dk_seg dksX1_count_0 1 rfl rfl
theorem dksX1_count_2 : cX1_count.data.toList.drop 80 = dktX1_count_2 := dk_seg dksX1_count_1 79 rfl rfl
theorem dksX1_count_3 : cX1_count.data.toList.drop 102 = dktX1_count_3 := dk_seg dksX1_count_2 22 rfl rfl
theorem dksX1_count_4 : cX1_count.data.toList.drop 126 = dktX1_count_4 := dk_seg dksX1_count_3 24 rfl rfl
theorem dksX1_count_5 : cX1_count.data.toList.drop 148 = dktX1_count_5 := dk_seg dksX1_count_4 22 rfl rfl
theorem dksX1_count_6 : cX1_count.data.toList.drop 170 = dktX1_count_6 := dk_seg dksX1_count_5 22 rfl rfl
theorem dksX1_count_7 : cX1_count.data.toList.drop 194 = dktX1_count_7 := dk_seg dksX1_count_6 24 rfl rfl
theorem dX1_count_0 : decode cX1_count 0 = .ok (.iload_n 1, 1) := dk_27 (dk_at dksX1_count_0 0 rfl rfl)
theorem dX1_count_1 : decode cX1_count 1 = .ok (.tableswitch 199 0 15 #[79, 84, 89, 97, 105, 113, 121, 129, 142, 155, 168, 174, 179, 184, 189, 194], 79) := by decide +kernel
theorem dX1_count_80 : decode cX1_count 80 = .ok (.aload_n 0, 1) := dk_42 (dk_at dksX1_count_2 0 rfl rfl)
theorem dX1_count_81 : decode cX1_count 81 = .ok (.getfield 126, 3) := dk_180 0 126 (dk_at dksX1_count_2 1 rfl rfl)
theorem dX1_count_84 : decode cX1_count 84 = .ok (.ireturn, 1) := dk_172 (dk_at dksX1_count_2 4 rfl rfl)
theorem dX1_count_85 : decode cX1_count 85 = .ok (.aload_n 0, 1) := dk_42 (dk_at dksX1_count_2 5 rfl rfl)
theorem dX1_count_86 : decode cX1_count 86 = .ok (.getfield 192, 3) := dk_180 0 192 (dk_at dksX1_count_2 6 rfl rfl)
theorem dX1_count_89 : decode cX1_count 89 = .ok (.ireturn, 1) := dk_172 (dk_at dksX1_count_2 9 rfl rfl)
theorem dX1_count_90 : decode cX1_count 90 = .ok (.aload_n 0, 1) := dk_42 (dk_at dksX1_count_2 10 rfl rfl)
theorem dX1_count_91 : decode cX1_count 91 = .ok (.getfield 49, 3) := dk_180 0 49 (dk_at dksX1_count_2 11 rfl rfl)
theorem dX1_count_94 : decode cX1_count 94 = .ok (.getfield 388, 3) := dk_180 1 132 (dk_at dksX1_count_2 14 rfl rfl)
theorem dX1_count_97 : decode cX1_count 97 = .ok (.ireturn, 1) := dk_172 (dk_at dksX1_count_2 17 rfl rfl)
theorem dX1_count_98 : decode cX1_count 98 = .ok (.aload_n 0, 1) := dk_42 (dk_at dksX1_count_2 18 rfl rfl)
theorem dX1_count_99 : decode cX1_count 99 = .ok (.getfield 49, 3) := dk_180 0 49 (dk_at dksX1_count_2 19 rfl rfl)
theorem dX1_count_102 : decode cX1_count 102 = .ok (.getfield 302, 3) := dk_180 1 46 (dk_at dksX1_count_3 0 rfl rfl)
theorem dX1_count_105 : decode cX1_count 105 = .ok (.ireturn, 1) := dk_172 (dk_at dksX1_count_3 3 rfl rfl)
theorem dX1_count_106 : decode cX1_count 106 = .ok (.aload_n 0, 1) := dk_42 (dk_at dksX1_count_3 4 rfl rfl)
theorem dX1_count_107 : decode cX1_count 107 = .ok (.getfield 49, 3) := dk_180 0 49 (dk_at dksX1_count_3 5 rfl rfl)
theorem dX1_count_110 : decode cX1_count 110 = .ok (.getfield 257, 3) := dk_180 1 1 (dk_at dksX1_count_3 8 rfl rfl)
theorem dX1_count_113 : decode cX1_count 113 = .ok (.ireturn, 1) := dk_172 (dk_at dksX1_count_3 11 rfl rfl)
theorem dX1_count_114 : decode cX1_count 114 = .ok (.aload_n 0, 1) := dk_42 (dk_at dksX1_count_3 12 rfl rfl)
theorem dX1_count_115 : decode cX1_count 115 = .ok (.getfield 49, 3) := dk_180 0 49 (dk_at dksX1_count_3 13 rfl rfl)
theorem dX1_count_118 : decode cX1_count 118 = .ok (.getfield 260, 3) := dk_180 1 4 (dk_at dksX1_count_3 16 rfl rfl)
theorem dX1_count_121 : decode cX1_count 121 = .ok (.ireturn, 1) := dk_172 (dk_at dksX1_count_3 19 rfl rfl)
theorem dX1_count_122 : decode cX1_count 122 = .ok (.aload_n 0, 1) := dk_42 (dk_at dksX1_count_3 20 rfl rfl)
theorem dX1_count_123 : decode cX1_count 123 = .ok (.getfield 49, 3) := dk_180 0 49 (dk_at dksX1_count_3 21 rfl rfl)
theorem dX1_count_126 : decode cX1_count 126 = .ok (.getfield 296, 3) := dk_180 1 40 (dk_at dksX1_count_4 0 rfl rfl)
theorem dX1_count_129 : decode cX1_count 129 = .ok (.ireturn, 1) := dk_172 (dk_at dksX1_count_4 3 rfl rfl)
theorem dX1_count_130 : decode cX1_count 130 = .ok (.aload_n 0, 1) := dk_42 (dk_at dksX1_count_4 4 rfl rfl)
theorem dX1_count_131 : decode cX1_count 131 = .ok (.getfield 49, 3) := dk_180 0 49 (dk_at dksX1_count_4 5 rfl rfl)
theorem dX1_count_134 : decode cX1_count 134 = .ok (.aload_n 0, 1) := dk_42 (dk_at dksX1_count_4 8 rfl rfl)
theorem dX1_count_135 : decode cX1_count 135 = .ok (.getfield 126, 3) := dk_180 0 126 (dk_at dksX1_count_4 9 rfl rfl)
theorem dX1_count_138 : decode cX1_count 138 = .ok (.iconst 0, 1) := dk_3 (dk_at dksX1_count_4 12 rfl rfl)
theorem dX1_count_139 : decode cX1_count 139 = .ok (.invokevirtual 217, 3) := dk_182 0 217 (dk_at dksX1_count_4 13 rfl rfl)
theorem dX1_count_142 : decode cX1_count 142 = .ok (.ireturn, 1) := dk_172 (dk_at dksX1_count_4 16 rfl rfl)
theorem dX1_count_143 : decode cX1_count 143 = .ok (.aload_n 0, 1) := dk_42 (dk_at dksX1_count_4 17 rfl rfl)
theorem dX1_count_144 : decode cX1_count 144 = .ok (.getfield 49, 3) := dk_180 0 49 (dk_at dksX1_count_4 18 rfl rfl)
theorem dX1_count_147 : decode cX1_count 147 = .ok (.aload_n 0, 1) := dk_42 (dk_at dksX1_count_4 21 rfl rfl)
theorem dX1_count_148 : decode cX1_count 148 = .ok (.getfield 126, 3) := dk_180 0 126 (dk_at dksX1_count_5 0 rfl rfl)
theorem dX1_count_151 : decode cX1_count 151 = .ok (.iconst 1, 1) := dk_4 (dk_at dksX1_count_5 3 rfl rfl)
theorem dX1_count_152 : decode cX1_count 152 = .ok (.invokevirtual 217, 3) := dk_182 0 217 (dk_at dksX1_count_5 4 rfl rfl)
theorem dX1_count_155 : decode cX1_count 155 = .ok (.ireturn, 1) := dk_172 (dk_at dksX1_count_5 7 rfl rfl)
theorem dX1_count_156 : decode cX1_count 156 = .ok (.aload_n 0, 1) := dk_42 (dk_at dksX1_count_5 8 rfl rfl)
theorem dX1_count_157 : decode cX1_count 157 = .ok (.getfield 49, 3) := dk_180 0 49 (dk_at dksX1_count_5 9 rfl rfl)
theorem dX1_count_160 : decode cX1_count 160 = .ok (.aload_n 0, 1) := dk_42 (dk_at dksX1_count_5 12 rfl rfl)
theorem dX1_count_161 : decode cX1_count 161 = .ok (.getfield 126, 3) := dk_180 0 126 (dk_at dksX1_count_5 13 rfl rfl)
theorem dX1_count_164 : decode cX1_count 164 = .ok (.iconst 2, 1) := dk_5 (dk_at dksX1_count_5 16 rfl rfl)
theorem dX1_count_165 : decode cX1_count 165 = .ok (.invokevirtual 217, 3) := dk_182 0 217 (dk_at dksX1_count_5 17 rfl rfl)
theorem dX1_count_168 : decode cX1_count 168 = .ok (.ireturn, 1) := dk_172 (dk_at dksX1_count_5 20 rfl rfl)
theorem dX1_count_169 : decode cX1_count 169 = .ok (.aload_n 0, 1) := dk_42 (dk_at dksX1_count_5 21 rfl rfl)
theorem dX1_count_170 : decode cX1_count 170 = .ok (.getfield 87, 3) := dk_180 0 87 (dk_at dksX1_count_6 0 rfl rfl)
theorem dX1_count_173 : decode cX1_count 173 = .ok (.arraylength, 1) := dk_190 (dk_at dksX1_count_6 3 rfl rfl)
theorem dX1_count_174 : decode cX1_count 174 = .ok (.ireturn, 1) := dk_172 (dk_at dksX1_count_6 4 rfl rfl)
theorem dX1_count_175 : decode cX1_count 175 = .ok (.aload_n 0, 1) := dk_42 (dk_at dksX1_count_6 5 rfl rfl)
theorem dX1_count_176 : decode cX1_count 176 = .ok (.getfield 420, 3) := dk_180 1 164 (dk_at dksX1_count_6 6 rfl rfl)
theorem dX1_count_179 : decode cX1_count 179 = .ok (.ireturn, 1) := dk_172 (dk_at dksX1_count_6 9 rfl rfl)
theorem dX1_count_180 : decode cX1_count 180 = .ok (.aload_n 0, 1) := dk_42 (dk_at dksX1_count_6 10 rfl rfl)
theorem dX1_count_181 : decode cX1_count 181 = .ok (.getfield 452, 3) := dk_180 1 196 (dk_at dksX1_count_6 11 rfl rfl)
theorem dX1_count_184 : decode cX1_count 184 = .ok (.ireturn, 1) := dk_172 (dk_at dksX1_count_6 14 rfl rfl)
theorem dX1_count_185 : decode cX1_count 185 = .ok (.aload_n 0, 1) := dk_42 (dk_at dksX1_count_6 15 rfl rfl)
theorem dX1_count_186 : decode cX1_count 186 = .ok (.getfield 175, 3) := dk_180 0 175 (dk_at dksX1_count_6 16 rfl rfl)
theorem dX1_count_189 : decode cX1_count 189 = .ok (.ireturn, 1) := dk_172 (dk_at dksX1_count_6 19 rfl rfl)
theorem dX1_count_190 : decode cX1_count 190 = .ok (.aload_n 0, 1) := dk_42 (dk_at dksX1_count_6 20 rfl rfl)
theorem dX1_count_191 : decode cX1_count 191 = .ok (.getfield 122, 3) := dk_180 0 122 (dk_at dksX1_count_6 21 rfl rfl)
theorem dX1_count_194 : decode cX1_count 194 = .ok (.ireturn, 1) := dk_172 (dk_at dksX1_count_7 0 rfl rfl)
theorem dX1_count_195 : decode cX1_count 195 = .ok (.aload_n 0, 1) := dk_42 (dk_at dksX1_count_7 1 rfl rfl)
theorem dX1_count_196 : decode cX1_count 196 = .ok (.getfield 135, 3) := dk_180 0 135 (dk_at dksX1_count_7 2 rfl rfl)
theorem dX1_count_199 : decode cX1_count 199 = .ok (.ireturn, 1) := dk_172 (dk_at dksX1_count_7 5 rfl rfl)
theorem dX1_count_200 : decode cX1_count 200 = .ok (.bipush (-100), 2) := dk_16 156 (dk_at dksX1_count_7 6 rfl rfl)
theorem dX1_count_202 : decode cX1_count 202 = .ok (.ireturn, 1) := dk_172 (dk_at dksX1_count_7 8 rfl rfl)
abbrev cX1_man : ByteArray := prog_1_method_18_code
def yX1_man : MethodName := ⟨RX1, "man", "(II)I"⟩
def dkwX1_man_4 : List UInt8 := [3, 3, 182, 0, 240, 27, 122, 4, 126, 172, 187, 0, 252, 89, 183, 0, 254, 191]
abbrev dktX1_man_4 : List UInt8 := dkwX1_man_4 ++ []
def dkwX1_man_3 : List UInt8 := [180, 0, 49, 180, 0, 169, 27, 46, 172, 42, 180, 0, 49, 180, 0, 172, 27, 46, 172, 42, 42, 180, 0, 49]
abbrev dktX1_man_3 : List UInt8 := dkwX1_man_3 ++ dktX1_man_4
def dkwX1_man_2 : List UInt8 := [42, 180, 0, 69, 27, 46, 172, 42, 180, 0, 72, 27, 46, 172, 42, 180, 0, 1, 27, 46, 172, 42]
abbrev dktX1_man_2 : List UInt8 := dkwX1_man_2 ++ dktX1_man_3
def dkwX1_man_1 : List UInt8 := [170, 0, 0, 0, 0, 0, 95, 0, 0, 0, 0, 0, 0, 0, 5, 0, 0, 0, 39, 0, 0, 0, 46, 0, 0, 0, 53, 0, 0, 0, 60, 0, 0, 0, 70, 0, 0, 0, 80]
abbrev dktX1_man_1 : List UInt8 := dkwX1_man_1 ++ dktX1_man_2
def dkwX1_man_0 : List UInt8 := [42, 27, 182, 0, 248, 154, 0, 11, 187, 0, 252, 89, 183, 0, 254, 191, 28]
abbrev dktX1_man_0 : List UInt8 := dkwX1_man_0 ++ dktX1_man_1
theorem dksX1_man_0 : cX1_man.data.toList.drop 0 = dktX1_man_0 := by decide +kernel
theorem dksX1_man_1 : cX1_man.data.toList.drop 17 = dktX1_man_1 := dk_seg dksX1_man_0 17 rfl rfl
theorem dksX1_man_2 : cX1_man.data.toList.drop 56 = dktX1_man_2 := dk_seg dksX1_man_1 39 rfl rfl
theorem dksX1_man_3 : cX1_man.data.toList.drop 78 = dktX1_man_3 := dk_seg dksX1_man_2 22 rfl rfl
theorem dksX1_man_4 : cX1_man.data.toList.drop 102 = dktX1_man_4 := dk_seg dksX1_man_3 24 rfl rfl
theorem dX1_man_0 : decode cX1_man 0 = .ok (.aload_n 0, 1) := dk_42 (dk_at dksX1_man_0 0 rfl rfl)
theorem dX1_man_1 : decode cX1_man 1 = .ok (.iload_n 1, 1) := dk_27 (dk_at dksX1_man_0 1 rfl rfl)
theorem dX1_man_2 : decode cX1_man 2 = .ok (.invokevirtual 248, 3) := dk_182 0 248 (dk_at dksX1_man_0 2 rfl rfl)
theorem dX1_man_5 : decode cX1_man 5 = .ok (.ifCond .ne 11, 3) := dk_154 0 11 (dk_at dksX1_man_0 5 rfl rfl)
theorem dX1_man_8 : decode cX1_man 8 = .ok (.new 252, 3) := dk_187 0 252 (dk_at dksX1_man_0 8 rfl rfl)
theorem dX1_man_11 : decode cX1_man 11 = .ok (.dup, 1) := dk_89 (dk_at dksX1_man_0 11 rfl rfl)
theorem dX1_man_12 : decode cX1_man 12 = .ok (.invokespecial 254, 3) := dk_183 0 254 (dk_at dksX1_man_0 12 rfl rfl)
theorem dX1_man_15 : decode cX1_man 15 = .ok (.athrow, 1) := dk_191 (dk_at dksX1_man_0 15 rfl rfl)
theorem dX1_man_16 : decode cX1_man 16 = .ok (.iload_n 2, 1) := dk_28 (dk_at dksX1_man_0 16 rfl rfl)
theorem dX1_man_17 : decode cX1_man 17 = .ok (.tableswitch 95 0 5 #[39, 46, 53, 60, 70, 80], 39) := by decide +kernel
theorem dX1_man_56 : decode cX1_man 56 = .ok (.aload_n 0, 1) := dk_42 (dk_at dksX1_man_2 0 rfl rfl)
theorem dX1_man_57 : decode cX1_man 57 = .ok (.getfield 69, 3) := dk_180 0 69 (dk_at dksX1_man_2 1 rfl rfl)
theorem dX1_man_60 : decode cX1_man 60 = .ok (.iload_n 1, 1) := dk_27 (dk_at dksX1_man_2 4 rfl rfl)
theorem dX1_man_61 : decode cX1_man 61 = .ok (.iaload, 1) := dk_46 (dk_at dksX1_man_2 5 rfl rfl)
theorem dX1_man_62 : decode cX1_man 62 = .ok (.ireturn, 1) := dk_172 (dk_at dksX1_man_2 6 rfl rfl)
theorem dX1_man_63 : decode cX1_man 63 = .ok (.aload_n 0, 1) := dk_42 (dk_at dksX1_man_2 7 rfl rfl)
theorem dX1_man_64 : decode cX1_man 64 = .ok (.getfield 72, 3) := dk_180 0 72 (dk_at dksX1_man_2 8 rfl rfl)
theorem dX1_man_67 : decode cX1_man 67 = .ok (.iload_n 1, 1) := dk_27 (dk_at dksX1_man_2 11 rfl rfl)
theorem dX1_man_68 : decode cX1_man 68 = .ok (.iaload, 1) := dk_46 (dk_at dksX1_man_2 12 rfl rfl)
theorem dX1_man_69 : decode cX1_man 69 = .ok (.ireturn, 1) := dk_172 (dk_at dksX1_man_2 13 rfl rfl)
theorem dX1_man_70 : decode cX1_man 70 = .ok (.aload_n 0, 1) := dk_42 (dk_at dksX1_man_2 14 rfl rfl)
theorem dX1_man_71 : decode cX1_man 71 = .ok (.getfield 1, 3) := dk_180 0 1 (dk_at dksX1_man_2 15 rfl rfl)
theorem dX1_man_74 : decode cX1_man 74 = .ok (.iload_n 1, 1) := dk_27 (dk_at dksX1_man_2 18 rfl rfl)
theorem dX1_man_75 : decode cX1_man 75 = .ok (.iaload, 1) := dk_46 (dk_at dksX1_man_2 19 rfl rfl)
theorem dX1_man_76 : decode cX1_man 76 = .ok (.ireturn, 1) := dk_172 (dk_at dksX1_man_2 20 rfl rfl)
theorem dX1_man_77 : decode cX1_man 77 = .ok (.aload_n 0, 1) := dk_42 (dk_at dksX1_man_2 21 rfl rfl)
theorem dX1_man_78 : decode cX1_man 78 = .ok (.getfield 49, 3) := dk_180 0 49 (dk_at dksX1_man_3 0 rfl rfl)
theorem dX1_man_81 : decode cX1_man 81 = .ok (.getfield 169, 3) := dk_180 0 169 (dk_at dksX1_man_3 3 rfl rfl)
theorem dX1_man_84 : decode cX1_man 84 = .ok (.iload_n 1, 1) := dk_27 (dk_at dksX1_man_3 6 rfl rfl)
theorem dX1_man_85 : decode cX1_man 85 = .ok (.iaload, 1) := dk_46 (dk_at dksX1_man_3 7 rfl rfl)
theorem dX1_man_86 : decode cX1_man 86 = .ok (.ireturn, 1) := dk_172 (dk_at dksX1_man_3 8 rfl rfl)
theorem dX1_man_87 : decode cX1_man 87 = .ok (.aload_n 0, 1) := dk_42 (dk_at dksX1_man_3 9 rfl rfl)
theorem dX1_man_88 : decode cX1_man 88 = .ok (.getfield 49, 3) := dk_180 0 49 (dk_at dksX1_man_3 10 rfl rfl)
theorem dX1_man_91 : decode cX1_man 91 = .ok (.getfield 172, 3) := dk_180 0 172 (dk_at dksX1_man_3 13 rfl rfl)
theorem dX1_man_94 : decode cX1_man 94 = .ok (.iload_n 1, 1) := dk_27 (dk_at dksX1_man_3 16 rfl rfl)
theorem dX1_man_95 : decode cX1_man 95 = .ok (.iaload, 1) := dk_46 (dk_at dksX1_man_3 17 rfl rfl)
theorem dX1_man_96 : decode cX1_man 96 = .ok (.ireturn, 1) := dk_172 (dk_at dksX1_man_3 18 rfl rfl)
theorem dX1_man_97 : decode cX1_man 97 = .ok (.aload_n 0, 1) := dk_42 (dk_at dksX1_man_3 19 rfl rfl)
theorem dX1_man_98 : decode cX1_man 98 = .ok (.aload_n 0, 1) := dk_42 (dk_at dksX1_man_3 20 rfl rfl)
theorem dX1_man_99 : decode cX1_man 99 = .ok (.getfield 49, 3) := dk_180 0 49 (dk_at dksX1_man_3 21 rfl rfl)
theorem dX1_man_102 : decode cX1_man 102 = .ok (.iconst 0, 1) := dk_3 (dk_at dksX1_man_4 0 rfl rfl)
theorem dX1_man_103 : decode cX1_man 103 = .ok (.iconst 0, 1) := dk_3 (dk_at dksX1_man_4 1 rfl rfl)
theorem dX1_man_104 : decode cX1_man 104 = .ok (.invokevirtual 240, 3) := dk_182 0 240 (dk_at dksX1_man_4 2 rfl rfl)
theorem dX1_man_107 : decode cX1_man 107 = .ok (.iload_n 1, 1) := dk_27 (dk_at dksX1_man_4 5 rfl rfl)
theorem dX1_man_108 : decode cX1_man 108 = .ok (.ishr, 1) := dk_122 (dk_at dksX1_man_4 6 rfl rfl)
theorem dX1_man_109 : decode cX1_man 109 = .ok (.iconst 1, 1) := dk_4 (dk_at dksX1_man_4 7 rfl rfl)
theorem dX1_man_110 : decode cX1_man 110 = .ok (.iand, 1) := dk_126 (dk_at dksX1_man_4 8 rfl rfl)
theorem dX1_man_111 : decode cX1_man 111 = .ok (.ireturn, 1) := dk_172 (dk_at dksX1_man_4 9 rfl rfl)
theorem dX1_man_112 : decode cX1_man 112 = .ok (.new 252, 3) := dk_187 0 252 (dk_at dksX1_man_4 10 rfl rfl)
theorem dX1_man_115 : decode cX1_man 115 = .ok (.dup, 1) := dk_89 (dk_at dksX1_man_4 13 rfl rfl)
theorem dX1_man_116 : decode cX1_man 116 = .ok (.invokespecial 254, 3) := dk_183 0 254 (dk_at dksX1_man_4 14 rfl rfl)
theorem dX1_man_119 : decode cX1_man 119 = .ok (.athrow, 1) := dk_191 (dk_at dksX1_man_4 17 rfl rfl)
abbrev cX1_island : ByteArray := prog_1_method_19_code
def yX1_island : MethodName := ⟨RX1, "island", "(II)I"⟩
def dkwX1_island_3 : List UInt8 := [180, 0, 81, 27, 46, 167, 0, 9, 42, 180, 0, 84, 27, 46, 172]
abbrev dktX1_island_3 : List UInt8 := dkwX1_island_3 ++ []
def dkwX1_island_2 : List UInt8 := [167, 0, 37, 28, 4, 160, 0, 12, 42, 180, 0, 78, 27, 46, 167, 0, 23, 28, 5, 160, 0, 12, 42]
abbrev dktX1_island_2 : List UInt8 := dkwX1_island_2 ++ dktX1_island_3
def dkwX1_island_1 : List UInt8 := [184, 0, 129, 154, 0, 11, 187, 0, 252, 89, 183, 0, 254, 191, 28, 154, 0, 12, 42, 180, 0, 75, 27, 46]
abbrev dktX1_island_1 : List UInt8 := dkwX1_island_1 ++ dktX1_island_2
def dkwX1_island_0 : List UInt8 := [27, 133, 9, 42, 180, 0, 192, 4, 100, 133, 184, 0, 129, 153, 0, 15, 28, 133, 9, 20, 0, 255]
abbrev dktX1_island_0 : List UInt8 := dkwX1_island_0 ++ dktX1_island_1
theorem dksX1_island_0 : cX1_island.data.toList.drop 0 = dktX1_island_0 := by decide +kernel
theorem dksX1_island_1 : cX1_island.data.toList.drop 22 = dktX1_island_1 := dk_seg dksX1_island_0 22 rfl rfl
theorem dksX1_island_2 : cX1_island.data.toList.drop 46 = dktX1_island_2 := dk_seg dksX1_island_1 24 rfl rfl
theorem dksX1_island_3 : cX1_island.data.toList.drop 69 = dktX1_island_3 := dk_seg dksX1_island_2 23 rfl rfl
theorem dX1_island_0 : decode cX1_island 0 = .ok (.iload_n 1, 1) := dk_27 (dk_at dksX1_island_0 0 rfl rfl)
theorem dX1_island_1 : decode cX1_island 1 = .ok (.i2l, 1) := dk_133 (dk_at dksX1_island_0 1 rfl rfl)
theorem dX1_island_2 : decode cX1_island 2 = .ok (.lconst 0, 1) := dk_9 (dk_at dksX1_island_0 2 rfl rfl)
theorem dX1_island_3 : decode cX1_island 3 = .ok (.aload_n 0, 1) := dk_42 (dk_at dksX1_island_0 3 rfl rfl)
theorem dX1_island_4 : decode cX1_island 4 = .ok (.getfield 192, 3) := dk_180 0 192 (dk_at dksX1_island_0 4 rfl rfl)
theorem dX1_island_7 : decode cX1_island 7 = .ok (.iconst 1, 1) := dk_4 (dk_at dksX1_island_0 7 rfl rfl)
theorem dX1_island_8 : decode cX1_island 8 = .ok (.isub, 1) := dk_100 (dk_at dksX1_island_0 8 rfl rfl)
theorem dX1_island_9 : decode cX1_island 9 = .ok (.i2l, 1) := dk_133 (dk_at dksX1_island_0 9 rfl rfl)
theorem dX1_island_10 : decode cX1_island 10 = .ok (.invokestatic 129, 3) := dk_184 0 129 (dk_at dksX1_island_0 10 rfl rfl)
theorem dX1_island_13 : decode cX1_island 13 = .ok (.ifCond .eq 15, 3) := dk_153 0 15 (dk_at dksX1_island_0 13 rfl rfl)
theorem dX1_island_16 : decode cX1_island 16 = .ok (.iload_n 2, 1) := dk_28 (dk_at dksX1_island_0 16 rfl rfl)
theorem dX1_island_17 : decode cX1_island 17 = .ok (.i2l, 1) := dk_133 (dk_at dksX1_island_0 17 rfl rfl)
theorem dX1_island_18 : decode cX1_island 18 = .ok (.lconst 0, 1) := dk_9 (dk_at dksX1_island_0 18 rfl rfl)
theorem dX1_island_19 : decode cX1_island 19 = .ok (.ldc2_w 255, 3) := dk_20 0 255 (dk_at dksX1_island_0 19 rfl rfl)
theorem dX1_island_22 : decode cX1_island 22 = .ok (.invokestatic 129, 3) := dk_184 0 129 (dk_at dksX1_island_1 0 rfl rfl)
theorem dX1_island_25 : decode cX1_island 25 = .ok (.ifCond .ne 11, 3) := dk_154 0 11 (dk_at dksX1_island_1 3 rfl rfl)
theorem dX1_island_28 : decode cX1_island 28 = .ok (.new 252, 3) := dk_187 0 252 (dk_at dksX1_island_1 6 rfl rfl)
theorem dX1_island_31 : decode cX1_island 31 = .ok (.dup, 1) := dk_89 (dk_at dksX1_island_1 9 rfl rfl)
theorem dX1_island_32 : decode cX1_island 32 = .ok (.invokespecial 254, 3) := dk_183 0 254 (dk_at dksX1_island_1 10 rfl rfl)
theorem dX1_island_35 : decode cX1_island 35 = .ok (.athrow, 1) := dk_191 (dk_at dksX1_island_1 13 rfl rfl)
theorem dX1_island_36 : decode cX1_island 36 = .ok (.iload_n 2, 1) := dk_28 (dk_at dksX1_island_1 14 rfl rfl)
theorem dX1_island_37 : decode cX1_island 37 = .ok (.ifCond .ne 12, 3) := dk_154 0 12 (dk_at dksX1_island_1 15 rfl rfl)
theorem dX1_island_40 : decode cX1_island 40 = .ok (.aload_n 0, 1) := dk_42 (dk_at dksX1_island_1 18 rfl rfl)
theorem dX1_island_41 : decode cX1_island 41 = .ok (.getfield 75, 3) := dk_180 0 75 (dk_at dksX1_island_1 19 rfl rfl)
theorem dX1_island_44 : decode cX1_island 44 = .ok (.iload_n 1, 1) := dk_27 (dk_at dksX1_island_1 22 rfl rfl)
theorem dX1_island_45 : decode cX1_island 45 = .ok (.iaload, 1) := dk_46 (dk_at dksX1_island_1 23 rfl rfl)
theorem dX1_island_46 : decode cX1_island 46 = .ok (.goto 37, 3) := dk_167 0 37 (dk_at dksX1_island_2 0 rfl rfl)
theorem dX1_island_49 : decode cX1_island 49 = .ok (.iload_n 2, 1) := dk_28 (dk_at dksX1_island_2 3 rfl rfl)
theorem dX1_island_50 : decode cX1_island 50 = .ok (.iconst 1, 1) := dk_4 (dk_at dksX1_island_2 4 rfl rfl)
theorem dX1_island_51 : decode cX1_island 51 = .ok (.if_icmp .ne 12, 3) := dk_160 0 12 (dk_at dksX1_island_2 5 rfl rfl)
theorem dX1_island_54 : decode cX1_island 54 = .ok (.aload_n 0, 1) := dk_42 (dk_at dksX1_island_2 8 rfl rfl)
theorem dX1_island_55 : decode cX1_island 55 = .ok (.getfield 78, 3) := dk_180 0 78 (dk_at dksX1_island_2 9 rfl rfl)
theorem dX1_island_58 : decode cX1_island 58 = .ok (.iload_n 1, 1) := dk_27 (dk_at dksX1_island_2 12 rfl rfl)
theorem dX1_island_59 : decode cX1_island 59 = .ok (.iaload, 1) := dk_46 (dk_at dksX1_island_2 13 rfl rfl)
theorem dX1_island_60 : decode cX1_island 60 = .ok (.goto 23, 3) := dk_167 0 23 (dk_at dksX1_island_2 14 rfl rfl)
theorem dX1_island_63 : decode cX1_island 63 = .ok (.iload_n 2, 1) := dk_28 (dk_at dksX1_island_2 17 rfl rfl)
theorem dX1_island_64 : decode cX1_island 64 = .ok (.iconst 2, 1) := dk_5 (dk_at dksX1_island_2 18 rfl rfl)
theorem dX1_island_65 : decode cX1_island 65 = .ok (.if_icmp .ne 12, 3) := dk_160 0 12 (dk_at dksX1_island_2 19 rfl rfl)
theorem dX1_island_68 : decode cX1_island 68 = .ok (.aload_n 0, 1) := dk_42 (dk_at dksX1_island_2 22 rfl rfl)
theorem dX1_island_69 : decode cX1_island 69 = .ok (.getfield 81, 3) := dk_180 0 81 (dk_at dksX1_island_3 0 rfl rfl)
theorem dX1_island_72 : decode cX1_island 72 = .ok (.iload_n 1, 1) := dk_27 (dk_at dksX1_island_3 3 rfl rfl)
theorem dX1_island_73 : decode cX1_island 73 = .ok (.iaload, 1) := dk_46 (dk_at dksX1_island_3 4 rfl rfl)
theorem dX1_island_74 : decode cX1_island 74 = .ok (.goto 9, 3) := dk_167 0 9 (dk_at dksX1_island_3 5 rfl rfl)
theorem dX1_island_77 : decode cX1_island 77 = .ok (.aload_n 0, 1) := dk_42 (dk_at dksX1_island_3 8 rfl rfl)
theorem dX1_island_78 : decode cX1_island 78 = .ok (.getfield 84, 3) := dk_180 0 84 (dk_at dksX1_island_3 9 rfl rfl)
theorem dX1_island_81 : decode cX1_island 81 = .ok (.iload_n 1, 1) := dk_27 (dk_at dksX1_island_3 12 rfl rfl)
theorem dX1_island_82 : decode cX1_island 82 = .ok (.iaload, 1) := dk_46 (dk_at dksX1_island_3 13 rfl rfl)
theorem dX1_island_83 : decode cX1_island 83 = .ok (.ireturn, 1) := dk_172 (dk_at dksX1_island_3 14 rfl rfl)
abbrev cX1_row : ByteArray := prog_1_method_89_code
def yX1_row : MethodName := ⟨RX1, "row", "(I)J"⟩
def dkwX1_row_1 : List UInt8 := [42, 180, 0, 94, 27, 47, 173]
abbrev dktX1_row_1 : List UInt8 := dkwX1_row_1 ++ []
def dkwX1_row_0 : List UInt8 := [27, 133, 9, 42, 180, 0, 122, 4, 100, 133, 184, 0, 129, 154, 0, 11, 187, 0, 252, 89, 183, 0, 254, 191]
abbrev dktX1_row_0 : List UInt8 := dkwX1_row_0 ++ dktX1_row_1
theorem dksX1_row_0 : cX1_row.data.toList.drop 0 = dktX1_row_0 := by decide +kernel
theorem dksX1_row_1 : cX1_row.data.toList.drop 24 = dktX1_row_1 := dk_seg dksX1_row_0 24 rfl rfl
theorem dX1_row_0 : decode cX1_row 0 = .ok (.iload_n 1, 1) := dk_27 (dk_at dksX1_row_0 0 rfl rfl)
theorem dX1_row_1 : decode cX1_row 1 = .ok (.i2l, 1) := dk_133 (dk_at dksX1_row_0 1 rfl rfl)
theorem dX1_row_2 : decode cX1_row 2 = .ok (.lconst 0, 1) := dk_9 (dk_at dksX1_row_0 2 rfl rfl)
theorem dX1_row_3 : decode cX1_row 3 = .ok (.aload_n 0, 1) := dk_42 (dk_at dksX1_row_0 3 rfl rfl)
theorem dX1_row_4 : decode cX1_row 4 = .ok (.getfield 122, 3) := dk_180 0 122 (dk_at dksX1_row_0 4 rfl rfl)
theorem dX1_row_7 : decode cX1_row 7 = .ok (.iconst 1, 1) := dk_4 (dk_at dksX1_row_0 7 rfl rfl)
theorem dX1_row_8 : decode cX1_row 8 = .ok (.isub, 1) := dk_100 (dk_at dksX1_row_0 8 rfl rfl)
theorem dX1_row_9 : decode cX1_row 9 = .ok (.i2l, 1) := dk_133 (dk_at dksX1_row_0 9 rfl rfl)
theorem dX1_row_10 : decode cX1_row 10 = .ok (.invokestatic 129, 3) := dk_184 0 129 (dk_at dksX1_row_0 10 rfl rfl)
theorem dX1_row_13 : decode cX1_row 13 = .ok (.ifCond .ne 11, 3) := dk_154 0 11 (dk_at dksX1_row_0 13 rfl rfl)
theorem dX1_row_16 : decode cX1_row 16 = .ok (.new 252, 3) := dk_187 0 252 (dk_at dksX1_row_0 16 rfl rfl)
theorem dX1_row_19 : decode cX1_row 19 = .ok (.dup, 1) := dk_89 (dk_at dksX1_row_0 19 rfl rfl)
theorem dX1_row_20 : decode cX1_row 20 = .ok (.invokespecial 254, 3) := dk_183 0 254 (dk_at dksX1_row_0 20 rfl rfl)
theorem dX1_row_23 : decode cX1_row 23 = .ok (.athrow, 1) := dk_191 (dk_at dksX1_row_0 23 rfl rfl)
theorem dX1_row_24 : decode cX1_row 24 = .ok (.aload_n 0, 1) := dk_42 (dk_at dksX1_row_1 0 rfl rfl)
theorem dX1_row_25 : decode cX1_row 25 = .ok (.getfield 94, 3) := dk_180 0 94 (dk_at dksX1_row_1 1 rfl rfl)
theorem dX1_row_28 : decode cX1_row 28 = .ok (.iload_n 1, 1) := dk_27 (dk_at dksX1_row_1 4 rfl rfl)
theorem dX1_row_29 : decode cX1_row 29 = .ok (.laload, 1) := dk_47 (dk_at dksX1_row_1 5 rfl rfl)
theorem dX1_row_30 : decode cX1_row 30 = .ok (.lreturn, 1) := dk_173 (dk_at dksX1_row_1 6 rfl rfl)
theorem q91 : (Jvm.Cond.initialized "TreesBeforeMen") ∈ lw_all := lw_g (lw_at lw_m1 1 rfl) rfl
theorem q120 : (Jvm.Cond.instantiable "TreesBeforeMen" (40 : Nat)) ∈ lw_all := lw_g (lw_at lw_m1 30 rfl) rfl
theorem q122 : (Jvm.Cond.instanceMethod ({ cls := "TreesBeforeMen", name := "<init>", desc := "()V" } : Jvm.MethodName)) ∈ lw_all := lw_g (lw_at lw_m1 32 rfl) rfl
theorem q123 : (Jvm.Cond.code ({ cls := "TreesBeforeMen", name := "<init>", desc := "()V" } : Jvm.MethodName) prog_1_method_4_code (2 : Nat) (Option.none : Option Jvm.ClassFile.FieldType)) ∈ lw_all := lw_g (lw_at lw_m1 33 rfl) rfl
theorem q124 : (Jvm.Cond.methodLink "TreesBeforeMen" (23 : Nat) ({ cls := "java/lang/Object", name := "<init>", desc := "()V" } : Jvm.MethodName)) ∈ lw_all := lw_g (lw_at lw_m1 34 rfl) rfl
theorem q127 : (Jvm.Cond.classLink "TreesBeforeMen" (29 : Nat) "TreesBeforeMen$Plain") ∈ lw_all := lw_g (lw_at lw_m1 37 rfl) rfl
theorem q129 : (Jvm.Cond.methodLinkNest "TreesBeforeMen" (31 : Nat) ({ cls := "TreesBeforeMen$Plain", name := "<init>", desc := "(LTreesBeforeMen;)V" } : Jvm.MethodName) "TreesBeforeMen") ∈ lw_tbl := lw_at lw_m1 39 rfl
theorem q143 : (Jvm.Cond.classLink "TreesBeforeMen" (34 : Nat) "TreesBeforeMen$Forced") ∈ lw_all := lw_g (lw_at lw_m1 53 rfl) rfl
theorem q145 : (Jvm.Cond.methodLinkNest "TreesBeforeMen" (36 : Nat) ({ cls := "TreesBeforeMen$Forced", name := "<init>", desc := "(LTreesBeforeMen;)V" } : Jvm.MethodName) "TreesBeforeMen") ∈ lw_tbl := lw_at lw_m1 55 rfl
theorem q154 : (Jvm.Cond.classLink "TreesBeforeMen" (37 : Nat) "TreesBeforeMen$Asleep") ∈ lw_all := lw_g (lw_at lw_m1 64 rfl) rfl
theorem q156 : (Jvm.Cond.methodLinkNest "TreesBeforeMen" (39 : Nat) ({ cls := "TreesBeforeMen$Asleep", name := "<init>", desc := "(LTreesBeforeMen;)V" } : Jvm.MethodName) "TreesBeforeMen") ∈ lw_tbl := lw_at lw_m1 66 rfl
theorem q165 : (Jvm.Cond.classLink "TreesBeforeMen" (40 : Nat) "TreesBeforeMen$Friend") ∈ lw_all := lw_g (lw_at lw_m1 75 rfl) rfl
theorem q167 : (Jvm.Cond.methodLinkNest "TreesBeforeMen" (42 : Nat) ({ cls := "TreesBeforeMen$Friend", name := "<init>", desc := "(LTreesBeforeMen;)V" } : Jvm.MethodName) "TreesBeforeMen") ∈ lw_tbl := lw_at lw_m1 77 rfl
theorem q177 : (Jvm.Cond.classLink "TreesBeforeMen" (43 : Nat) "TreesBeforeMen$Botanist") ∈ lw_all := lw_g (lw_at lw_m1 87 rfl) rfl
theorem q179 : (Jvm.Cond.methodLinkNest "TreesBeforeMen" (45 : Nat) ({ cls := "TreesBeforeMen$Botanist", name := "<init>", desc := "(LTreesBeforeMen;)V" } : Jvm.MethodName) "TreesBeforeMen") ∈ lw_tbl := lw_at lw_m1 89 rfl
theorem q189 : (Jvm.Cond.classLink "TreesBeforeMen" (46 : Nat) "TreesBeforeMen$Voyage") ∈ lw_all := lw_g (lw_at lw_m1 99 rfl) rfl
theorem q191 : (Jvm.Cond.methodLinkNest "TreesBeforeMen" (48 : Nat) ({ cls := "TreesBeforeMen$Voyage", name := "<init>", desc := "()V" } : Jvm.MethodName) "TreesBeforeMen") ∈ lw_tbl := lw_at lw_m1 101 rfl
theorem q197 : (Jvm.Cond.fieldLink "TreesBeforeMen" (169 : Nat) "TreesBeforeMen$Voyage" "grudge" "[I") ∈ lw_all := lw_g (lw_at lw_m1 107 rfl) rfl
theorem q199 : (Jvm.Cond.fieldLink "TreesBeforeMen" (172 : Nat) "TreesBeforeMen$Voyage" "where" "[I") ∈ lw_all := lw_g (lw_at lw_m1 109 rfl) rfl
theorem q201 : (Jvm.Cond.fieldLink "TreesBeforeMen" (388 : Nat) "TreesBeforeMen$Voyage" "water" "I") ∈ lw_all := lw_g (lw_at lw_m1 111 rfl) rfl
theorem q205 : (Jvm.Cond.fieldLink "TreesBeforeMen" (302 : Nat) "TreesBeforeMen$Voyage" "trees" "I") ∈ lw_all := lw_g (lw_at lw_m1 115 rfl) rfl
theorem q207 : (Jvm.Cond.fieldLink "TreesBeforeMen" (257 : Nat) "TreesBeforeMen$Voyage" "forMan" "I") ∈ lw_all := lw_g (lw_at lw_m1 117 rfl) rfl
theorem q209 : (Jvm.Cond.fieldLink "TreesBeforeMen" (260 : Nat) "TreesBeforeMen$Voyage" "forTree" "I") ∈ lw_all := lw_g (lw_at lw_m1 119 rfl) rfl
theorem q212 : (Jvm.Cond.fieldLink "TreesBeforeMen" (296 : Nat) "TreesBeforeMen$Voyage" "day" "I") ∈ lw_all := lw_g (lw_at lw_m1 122 rfl) rfl
theorem q230 : (Jvm.Cond.classLink "TreesBeforeMen" (116 : Nat) "TreesBeforeMen$Page") ∈ lw_all := lw_g (lw_at lw_m1 140 rfl) rfl
theorem q232 : (Jvm.Cond.fieldLink "TreesBeforeMen" (20 : Nat) "TreesBeforeMen" "plain" "LTreesBeforeMen$Kind;") ∈ lw_all := lw_g (lw_at lw_m1 142 rfl) rfl
theorem q233 : (Jvm.Cond.fieldLink "TreesBeforeMen" (7 : Nat) "TreesBeforeMen" "forced" "LTreesBeforeMen$Kind;") ∈ lw_all := lw_g (lw_at lw_m1 143 rfl) rfl
theorem q234 : (Jvm.Cond.fieldLink "TreesBeforeMen" (11 : Nat) "TreesBeforeMen" "asleep" "LTreesBeforeMen$Kind;") ∈ lw_all := lw_g (lw_at lw_m1 144 rfl) rfl
theorem q235 : (Jvm.Cond.fieldLink "TreesBeforeMen" (14 : Nat) "TreesBeforeMen" "friend" "LTreesBeforeMen$Kind;") ∈ lw_all := lw_g (lw_at lw_m1 145 rfl) rfl
theorem q236 : (Jvm.Cond.fieldLink "TreesBeforeMen" (17 : Nat) "TreesBeforeMen" "botanist" "LTreesBeforeMen$Kind;") ∈ lw_all := lw_g (lw_at lw_m1 146 rfl) rfl
theorem q238 : (Jvm.Cond.fieldLink "TreesBeforeMen" (49 : Nat) "TreesBeforeMen" "now" "LTreesBeforeMen$Voyage;") ∈ lw_all := lw_g (lw_at lw_m1 148 rfl) rfl
theorem q239 : (Jvm.Cond.fieldLink "TreesBeforeMen" (53 : Nat) "TreesBeforeMen" "aside" "LTreesBeforeMen$Voyage;") ∈ lw_all := lw_g (lw_at lw_m1 149 rfl) rfl
theorem q240 : (Jvm.Cond.fieldLink "TreesBeforeMen" (56 : Nat) "TreesBeforeMen" "tried" "LTreesBeforeMen$Voyage;") ∈ lw_all := lw_g (lw_at lw_m1 150 rfl) rfl
theorem q241 : (Jvm.Cond.fieldLink "TreesBeforeMen" (59 : Nat) "TreesBeforeMen" "other" "LTreesBeforeMen$Voyage;") ∈ lw_all := lw_g (lw_at lw_m1 151 rfl) rfl
theorem q242 : (Jvm.Cond.fieldLink "TreesBeforeMen" (62 : Nat) "TreesBeforeMen" "ahead" "[LTreesBeforeMen$Voyage;") ∈ lw_all := lw_g (lw_at lw_m1 152 rfl) rfl
theorem q243 : (Jvm.Cond.fieldLink "TreesBeforeMen" (66 : Nat) "TreesBeforeMen" "steps" "[LTreesBeforeMen$Voyage;") ∈ lw_all := lw_g (lw_at lw_m1 153 rfl) rfl
theorem q245 : (Jvm.Cond.fieldLink "TreesBeforeMen" (69 : Nat) "TreesBeforeMen" "temper" "[I") ∈ lw_all := lw_g (lw_at lw_m1 155 rfl) rfl
theorem q247 : (Jvm.Cond.fieldLink "TreesBeforeMen" (72 : Nat) "TreesBeforeMen" "need" "[I") ∈ lw_all := lw_g (lw_at lw_m1 157 rfl) rfl
theorem q248 : (Jvm.Cond.fieldLink "TreesBeforeMen" (1 : Nat) "TreesBeforeMen" "kind" "[I") ∈ lw_all := lw_g (lw_at lw_m1 158 rfl) rfl
theorem q249 : (Jvm.Cond.fieldLink "TreesBeforeMen" (75 : Nat) "TreesBeforeMen" "way" "[I") ∈ lw_all := lw_g (lw_at lw_m1 159 rfl) rfl
theorem q250 : (Jvm.Cond.fieldLink "TreesBeforeMen" (78 : Nat) "TreesBeforeMen" "bread" "[I") ∈ lw_all := lw_g (lw_at lw_m1 160 rfl) rfl
theorem q251 : (Jvm.Cond.fieldLink "TreesBeforeMen" (81 : Nat) "TreesBeforeMen" "lost" "[I") ∈ lw_all := lw_g (lw_at lw_m1 161 rfl) rfl
theorem q252 : (Jvm.Cond.fieldLink "TreesBeforeMen" (84 : Nat) "TreesBeforeMen" "searched" "[I") ∈ lw_all := lw_g (lw_at lw_m1 162 rfl) rfl
theorem q253 : (Jvm.Cond.fieldLink "TreesBeforeMen" (126 : Nat) "TreesBeforeMen" "men" "I") ∈ lw_all := lw_g (lw_at lw_m1 163 rfl) rfl
theorem q254 : (Jvm.Cond.fieldLink "TreesBeforeMen" (192 : Nat) "TreesBeforeMen" "islands" "I") ∈ lw_all := lw_g (lw_at lw_m1 164 rfl) rfl
theorem q255 : (Jvm.Cond.fieldLink "TreesBeforeMen" (420 : Nat) "TreesBeforeMen" "searches" "I") ∈ lw_all := lw_g (lw_at lw_m1 165 rfl) rfl
theorem q257 : (Jvm.Cond.fieldLink "TreesBeforeMen" (178 : Nat) "TreesBeforeMen" "came" "I") ∈ lw_all := lw_g (lw_at lw_m1 167 rfl) rfl
theorem q258 : (Jvm.Cond.fieldLink "TreesBeforeMen" (175 : Nat) "TreesBeforeMen" "undoMany" "I") ∈ lw_all := lw_g (lw_at lw_m1 168 rfl) rfl
theorem q259 : (Jvm.Cond.fieldLink "TreesBeforeMen" (87 : Nat) "TreesBeforeMen" "weather" "[B") ∈ lw_all := lw_g (lw_at lw_m1 169 rfl) rfl
theorem q260 : (Jvm.Cond.fieldLink "TreesBeforeMen" (91 : Nat) "TreesBeforeMen" "text" "[B") ∈ lw_all := lw_g (lw_at lw_m1 170 rfl) rfl
theorem q261 : (Jvm.Cond.fieldLink "TreesBeforeMen" (135 : Nat) "TreesBeforeMen" "typed" "I") ∈ lw_all := lw_g (lw_at lw_m1 171 rfl) rfl
theorem q262 : (Jvm.Cond.fieldLink "TreesBeforeMen" (94 : Nat) "TreesBeforeMen" "row" "[J") ∈ lw_all := lw_g (lw_at lw_m1 172 rfl) rfl
theorem q263 : (Jvm.Cond.fieldLink "TreesBeforeMen" (122 : Nat) "TreesBeforeMen" "rowMany" "I") ∈ lw_all := lw_g (lw_at lw_m1 173 rfl) rfl
theorem q264 : (Jvm.Cond.fieldLink "TreesBeforeMen" (204 : Nat) "TreesBeforeMen" "rule" "LTreesBeforeMen$Rule;") ∈ lw_all := lw_g (lw_at lw_m1 174 rfl) rfl
theorem q265 : (Jvm.Cond.fieldLink "TreesBeforeMen" (98 : Nat) "TreesBeforeMen" "part" "[I") ∈ lw_all := lw_g (lw_at lw_m1 175 rfl) rfl
theorem q266 : (Jvm.Cond.fieldLink "TreesBeforeMen" (101 : Nat) "TreesBeforeMen" "bestPart" "[I") ∈ lw_all := lw_g (lw_at lw_m1 176 rfl) rfl
theorem q267 : (Jvm.Cond.fieldLink "TreesBeforeMen" (104 : Nat) "TreesBeforeMen" "given" "[I") ∈ lw_all := lw_g (lw_at lw_m1 177 rfl) rfl
theorem q268 : (Jvm.Cond.fieldLink "TreesBeforeMen" (107 : Nat) "TreesBeforeMen" "bestGiven" "[I") ∈ lw_all := lw_g (lw_at lw_m1 178 rfl) rfl
theorem q269 : (Jvm.Cond.fieldLink "TreesBeforeMen" (396 : Nat) "TreesBeforeMen" "bestTrees" "I") ∈ lw_all := lw_g (lw_at lw_m1 179 rfl) rfl
theorem q270 : (Jvm.Cond.fieldLink "TreesBeforeMen" (407 : Nat) "TreesBeforeMen" "ouncesLeft" "I") ∈ lw_all := lw_g (lw_at lw_m1 180 rfl) rfl
theorem q271 : (Jvm.Cond.fieldLink "TreesBeforeMen" (110 : Nat) "TreesBeforeMen" "heardOf" "[I") ∈ lw_all := lw_g (lw_at lw_m1 181 rfl) rfl
theorem q272 : (Jvm.Cond.fieldLink "TreesBeforeMen" (113 : Nat) "TreesBeforeMen" "heardBy" "[I") ∈ lw_all := lw_g (lw_at lw_m1 182 rfl) rfl
theorem q273 : (Jvm.Cond.fieldLink "TreesBeforeMen" (452 : Nat) "TreesBeforeMen" "heardMany" "I") ∈ lw_all := lw_g (lw_at lw_m1 183 rfl) rfl
theorem q274 : (Jvm.Cond.fieldLink "TreesBeforeMen" (470 : Nat) "TreesBeforeMen" "drawn" "I") ∈ lw_all := lw_g (lw_at lw_m1 184 rfl) rfl
theorem q275 : (Jvm.Cond.fieldLink "TreesBeforeMen" (118 : Nat) "TreesBeforeMen" "pages" "[LTreesBeforeMen$Page;") ∈ lw_all := lw_g (lw_at lw_m1 185 rfl) rfl
theorem q276 : (Jvm.Cond.laysFinal "TreesBeforeMen" "TreesBeforeMen" "plain" "LTreesBeforeMen$Kind;") ∈ lw_all := lw_g (lw_at lw_m1 186 rfl) rfl
theorem q277 : (Jvm.Cond.soleField "TreesBeforeMen" "plain") ∈ lw_all := lw_g (lw_at lw_m1 187 rfl) rfl
theorem q278 : (Jvm.Cond.laysFinal "TreesBeforeMen" "TreesBeforeMen" "forced" "LTreesBeforeMen$Kind;") ∈ lw_all := lw_g (lw_at lw_m1 188 rfl) rfl
theorem q279 : (Jvm.Cond.soleField "TreesBeforeMen" "forced") ∈ lw_all := lw_g (lw_at lw_m1 189 rfl) rfl
theorem q280 : (Jvm.Cond.laysFinal "TreesBeforeMen" "TreesBeforeMen" "asleep" "LTreesBeforeMen$Kind;") ∈ lw_all := lw_g (lw_at lw_m1 190 rfl) rfl
theorem q281 : (Jvm.Cond.soleField "TreesBeforeMen" "asleep") ∈ lw_all := lw_g (lw_at lw_m1 191 rfl) rfl
theorem q282 : (Jvm.Cond.laysFinal "TreesBeforeMen" "TreesBeforeMen" "friend" "LTreesBeforeMen$Kind;") ∈ lw_all := lw_g (lw_at lw_m1 192 rfl) rfl
theorem q283 : (Jvm.Cond.soleField "TreesBeforeMen" "friend") ∈ lw_all := lw_g (lw_at lw_m1 193 rfl) rfl
theorem q284 : (Jvm.Cond.laysFinal "TreesBeforeMen" "TreesBeforeMen" "botanist" "LTreesBeforeMen$Kind;") ∈ lw_all := lw_g (lw_at lw_m1 194 rfl) rfl
theorem q285 : (Jvm.Cond.soleField "TreesBeforeMen" "botanist") ∈ lw_all := lw_g (lw_at lw_m1 195 rfl) rfl
theorem q286 : (Jvm.Cond.laysFinal "TreesBeforeMen" "TreesBeforeMen" "now" "LTreesBeforeMen$Voyage;") ∈ lw_all := lw_g (lw_at lw_m1 196 rfl) rfl
theorem q287 : (Jvm.Cond.soleField "TreesBeforeMen" "now") ∈ lw_all := lw_g (lw_at lw_m1 197 rfl) rfl
theorem q288 : (Jvm.Cond.laysFinal "TreesBeforeMen" "TreesBeforeMen" "aside" "LTreesBeforeMen$Voyage;") ∈ lw_all := lw_g (lw_at lw_m1 198 rfl) rfl
theorem q289 : (Jvm.Cond.soleField "TreesBeforeMen" "aside") ∈ lw_all := lw_g (lw_at lw_m1 199 rfl) rfl
theorem q290 : (Jvm.Cond.laysFinal "TreesBeforeMen" "TreesBeforeMen" "tried" "LTreesBeforeMen$Voyage;") ∈ lw_all := lw_g (lw_at lw_m1 200 rfl) rfl
theorem q291 : (Jvm.Cond.soleField "TreesBeforeMen" "tried") ∈ lw_all := lw_g (lw_at lw_m1 201 rfl) rfl
theorem q292 : (Jvm.Cond.laysFinal "TreesBeforeMen" "TreesBeforeMen" "other" "LTreesBeforeMen$Voyage;") ∈ lw_all := lw_g (lw_at lw_m1 202 rfl) rfl
theorem q293 : (Jvm.Cond.soleField "TreesBeforeMen" "other") ∈ lw_all := lw_g (lw_at lw_m1 203 rfl) rfl
theorem q294 : (Jvm.Cond.laysFinal "TreesBeforeMen" "TreesBeforeMen" "ahead" "[LTreesBeforeMen$Voyage;") ∈ lw_all := lw_g (lw_at lw_m1 204 rfl) rfl
theorem q295 : (Jvm.Cond.soleField "TreesBeforeMen" "ahead") ∈ lw_all := lw_g (lw_at lw_m1 205 rfl) rfl
theorem q296 : (Jvm.Cond.laysFinal "TreesBeforeMen" "TreesBeforeMen" "steps" "[LTreesBeforeMen$Voyage;") ∈ lw_all := lw_g (lw_at lw_m1 206 rfl) rfl
theorem q297 : (Jvm.Cond.soleField "TreesBeforeMen" "steps") ∈ lw_all := lw_g (lw_at lw_m1 207 rfl) rfl
theorem q298 : (Jvm.Cond.laysFinal "TreesBeforeMen" "TreesBeforeMen" "temper" "[I") ∈ lw_all := lw_g (lw_at lw_m1 208 rfl) rfl
theorem q299 : (Jvm.Cond.soleField "TreesBeforeMen" "temper") ∈ lw_all := lw_g (lw_at lw_m1 209 rfl) rfl
theorem q300 : (Jvm.Cond.laysFinal "TreesBeforeMen" "TreesBeforeMen" "need" "[I") ∈ lw_all := lw_g (lw_at lw_m1 210 rfl) rfl
theorem q301 : (Jvm.Cond.soleField "TreesBeforeMen" "need") ∈ lw_all := lw_g (lw_at lw_m1 211 rfl) rfl
theorem q302 : (Jvm.Cond.laysFinal "TreesBeforeMen" "TreesBeforeMen" "kind" "[I") ∈ lw_all := lw_g (lw_at lw_m1 212 rfl) rfl
theorem q303 : (Jvm.Cond.soleField "TreesBeforeMen" "kind") ∈ lw_all := lw_g (lw_at lw_m1 213 rfl) rfl
theorem q304 : (Jvm.Cond.laysFinal "TreesBeforeMen" "TreesBeforeMen" "way" "[I") ∈ lw_all := lw_g (lw_at lw_m1 214 rfl) rfl
theorem q305 : (Jvm.Cond.soleField "TreesBeforeMen" "way") ∈ lw_all := lw_g (lw_at lw_m1 215 rfl) rfl
theorem q306 : (Jvm.Cond.laysFinal "TreesBeforeMen" "TreesBeforeMen" "bread" "[I") ∈ lw_all := lw_g (lw_at lw_m1 216 rfl) rfl
theorem q307 : (Jvm.Cond.soleField "TreesBeforeMen" "bread") ∈ lw_all := lw_g (lw_at lw_m1 217 rfl) rfl
theorem q308 : (Jvm.Cond.laysFinal "TreesBeforeMen" "TreesBeforeMen" "lost" "[I") ∈ lw_all := lw_g (lw_at lw_m1 218 rfl) rfl
theorem q309 : (Jvm.Cond.soleField "TreesBeforeMen" "lost") ∈ lw_all := lw_g (lw_at lw_m1 219 rfl) rfl
theorem q310 : (Jvm.Cond.laysFinal "TreesBeforeMen" "TreesBeforeMen" "searched" "[I") ∈ lw_all := lw_g (lw_at lw_m1 220 rfl) rfl
theorem q311 : (Jvm.Cond.soleField "TreesBeforeMen" "searched") ∈ lw_all := lw_g (lw_at lw_m1 221 rfl) rfl
theorem q312 : (Jvm.Cond.lays "TreesBeforeMen" "TreesBeforeMen" "men" "I") ∈ lw_all := lw_g (lw_at lw_m1 222 rfl) rfl
theorem q313 : (Jvm.Cond.soleField "TreesBeforeMen" "men") ∈ lw_all := lw_g (lw_at lw_m1 223 rfl) rfl
theorem q314 : (Jvm.Cond.lays "TreesBeforeMen" "TreesBeforeMen" "islands" "I") ∈ lw_all := lw_g (lw_at lw_m1 224 rfl) rfl
theorem q315 : (Jvm.Cond.soleField "TreesBeforeMen" "islands") ∈ lw_all := lw_g (lw_at lw_m1 225 rfl) rfl
theorem q316 : (Jvm.Cond.lays "TreesBeforeMen" "TreesBeforeMen" "searches" "I") ∈ lw_all := lw_g (lw_at lw_m1 226 rfl) rfl
theorem q317 : (Jvm.Cond.soleField "TreesBeforeMen" "searches") ∈ lw_all := lw_g (lw_at lw_m1 227 rfl) rfl
theorem q318 : (Jvm.Cond.lays "TreesBeforeMen" "TreesBeforeMen" "came" "I") ∈ lw_all := lw_g (lw_at lw_m1 228 rfl) rfl
theorem q319 : (Jvm.Cond.soleField "TreesBeforeMen" "came") ∈ lw_all := lw_g (lw_at lw_m1 229 rfl) rfl
theorem q320 : (Jvm.Cond.lays "TreesBeforeMen" "TreesBeforeMen" "undoMany" "I") ∈ lw_all := lw_g (lw_at lw_m1 230 rfl) rfl
theorem q321 : (Jvm.Cond.soleField "TreesBeforeMen" "undoMany") ∈ lw_all := lw_g (lw_at lw_m1 231 rfl) rfl
theorem q322 : (Jvm.Cond.lays "TreesBeforeMen" "TreesBeforeMen" "weather" "[B") ∈ lw_all := lw_g (lw_at lw_m1 232 rfl) rfl
theorem q323 : (Jvm.Cond.soleField "TreesBeforeMen" "weather") ∈ lw_all := lw_g (lw_at lw_m1 233 rfl) rfl
theorem q324 : (Jvm.Cond.laysFinal "TreesBeforeMen" "TreesBeforeMen" "text" "[B") ∈ lw_all := lw_g (lw_at lw_m1 234 rfl) rfl
theorem q325 : (Jvm.Cond.soleField "TreesBeforeMen" "text") ∈ lw_all := lw_g (lw_at lw_m1 235 rfl) rfl
theorem q326 : (Jvm.Cond.lays "TreesBeforeMen" "TreesBeforeMen" "typed" "I") ∈ lw_all := lw_g (lw_at lw_m1 236 rfl) rfl
theorem q327 : (Jvm.Cond.soleField "TreesBeforeMen" "typed") ∈ lw_all := lw_g (lw_at lw_m1 237 rfl) rfl
theorem q328 : (Jvm.Cond.laysFinal "TreesBeforeMen" "TreesBeforeMen" "row" "[J") ∈ lw_all := lw_g (lw_at lw_m1 238 rfl) rfl
theorem q329 : (Jvm.Cond.soleField "TreesBeforeMen" "row") ∈ lw_all := lw_g (lw_at lw_m1 239 rfl) rfl
theorem q330 : (Jvm.Cond.lays "TreesBeforeMen" "TreesBeforeMen" "rowMany" "I") ∈ lw_all := lw_g (lw_at lw_m2 0 rfl) rfl
theorem q331 : (Jvm.Cond.soleField "TreesBeforeMen" "rowMany") ∈ lw_all := lw_g (lw_at lw_m2 1 rfl) rfl
theorem q332 : (Jvm.Cond.lays "TreesBeforeMen" "TreesBeforeMen" "rule" "LTreesBeforeMen$Rule;") ∈ lw_all := lw_g (lw_at lw_m2 2 rfl) rfl
theorem q333 : (Jvm.Cond.soleField "TreesBeforeMen" "rule") ∈ lw_all := lw_g (lw_at lw_m2 3 rfl) rfl
theorem q334 : (Jvm.Cond.laysFinal "TreesBeforeMen" "TreesBeforeMen" "part" "[I") ∈ lw_all := lw_g (lw_at lw_m2 4 rfl) rfl
theorem q335 : (Jvm.Cond.soleField "TreesBeforeMen" "part") ∈ lw_all := lw_g (lw_at lw_m2 5 rfl) rfl
theorem q336 : (Jvm.Cond.laysFinal "TreesBeforeMen" "TreesBeforeMen" "bestPart" "[I") ∈ lw_all := lw_g (lw_at lw_m2 6 rfl) rfl
theorem q337 : (Jvm.Cond.soleField "TreesBeforeMen" "bestPart") ∈ lw_all := lw_g (lw_at lw_m2 7 rfl) rfl
theorem q338 : (Jvm.Cond.laysFinal "TreesBeforeMen" "TreesBeforeMen" "given" "[I") ∈ lw_all := lw_g (lw_at lw_m2 8 rfl) rfl
theorem q339 : (Jvm.Cond.soleField "TreesBeforeMen" "given") ∈ lw_all := lw_g (lw_at lw_m2 9 rfl) rfl
theorem q340 : (Jvm.Cond.laysFinal "TreesBeforeMen" "TreesBeforeMen" "bestGiven" "[I") ∈ lw_all := lw_g (lw_at lw_m2 10 rfl) rfl
theorem q341 : (Jvm.Cond.soleField "TreesBeforeMen" "bestGiven") ∈ lw_all := lw_g (lw_at lw_m2 11 rfl) rfl
theorem q342 : (Jvm.Cond.lays "TreesBeforeMen" "TreesBeforeMen" "bestTrees" "I") ∈ lw_all := lw_g (lw_at lw_m2 12 rfl) rfl
theorem q343 : (Jvm.Cond.soleField "TreesBeforeMen" "bestTrees") ∈ lw_all := lw_g (lw_at lw_m2 13 rfl) rfl
theorem q344 : (Jvm.Cond.lays "TreesBeforeMen" "TreesBeforeMen" "ouncesLeft" "I") ∈ lw_all := lw_g (lw_at lw_m2 14 rfl) rfl
theorem q345 : (Jvm.Cond.soleField "TreesBeforeMen" "ouncesLeft") ∈ lw_all := lw_g (lw_at lw_m2 15 rfl) rfl
theorem q346 : (Jvm.Cond.laysFinal "TreesBeforeMen" "TreesBeforeMen" "heardOf" "[I") ∈ lw_all := lw_g (lw_at lw_m2 16 rfl) rfl
theorem q347 : (Jvm.Cond.soleField "TreesBeforeMen" "heardOf") ∈ lw_all := lw_g (lw_at lw_m2 17 rfl) rfl
theorem q348 : (Jvm.Cond.laysFinal "TreesBeforeMen" "TreesBeforeMen" "heardBy" "[I") ∈ lw_all := lw_g (lw_at lw_m2 18 rfl) rfl
theorem q349 : (Jvm.Cond.soleField "TreesBeforeMen" "heardBy") ∈ lw_all := lw_g (lw_at lw_m2 19 rfl) rfl
theorem q350 : (Jvm.Cond.lays "TreesBeforeMen" "TreesBeforeMen" "heardMany" "I") ∈ lw_all := lw_g (lw_at lw_m2 20 rfl) rfl
theorem q351 : (Jvm.Cond.soleField "TreesBeforeMen" "heardMany") ∈ lw_all := lw_g (lw_at lw_m2 21 rfl) rfl
theorem q352 : (Jvm.Cond.lays "TreesBeforeMen" "TreesBeforeMen" "drawn" "I") ∈ lw_all := lw_g (lw_at lw_m2 22 rfl) rfl
theorem q353 : (Jvm.Cond.soleField "TreesBeforeMen" "drawn") ∈ lw_all := lw_g (lw_at lw_m2 23 rfl) rfl
theorem q354 : (Jvm.Cond.laysFinal "TreesBeforeMen" "TreesBeforeMen" "pages" "[LTreesBeforeMen$Page;") ∈ lw_all := lw_g (lw_at lw_m2 24 rfl) rfl
theorem q355 : (Jvm.Cond.soleField "TreesBeforeMen" "pages") ∈ lw_all := lw_g (lw_at lw_m2 25 rfl) rfl
theorem q356 : (Jvm.Cond.superclass "TreesBeforeMen" "java/lang/Object") ∈ lw_all := lw_g (lw_at lw_m2 26 rfl) rfl
theorem q360 : (Jvm.Cond.instanceMethod ({ cls := "TreesBeforeMen", name := "sign", desc := "(I)I" } : Jvm.MethodName)) ∈ lw_all := lw_g (lw_at lw_m2 30 rfl) rfl
theorem q361 : (Jvm.Cond.selects "TreesBeforeMen" ({ cls := "TreesBeforeMen", name := "sign", desc := "(I)I" } : Jvm.MethodName) ({ cls := "TreesBeforeMen", name := "sign", desc := "(I)I" } : Jvm.MethodName)) ∈ lw_all := lw_g (lw_at lw_m2 31 rfl) rfl
theorem q362 : (Jvm.Cond.code ({ cls := "TreesBeforeMen", name := "sign", desc := "(I)I" } : Jvm.MethodName) prog_1_method_8_code (3 : Nat) (Option.some Jvm.ClassFile.FieldType.int)) ∈ lw_all := lw_g (lw_at lw_m2 32 rfl) rfl
theorem q364 : (Jvm.Cond.instanceMethod ({ cls := "TreesBeforeMen", name := "end", desc := "(I)Z" } : Jvm.MethodName)) ∈ lw_all := lw_g (lw_at lw_m2 34 rfl) rfl
theorem q365 : (Jvm.Cond.selects "TreesBeforeMen" ({ cls := "TreesBeforeMen", name := "end", desc := "(I)Z" } : Jvm.MethodName) ({ cls := "TreesBeforeMen", name := "end", desc := "(I)Z" } : Jvm.MethodName)) ∈ lw_all := lw_g (lw_at lw_m2 35 rfl) rfl
theorem q366 : (Jvm.Cond.code ({ cls := "TreesBeforeMen", name := "end", desc := "(I)Z" } : Jvm.MethodName) prog_1_method_9_code (2 : Nat) (Option.some Jvm.ClassFile.FieldType.boolean)) ∈ lw_all := lw_g (lw_at lw_m2 36 rfl) rfl
theorem q367 : (Jvm.Cond.methodLink "TreesBeforeMen" (129 : Nat) ({ cls := "TreesBeforeMen", name := "in", desc := "(JJJ)Z" } : Jvm.MethodName)) ∈ lw_all := lw_g (lw_at lw_m2 37 rfl) rfl
theorem q368 : (Jvm.Cond.static ({ cls := "TreesBeforeMen", name := "in", desc := "(JJJ)Z" } : Jvm.MethodName)) ∈ lw_all := lw_g (lw_at lw_m2 38 rfl) rfl
theorem q369 : (Jvm.Cond.code ({ cls := "TreesBeforeMen", name := "in", desc := "(JJJ)Z" } : Jvm.MethodName) prog_1_method_1_code (6 : Nat) (Option.some Jvm.ClassFile.FieldType.boolean)) ∈ lw_all := lw_g (lw_at lw_m2 39 rfl) rfl
theorem q371 : (Jvm.Cond.instanceMethod ({ cls := "TreesBeforeMen", name := "men", desc := "()I" } : Jvm.MethodName)) ∈ lw_all := lw_g (lw_at lw_m2 41 rfl) rfl
theorem q372 : (Jvm.Cond.selects "TreesBeforeMen" ({ cls := "TreesBeforeMen", name := "men", desc := "()I" } : Jvm.MethodName) ({ cls := "TreesBeforeMen", name := "men", desc := "()I" } : Jvm.MethodName)) ∈ lw_all := lw_g (lw_at lw_m2 42 rfl) rfl
theorem q373 : (Jvm.Cond.codeWith ({ cls := "TreesBeforeMen", name := "men", desc := "()I" } : Jvm.MethodName) prog_1_method_10_code (5 : Nat) (Option.some Jvm.ClassFile.FieldType.int) [((26 : Nat), (100 : Nat), (103 : Nat), (164 : Nat))]) ∈ lw_all := lw_g (lw_at lw_m2 43 rfl) rfl
theorem q374 : (Jvm.Cond.classLink "TreesBeforeMen" (164 : Nat) "TreesBeforeMen$Fault") ∈ lw_all := lw_g (lw_at lw_m2 44 rfl) rfl
theorem q375 : (Jvm.Cond.methodLink "TreesBeforeMen" (141 : Nat) ({ cls := "TreesBeforeMen", name := "words", desc := "(I)LTreesBeforeMen$Words;" } : Jvm.MethodName)) ∈ lw_all := lw_g (lw_at lw_m2 45 rfl) rfl
theorem q376 : (Jvm.Cond.privateMethod ({ cls := "TreesBeforeMen", name := "words", desc := "(I)LTreesBeforeMen$Words;" } : Jvm.MethodName)) ∈ lw_tbl := lw_at lw_m2 46 rfl
theorem q377 : (Jvm.Cond.instanceMethod ({ cls := "TreesBeforeMen", name := "words", desc := "(I)LTreesBeforeMen$Words;" } : Jvm.MethodName)) ∈ lw_all := lw_g (lw_at lw_m2 47 rfl) rfl
theorem q378 : (Jvm.Cond.code ({ cls := "TreesBeforeMen", name := "words", desc := "(I)LTreesBeforeMen$Words;" } : Jvm.MethodName) prog_1_method_7_code (3 : Nat) (Option.some (Jvm.ClassFile.FieldType.object "TreesBeforeMen$Words"))) ∈ lw_all := lw_g (lw_at lw_m2 48 rfl) rfl
theorem q379 : (Jvm.Cond.classLink "TreesBeforeMen" (133 : Nat) "TreesBeforeMen$Words") ∈ lw_all := lw_g (lw_at lw_m2 49 rfl) rfl
theorem q381 : (Jvm.Cond.methodLink "TreesBeforeMen" (138 : Nat) ({ cls := "TreesBeforeMen$Words", name := "<init>", desc := "([BII)V" } : Jvm.MethodName)) ∈ lw_all := lw_g (lw_at lw_m2 51 rfl) rfl
theorem q390 : (Jvm.Cond.fieldLink "TreesBeforeMen" (145 : Nat) "TreesBeforeMen$Words" "size" "I") ∈ lw_all := lw_g (lw_at lw_m2 60 rfl) rfl
theorem q399 : (Jvm.Cond.fieldLink "TreesBeforeMen" (185 : Nat) "TreesBeforeMen$Words" "at" "I") ∈ lw_all := lw_g (lw_at lw_m2 69 rfl) rfl
theorem q409 : (Jvm.Cond.classLink "TreesBeforeMen" (148 : Nat) "[[I") ∈ lw_all := lw_g (lw_at lw_m2 79 rfl) rfl
theorem q411 : (Jvm.Cond.methodLink "TreesBeforeMen" (150 : Nat) ({ cls := "TreesBeforeMen$Words", name := "need", desc := "(Z)V" } : Jvm.MethodName)) ∈ lw_all := lw_g (lw_at lw_m2 81 rfl) rfl
theorem q465 : (Jvm.Cond.fieldLinkNest "TreesBeforeMen" (166 : Nat) "TreesBeforeMen$Fault" "at" "I" "TreesBeforeMen") ∈ lw_tbl := lw_at lw_m2 135 rfl
theorem q481 : (Jvm.Cond.methodLink "TreesBeforeMen" (153 : Nat) ({ cls := "TreesBeforeMen$Words", name := "one", desc := "(CI)I" } : Jvm.MethodName)) ∈ lw_all := lw_g (lw_at lw_m2 151 rfl) rfl
theorem q497 : (Jvm.Cond.methodLink "TreesBeforeMen" (157 : Nat) ({ cls := "TreesBeforeMen$Words", name := "passes", desc := "(C)Z" } : Jvm.MethodName)) ∈ lw_all := lw_g (lw_at lw_m2 167 rfl) rfl
theorem q504 : (Jvm.Cond.methodLink "TreesBeforeMen" (161 : Nat) ({ cls := "TreesBeforeMen$Words", name := "needEnd", desc := "()V" } : Jvm.MethodName)) ∈ lw_all := lw_g (lw_at lw_m2 174 rfl) rfl
theorem q512 : (Jvm.Cond.instanceMethod ({ cls := "TreesBeforeMen", name := "weather", desc := "()I" } : Jvm.MethodName)) ∈ lw_all := lw_g (lw_at lw_m2 182 rfl) rfl
theorem q513 : (Jvm.Cond.selects "TreesBeforeMen" ({ cls := "TreesBeforeMen", name := "weather", desc := "()I" } : Jvm.MethodName) ({ cls := "TreesBeforeMen", name := "weather", desc := "()I" } : Jvm.MethodName)) ∈ lw_all := lw_g (lw_at lw_m2 183 rfl) rfl
theorem q514 : (Jvm.Cond.codeWith ({ cls := "TreesBeforeMen", name := "weather", desc := "()I" } : Jvm.MethodName) prog_1_method_11_code (3 : Nat) (Option.some Jvm.ClassFile.FieldType.int) [((7 : Nat), (67 : Nat), (70 : Nat), (164 : Nat))]) ∈ lw_all := lw_g (lw_at lw_m2 184 rfl) rfl
theorem q515 : (Jvm.Cond.methodLink "TreesBeforeMen" (181 : Nat) ({ cls := "TreesBeforeMen$Words", name := "here", desc := "()I" } : Jvm.MethodName)) ∈ lw_all := lw_g (lw_at lw_m2 185 rfl) rfl
theorem q516 : (Jvm.Cond.methodLink "TreesBeforeMen" (186 : Nat) ({ cls := "java/lang/System", name := "arraycopy", desc := "(Ljava/lang/Object;ILjava/lang/Object;II)V" } : Jvm.MethodName)) ∈ lw_all := lw_g (lw_at lw_m2 186 rfl) rfl
theorem q520 : (Jvm.Cond.instanceMethod ({ cls := "TreesBeforeMen", name := "islands", desc := "()I" } : Jvm.MethodName)) ∈ lw_all := lw_g (lw_at lw_m2 190 rfl) rfl
theorem q521 : (Jvm.Cond.selects "TreesBeforeMen" ({ cls := "TreesBeforeMen", name := "islands", desc := "()I" } : Jvm.MethodName) ({ cls := "TreesBeforeMen", name := "islands", desc := "()I" } : Jvm.MethodName)) ∈ lw_all := lw_g (lw_at lw_m2 191 rfl) rfl
theorem q522 : (Jvm.Cond.codeWith ({ cls := "TreesBeforeMen", name := "islands", desc := "()I" } : Jvm.MethodName) prog_1_method_12_code (5 : Nat) (Option.some Jvm.ClassFile.FieldType.int) [((26 : Nat), (119 : Nat), (122 : Nat), (164 : Nat))]) ∈ lw_all := lw_g (lw_at lw_m2 192 rfl) rfl
theorem q523 : (Jvm.Cond.methodLink "TreesBeforeMen" (195 : Nat) ({ cls := "TreesBeforeMen$Words", name := "number", desc := "(I)I" } : Jvm.MethodName)) ∈ lw_all := lw_g (lw_at lw_m2 193 rfl) rfl
theorem q534 : (Jvm.Cond.instanceMethod ({ cls := "TreesBeforeMen", name := "rule", desc := "()I" } : Jvm.MethodName)) ∈ lw_all := lw_g (lw_at lw_m2 204 rfl) rfl
theorem q535 : (Jvm.Cond.selects "TreesBeforeMen" ({ cls := "TreesBeforeMen", name := "rule", desc := "()I" } : Jvm.MethodName) ({ cls := "TreesBeforeMen", name := "rule", desc := "()I" } : Jvm.MethodName)) ∈ lw_all := lw_g (lw_at lw_m2 205 rfl) rfl
theorem q536 : (Jvm.Cond.codeWith ({ cls := "TreesBeforeMen", name := "rule", desc := "()I" } : Jvm.MethodName) prog_1_method_14_code (4 : Nat) (Option.some Jvm.ClassFile.FieldType.int) [((32 : Nat), (50 : Nat), (51 : Nat), (164 : Nat))]) ∈ lw_all := lw_g (lw_at lw_m2 206 rfl) rfl
theorem q537 : (Jvm.Cond.methodLink "TreesBeforeMen" (199 : Nat) ({ cls := "[B", name := "clone", desc := "()Ljava/lang/Object;" } : Jvm.MethodName)) ∈ lw_all := lw_g (lw_at lw_m2 207 rfl) rfl
theorem q543 : (Jvm.Cond.classLink "TreesBeforeMen" (200 : Nat) "[B") ∈ lw_all := lw_g (lw_at lw_m2 213 rfl) rfl
theorem q544 : (Jvm.Cond.classLink "TreesBeforeMen" (208 : Nat) "TreesBeforeMen$Rule") ∈ lw_all := lw_g (lw_at lw_m2 214 rfl) rfl
theorem q546 : (Jvm.Cond.methodLink "TreesBeforeMen" (210 : Nat) ({ cls := "TreesBeforeMen$Rule", name := "<init>", desc := "(LTreesBeforeMen;[BI)V" } : Jvm.MethodName)) ∈ lw_all := lw_g (lw_at lw_m2 216 rfl) rfl
theorem q564 : (Jvm.Cond.methodLink "TreesBeforeMen" (213 : Nat) ({ cls := "TreesBeforeMen$Rule", name := "read", desc := "()LTreesBeforeMen$Rule;" } : Jvm.MethodName)) ∈ lw_all := lw_g (lw_at lw_m2 234 rfl) rfl
theorem q693 : (Jvm.Cond.privateMethod ({ cls := "TreesBeforeMen", name := "skyOf", desc := "(I)I" } : Jvm.MethodName)) ∈ lw_tbl := lw_at lw_m3 123 rfl
theorem q694 : (Jvm.Cond.instanceMethod ({ cls := "TreesBeforeMen", name := "skyOf", desc := "(I)I" } : Jvm.MethodName)) ∈ lw_all := lw_g (lw_at lw_m3 124 rfl) rfl
theorem q695 : (Jvm.Cond.code ({ cls := "TreesBeforeMen", name := "skyOf", desc := "(I)I" } : Jvm.MethodName) prog_1_method_13_code (2 : Nat) (Option.some Jvm.ClassFile.FieldType.int)) ∈ lw_all := lw_g (lw_at lw_m3 125 rfl) rfl
theorem q701 : (Jvm.Cond.instanceMethod ({ cls := "TreesBeforeMen", name := "set", desc := "(II)I" } : Jvm.MethodName)) ∈ lw_all := lw_g (lw_at lw_m3 131 rfl) rfl
theorem q702 : (Jvm.Cond.selects "TreesBeforeMen" ({ cls := "TreesBeforeMen", name := "set", desc := "(II)I" } : Jvm.MethodName) ({ cls := "TreesBeforeMen", name := "set", desc := "(II)I" } : Jvm.MethodName)) ∈ lw_all := lw_g (lw_at lw_m3 132 rfl) rfl
theorem q703 : (Jvm.Cond.code ({ cls := "TreesBeforeMen", name := "set", desc := "(II)I" } : Jvm.MethodName) prog_1_method_21_code (3 : Nat) (Option.some Jvm.ClassFile.FieldType.int)) ∈ lw_all := lw_g (lw_at lw_m3 133 rfl) rfl
theorem q704 : (Jvm.Cond.constantLong "TreesBeforeMen" (263 : Nat) (9 : Int64)) ∈ lw_all := lw_g (lw_at lw_m3 134 rfl) rfl
theorem q705 : (Jvm.Cond.methodLink "TreesBeforeMen" (265 : Nat) ({ cls := "TreesBeforeMen", name := "remember", desc := "(LTreesBeforeMen$Voyage;)V" } : Jvm.MethodName)) ∈ lw_all := lw_g (lw_at lw_m3 135 rfl) rfl
theorem q706 : (Jvm.Cond.privateMethod ({ cls := "TreesBeforeMen", name := "remember", desc := "(LTreesBeforeMen$Voyage;)V" } : Jvm.MethodName)) ∈ lw_tbl := lw_at lw_m3 136 rfl
theorem q707 : (Jvm.Cond.instanceMethod ({ cls := "TreesBeforeMen", name := "remember", desc := "(LTreesBeforeMen$Voyage;)V" } : Jvm.MethodName)) ∈ lw_all := lw_g (lw_at lw_m3 137 rfl) rfl
theorem q708 : (Jvm.Cond.code ({ cls := "TreesBeforeMen", name := "remember", desc := "(LTreesBeforeMen$Voyage;)V" } : Jvm.MethodName) prog_1_method_25_code (3 : Nat) (Option.none : Option Jvm.ClassFile.FieldType)) ∈ lw_all := lw_g (lw_at lw_m3 138 rfl) rfl
theorem q709 : (Jvm.Cond.methodLink "TreesBeforeMen" (293 : Nat) ({ cls := "TreesBeforeMen$Voyage", name := "be", desc := "(LTreesBeforeMen$Voyage;)V" } : Jvm.MethodName)) ∈ lw_all := lw_g (lw_at lw_m3 139 rfl) rfl
theorem q714 : (Jvm.Cond.methodLink "TreesBeforeMen" (269 : Nat) ({ cls := "TreesBeforeMen", name := "setTo", desc := "(LTreesBeforeMen$Voyage;II)I" } : Jvm.MethodName)) ∈ lw_all := lw_g (lw_at lw_m3 144 rfl) rfl
theorem q715 : (Jvm.Cond.static ({ cls := "TreesBeforeMen", name := "setTo", desc := "(LTreesBeforeMen$Voyage;II)I" } : Jvm.MethodName)) ∈ lw_all := lw_g (lw_at lw_m3 145 rfl) rfl
theorem q716 : (Jvm.Cond.code ({ cls := "TreesBeforeMen", name := "setTo", desc := "(LTreesBeforeMen$Voyage;II)I" } : Jvm.MethodName) prog_1_method_20_code (4 : Nat) (Option.some Jvm.ClassFile.FieldType.int)) ∈ lw_all := lw_g (lw_at lw_m3 146 rfl) rfl
theorem q718 : (Jvm.Cond.instanceMethod ({ cls := "TreesBeforeMen", name := "sheet", desc := "(IIII)I" } : Jvm.MethodName)) ∈ lw_all := lw_g (lw_at lw_m3 148 rfl) rfl
theorem q719 : (Jvm.Cond.selects "TreesBeforeMen" ({ cls := "TreesBeforeMen", name := "sheet", desc := "(IIII)I" } : Jvm.MethodName) ({ cls := "TreesBeforeMen", name := "sheet", desc := "(IIII)I" } : Jvm.MethodName)) ∈ lw_all := lw_g (lw_at lw_m3 149 rfl) rfl
theorem q720 : (Jvm.Cond.codeWith ({ cls := "TreesBeforeMen", name := "sheet", desc := "(IIII)I" } : Jvm.MethodName) prog_1_method_24_code (8 : Nat) (Option.some Jvm.ClassFile.FieldType.int) [((28 : Nat), (38 : Nat), (41 : Nat), (279 : Nat))]) ∈ lw_all := lw_g (lw_at lw_m3 150 rfl) rfl
theorem q721 : (Jvm.Cond.classLink "TreesBeforeMen" (279 : Nat) "java/lang/NegativeArraySizeException") ∈ lw_all := lw_g (lw_at lw_m3 151 rfl) rfl
theorem q750 : (Jvm.Cond.constantLong "TreesBeforeMen" (255 : Nat) (3 : Int64)) ∈ lw_all := lw_g (lw_at lw_m3 180 rfl) rfl
theorem q751 : (Jvm.Cond.methodLink "TreesBeforeMen" (275 : Nat) ({ cls := "TreesBeforeMen", name := "rowOf", desc := "(IIII)Ljava/lang/Object;" } : Jvm.MethodName)) ∈ lw_all := lw_g (lw_at lw_m3 181 rfl) rfl
theorem q752 : (Jvm.Cond.static ({ cls := "TreesBeforeMen", name := "rowOf", desc := "(IIII)Ljava/lang/Object;" } : Jvm.MethodName)) ∈ lw_all := lw_g (lw_at lw_m3 182 rfl) rfl
theorem q753 : (Jvm.Cond.code ({ cls := "TreesBeforeMen", name := "rowOf", desc := "(IIII)Ljava/lang/Object;" } : Jvm.MethodName) prog_1_method_22_code (7 : Nat) (Option.some (Jvm.ClassFile.FieldType.object "java/lang/Object"))) ∈ lw_all := lw_g (lw_at lw_m3 183 rfl) rfl
theorem q754 : (Jvm.Cond.methodLink "TreesBeforeMen" (281 : Nat) ({ cls := "TreesBeforeMen", name := "entry", desc := "(Ljava/lang/Object;I)I" } : Jvm.MethodName)) ∈ lw_all := lw_g (lw_at lw_m3 184 rfl) rfl
theorem q755 : (Jvm.Cond.static ({ cls := "TreesBeforeMen", name := "entry", desc := "(Ljava/lang/Object;I)I" } : Jvm.MethodName)) ∈ lw_all := lw_g (lw_at lw_m3 185 rfl) rfl
theorem q756 : (Jvm.Cond.code ({ cls := "TreesBeforeMen", name := "entry", desc := "(Ljava/lang/Object;I)I" } : Jvm.MethodName) prog_1_method_23_code (2 : Nat) (Option.some Jvm.ClassFile.FieldType.int)) ∈ lw_all := lw_g (lw_at lw_m3 186 rfl) rfl
theorem q757 : (Jvm.Cond.classLink "TreesBeforeMen" (272 : Nat) "[S") ∈ lw_all := lw_g (lw_at lw_m3 187 rfl) rfl
theorem q758 : (Jvm.Cond.classLink "TreesBeforeMen" (274 : Nat) "[I") ∈ lw_all := lw_g (lw_at lw_m3 188 rfl) rfl
theorem q759 : (Jvm.Cond.methodLink "TreesBeforeMen" (285 : Nat) ({ cls := "java/lang/Math", name := "min", desc := "(II)I" } : Jvm.MethodName)) ∈ lw_all := lw_g (lw_at lw_m3 189 rfl) rfl
theorem q760 : (Jvm.Cond.methodLink "TreesBeforeMen" (290 : Nat) ({ cls := "java/lang/Math", name := "max", desc := "(II)I" } : Jvm.MethodName)) ∈ lw_all := lw_g (lw_at lw_m3 190 rfl) rfl
theorem q763 : (Jvm.Cond.instanceMethod ({ cls := "TreesBeforeMen", name := "days", desc := "(I)I" } : Jvm.MethodName)) ∈ lw_all := lw_g (lw_at lw_m3 193 rfl) rfl
theorem q764 : (Jvm.Cond.selects "TreesBeforeMen" ({ cls := "TreesBeforeMen", name := "days", desc := "(I)I" } : Jvm.MethodName) ({ cls := "TreesBeforeMen", name := "days", desc := "(I)I" } : Jvm.MethodName)) ∈ lw_all := lw_g (lw_at lw_m3 194 rfl) rfl
theorem q765 : (Jvm.Cond.code ({ cls := "TreesBeforeMen", name := "days", desc := "(I)I" } : Jvm.MethodName) prog_1_method_29_code (4 : Nat) (Option.some Jvm.ClassFile.FieldType.int)) ∈ lw_all := lw_g (lw_at lw_m3 195 rfl) rfl
theorem q766 : (Jvm.Cond.constantLong "TreesBeforeMen" (326 : Nat) (60 : Int64)) ∈ lw_all := lw_g (lw_at lw_m3 196 rfl) rfl
theorem q767 : (Jvm.Cond.methodLink "TreesBeforeMen" (328 : Nat) ({ cls := "TreesBeforeMen", name := "goDays", desc := "(LTreesBeforeMen$Voyage;I)I" } : Jvm.MethodName)) ∈ lw_all := lw_g (lw_at lw_m3 197 rfl) rfl
theorem q768 : (Jvm.Cond.privateMethod ({ cls := "TreesBeforeMen", name := "goDays", desc := "(LTreesBeforeMen$Voyage;I)I" } : Jvm.MethodName)) ∈ lw_tbl := lw_at lw_m3 198 rfl
theorem q769 : (Jvm.Cond.instanceMethod ({ cls := "TreesBeforeMen", name := "goDays", desc := "(LTreesBeforeMen$Voyage;I)I" } : Jvm.MethodName)) ∈ lw_all := lw_g (lw_at lw_m3 199 rfl) rfl
theorem q770 : (Jvm.Cond.code ({ cls := "TreesBeforeMen", name := "goDays", desc := "(LTreesBeforeMen$Voyage;I)I" } : Jvm.MethodName) prog_1_method_28_code (5 : Nat) (Option.some Jvm.ClassFile.FieldType.int)) ∈ lw_all := lw_g (lw_at lw_m3 200 rfl) rfl
theorem q771 : (Jvm.Cond.methodLink "TreesBeforeMen" (322 : Nat) ({ cls := "TreesBeforeMen", name := "goDay", desc := "(LTreesBeforeMen$Voyage;)Z" } : Jvm.MethodName)) ∈ lw_all := lw_g (lw_at lw_m3 201 rfl) rfl
theorem q772 : (Jvm.Cond.privateMethod ({ cls := "TreesBeforeMen", name := "goDay", desc := "(LTreesBeforeMen$Voyage;)Z" } : Jvm.MethodName)) ∈ lw_tbl := lw_at lw_m3 202 rfl
theorem q773 : (Jvm.Cond.instanceMethod ({ cls := "TreesBeforeMen", name := "goDay", desc := "(LTreesBeforeMen$Voyage;)Z" } : Jvm.MethodName)) ∈ lw_all := lw_g (lw_at lw_m3 203 rfl) rfl
theorem q774 : (Jvm.Cond.code ({ cls := "TreesBeforeMen", name := "goDay", desc := "(LTreesBeforeMen$Voyage;)Z" } : Jvm.MethodName) prog_1_method_27_code (5 : Nat) (Option.some Jvm.ClassFile.FieldType.boolean)) ∈ lw_all := lw_g (lw_at lw_m3 204 rfl) rfl
theorem q775 : (Jvm.Cond.methodLink "TreesBeforeMen" (309 : Nat) ({ cls := "TreesBeforeMen$Voyage", name := "gives", desc := "(I)Z" } : Jvm.MethodName)) ∈ lw_all := lw_g (lw_at lw_m3 205 rfl) rfl
theorem q789 : (Jvm.Cond.methodLink "TreesBeforeMen" (312 : Nat) ({ cls := "TreesBeforeMen", name := "deathsOf", desc := "(LTreesBeforeMen$Voyage;I)I" } : Jvm.MethodName)) ∈ lw_all := lw_g (lw_at lw_m3 219 rfl) rfl
theorem q790 : (Jvm.Cond.privateMethod ({ cls := "TreesBeforeMen", name := "deathsOf", desc := "(LTreesBeforeMen$Voyage;I)I" } : Jvm.MethodName)) ∈ lw_tbl := lw_at lw_m3 220 rfl
theorem q791 : (Jvm.Cond.instanceMethod ({ cls := "TreesBeforeMen", name := "deathsOf", desc := "(LTreesBeforeMen$Voyage;I)I" } : Jvm.MethodName)) ∈ lw_all := lw_g (lw_at lw_m3 221 rfl) rfl
theorem q792 : (Jvm.Cond.code ({ cls := "TreesBeforeMen", name := "deathsOf", desc := "(LTreesBeforeMen$Voyage;I)I" } : Jvm.MethodName) prog_1_method_26_code (5 : Nat) (Option.some Jvm.ClassFile.FieldType.int)) ∈ lw_all := lw_g (lw_at lw_m3 222 rfl) rfl
theorem q793 : (Jvm.Cond.methodLink "TreesBeforeMen" (299 : Nat) ({ cls := "TreesBeforeMen", name := "skyOf", desc := "(I)I" } : Jvm.MethodName)) ∈ lw_all := lw_g (lw_at lw_m3 223 rfl) rfl
theorem q794 : (Jvm.Cond.methodLink "TreesBeforeMen" (305 : Nat) ({ cls := "TreesBeforeMen$Rule", name := "of", desc := "(LTreesBeforeMen$Voyage;I)I" } : Jvm.MethodName)) ∈ lw_all := lw_g (lw_at lw_m3 224 rfl) rfl
theorem q799 : (Jvm.Cond.methodLink "TreesBeforeMen" (315 : Nat) ({ cls := "TreesBeforeMen$Voyage", name := "angers", desc := "(II)V" } : Jvm.MethodName)) ∈ lw_all := lw_g (lw_at lw_m3 229 rfl) rfl
theorem q805 : (Jvm.Cond.methodLink "TreesBeforeMen" (319 : Nat) ({ cls := "TreesBeforeMen$Voyage", name := "fill", desc := "(I)I" } : Jvm.MethodName)) ∈ lw_all := lw_g (lw_at lw_m3 235 rfl) rfl
theorem q809 : (Jvm.Cond.methodLink "TreesBeforeMen" (331 : Nat) ({ cls := "TreesBeforeMen", name := "tell", desc := "(J)V" } : Jvm.MethodName)) ∈ lw_all := lw_g (lw_at lw_m3 239 rfl) rfl
theorem q810 : (Jvm.Cond.privateMethod ({ cls := "TreesBeforeMen", name := "tell", desc := "(J)V" } : Jvm.MethodName)) ∈ lw_tbl := lw_at lw_m4 0 rfl
theorem q811 : (Jvm.Cond.instanceMethod ({ cls := "TreesBeforeMen", name := "tell", desc := "(J)V" } : Jvm.MethodName)) ∈ lw_all := lw_g (lw_at lw_m4 1 rfl) rfl
theorem q812 : (Jvm.Cond.code ({ cls := "TreesBeforeMen", name := "tell", desc := "(J)V" } : Jvm.MethodName) prog_1_method_5_code (3 : Nat) (Option.none : Option Jvm.ClassFile.FieldType)) ∈ lw_all := lw_g (lw_at lw_m4 2 rfl) rfl
theorem q813 : (Jvm.Cond.methodLink "TreesBeforeMen" (335 : Nat) ({ cls := "TreesBeforeMen", name := "isMutiny", desc := "(LTreesBeforeMen$Voyage;)Z" } : Jvm.MethodName)) ∈ lw_all := lw_g (lw_at lw_m4 3 rfl) rfl
theorem q814 : (Jvm.Cond.privateMethod ({ cls := "TreesBeforeMen", name := "isMutiny", desc := "(LTreesBeforeMen$Voyage;)Z" } : Jvm.MethodName)) ∈ lw_tbl := lw_at lw_m4 4 rfl
theorem q815 : (Jvm.Cond.instanceMethod ({ cls := "TreesBeforeMen", name := "isMutiny", desc := "(LTreesBeforeMen$Voyage;)Z" } : Jvm.MethodName)) ∈ lw_all := lw_g (lw_at lw_m4 5 rfl) rfl
theorem q816 : (Jvm.Cond.code ({ cls := "TreesBeforeMen", name := "isMutiny", desc := "(LTreesBeforeMen$Voyage;)Z" } : Jvm.MethodName) prog_1_method_17_code (2 : Nat) (Option.some Jvm.ClassFile.FieldType.boolean)) ∈ lw_all := lw_g (lw_at lw_m4 6 rfl) rfl
theorem q817 : (Jvm.Cond.methodLink "TreesBeforeMen" (240 : Nat) ({ cls := "TreesBeforeMen", name := "risesOf", desc := "(LTreesBeforeMen$Voyage;II)I" } : Jvm.MethodName)) ∈ lw_all := lw_g (lw_at lw_m4 7 rfl) rfl
theorem q818 : (Jvm.Cond.privateMethod ({ cls := "TreesBeforeMen", name := "risesOf", desc := "(LTreesBeforeMen$Voyage;II)I" } : Jvm.MethodName)) ∈ lw_tbl := lw_at lw_m4 8 rfl
theorem q819 : (Jvm.Cond.instanceMethod ({ cls := "TreesBeforeMen", name := "risesOf", desc := "(LTreesBeforeMen$Voyage;II)I" } : Jvm.MethodName)) ∈ lw_all := lw_g (lw_at lw_m4 9 rfl) rfl
theorem q820 : (Jvm.Cond.code ({ cls := "TreesBeforeMen", name := "risesOf", desc := "(LTreesBeforeMen$Voyage;II)I" } : Jvm.MethodName) prog_1_method_15_code (8 : Nat) (Option.some Jvm.ClassFile.FieldType.int)) ∈ lw_all := lw_g (lw_at lw_m4 10 rfl) rfl
theorem q821 : (Jvm.Cond.methodLink "TreesBeforeMen" (217 : Nat) ({ cls := "TreesBeforeMen$Voyage", name := "those", desc := "(II)I" } : Jvm.MethodName)) ∈ lw_all := lw_g (lw_at lw_m4 11 rfl) rfl
theorem q822 : (Jvm.Cond.methodLink "TreesBeforeMen" (221 : Nat) ({ cls := "TreesBeforeMen", name := "has", desc := "(II)Z" } : Jvm.MethodName)) ∈ lw_all := lw_g (lw_at lw_m4 12 rfl) rfl
theorem q823 : (Jvm.Cond.static ({ cls := "TreesBeforeMen", name := "has", desc := "(II)Z" } : Jvm.MethodName)) ∈ lw_all := lw_g (lw_at lw_m4 13 rfl) rfl
theorem q824 : (Jvm.Cond.code ({ cls := "TreesBeforeMen", name := "has", desc := "(II)Z" } : Jvm.MethodName) prog_1_method_2_code (2 : Nat) (Option.some Jvm.ClassFile.FieldType.boolean)) ∈ lw_all := lw_g (lw_at lw_m4 14 rfl) rfl
theorem q825 : (Jvm.Cond.methodLink "TreesBeforeMen" (225 : Nat) ({ cls := "TreesBeforeMen", name := "kindOf", desc := "(I)LTreesBeforeMen$Kind;" } : Jvm.MethodName)) ∈ lw_all := lw_g (lw_at lw_m4 15 rfl) rfl
theorem q826 : (Jvm.Cond.privateMethod ({ cls := "TreesBeforeMen", name := "kindOf", desc := "(I)LTreesBeforeMen$Kind;" } : Jvm.MethodName)) ∈ lw_tbl := lw_at lw_m4 16 rfl
theorem q827 : (Jvm.Cond.instanceMethod ({ cls := "TreesBeforeMen", name := "kindOf", desc := "(I)LTreesBeforeMen$Kind;" } : Jvm.MethodName)) ∈ lw_all := lw_g (lw_at lw_m4 17 rfl) rfl
theorem q828 : (Jvm.Cond.code ({ cls := "TreesBeforeMen", name := "kindOf", desc := "(I)LTreesBeforeMen$Kind;" } : Jvm.MethodName) prog_1_method_3_code (2 : Nat) (Option.some (Jvm.ClassFile.FieldType.object "TreesBeforeMen$Kind"))) ∈ lw_all := lw_g (lw_at lw_m4 18 rfl) rfl
theorem q829 : (Jvm.Cond.methodLink "TreesBeforeMen" (229 : Nat) ({ cls := "java/lang/Integer", name := "bitCount", desc := "(I)I" } : Jvm.MethodName)) ∈ lw_all := lw_g (lw_at lw_m4 19 rfl) rfl
theorem q830 : (Jvm.Cond.methodLink "TreesBeforeMen" (234 : Nat) ({ cls := "TreesBeforeMen$Kind", name := "doesRise", desc := "(LTreesBeforeMen$Voyage;II)Z" } : Jvm.MethodName)) ∈ lw_all := lw_g (lw_at lw_m4 20 rfl) rfl
theorem q861 : (Jvm.Cond.methodLink "TreesBeforeMen" (244 : Nat) ({ cls := "TreesBeforeMen", name := "isMutiny", desc := "(LTreesBeforeMen$Voyage;I)Z" } : Jvm.MethodName)) ∈ lw_all := lw_g (lw_at lw_m4 51 rfl) rfl
theorem q862 : (Jvm.Cond.privateMethod ({ cls := "TreesBeforeMen", name := "isMutiny", desc := "(LTreesBeforeMen$Voyage;I)Z" } : Jvm.MethodName)) ∈ lw_tbl := lw_at lw_m4 52 rfl
theorem q863 : (Jvm.Cond.instanceMethod ({ cls := "TreesBeforeMen", name := "isMutiny", desc := "(LTreesBeforeMen$Voyage;I)Z" } : Jvm.MethodName)) ∈ lw_all := lw_g (lw_at lw_m4 53 rfl) rfl
theorem q864 : (Jvm.Cond.code ({ cls := "TreesBeforeMen", name := "isMutiny", desc := "(LTreesBeforeMen$Voyage;I)Z" } : Jvm.MethodName) prog_1_method_16_code (3 : Nat) (Option.some Jvm.ClassFile.FieldType.boolean)) ∈ lw_all := lw_g (lw_at lw_m4 54 rfl) rfl
theorem q866 : (Jvm.Cond.instanceMethod ({ cls := "TreesBeforeMen", name := "fill", desc := "(I)I" } : Jvm.MethodName)) ∈ lw_all := lw_g (lw_at lw_m4 56 rfl) rfl
theorem q867 : (Jvm.Cond.selects "TreesBeforeMen" ({ cls := "TreesBeforeMen", name := "fill", desc := "(I)I" } : Jvm.MethodName) ({ cls := "TreesBeforeMen", name := "fill", desc := "(I)I" } : Jvm.MethodName)) ∈ lw_all := lw_g (lw_at lw_m4 57 rfl) rfl
theorem q868 : (Jvm.Cond.code ({ cls := "TreesBeforeMen", name := "fill", desc := "(I)I" } : Jvm.MethodName) prog_1_method_30_code (2 : Nat) (Option.some Jvm.ClassFile.FieldType.int)) ∈ lw_all := lw_g (lw_at lw_m4 58 rfl) rfl
theorem q869 : (Jvm.Cond.constantLong "TreesBeforeMen" (337 : Nat) (99 : Int64)) ∈ lw_all := lw_g (lw_at lw_m4 59 rfl) rfl
theorem q871 : (Jvm.Cond.instanceMethod ({ cls := "TreesBeforeMen", name := "plant", desc := "(I)I" } : Jvm.MethodName)) ∈ lw_all := lw_g (lw_at lw_m4 61 rfl) rfl
theorem q872 : (Jvm.Cond.selects "TreesBeforeMen" ({ cls := "TreesBeforeMen", name := "plant", desc := "(I)I" } : Jvm.MethodName) ({ cls := "TreesBeforeMen", name := "plant", desc := "(I)I" } : Jvm.MethodName)) ∈ lw_all := lw_g (lw_at lw_m4 62 rfl) rfl
theorem q873 : (Jvm.Cond.code ({ cls := "TreesBeforeMen", name := "plant", desc := "(I)I" } : Jvm.MethodName) prog_1_method_31_code (2 : Nat) (Option.some Jvm.ClassFile.FieldType.int)) ∈ lw_all := lw_g (lw_at lw_m4 63 rfl) rfl
theorem q875 : (Jvm.Cond.instanceMethod ({ cls := "TreesBeforeMen", name := "scold", desc := "(II)I" } : Jvm.MethodName)) ∈ lw_all := lw_g (lw_at lw_m4 65 rfl) rfl
theorem q876 : (Jvm.Cond.selects "TreesBeforeMen" ({ cls := "TreesBeforeMen", name := "scold", desc := "(II)I" } : Jvm.MethodName) ({ cls := "TreesBeforeMen", name := "scold", desc := "(II)I" } : Jvm.MethodName)) ∈ lw_all := lw_g (lw_at lw_m4 66 rfl) rfl
theorem q877 : (Jvm.Cond.code ({ cls := "TreesBeforeMen", name := "scold", desc := "(II)I" } : Jvm.MethodName) prog_1_method_34_code (3 : Nat) (Option.some Jvm.ClassFile.FieldType.int)) ∈ lw_all := lw_g (lw_at lw_m4 67 rfl) rfl
theorem q878 : (Jvm.Cond.methodLink "TreesBeforeMen" (342 : Nat) ({ cls := "TreesBeforeMen", name := "speaks", desc := "(III)I" } : Jvm.MethodName)) ∈ lw_all := lw_g (lw_at lw_m4 68 rfl) rfl
theorem q879 : (Jvm.Cond.privateMethod ({ cls := "TreesBeforeMen", name := "speaks", desc := "(III)I" } : Jvm.MethodName)) ∈ lw_tbl := lw_at lw_m4 69 rfl
theorem q880 : (Jvm.Cond.instanceMethod ({ cls := "TreesBeforeMen", name := "speaks", desc := "(III)I" } : Jvm.MethodName)) ∈ lw_all := lw_g (lw_at lw_m4 70 rfl) rfl
theorem q881 : (Jvm.Cond.code ({ cls := "TreesBeforeMen", name := "speaks", desc := "(III)I" } : Jvm.MethodName) prog_1_method_33_code (5 : Nat) (Option.some Jvm.ClassFile.FieldType.int)) ∈ lw_all := lw_g (lw_at lw_m4 71 rfl) rfl
theorem q882 : (Jvm.Cond.methodLink "TreesBeforeMen" (339 : Nat) ({ cls := "TreesBeforeMen", name := "refusesWords", desc := "(II)I" } : Jvm.MethodName)) ∈ lw_all := lw_g (lw_at lw_m4 72 rfl) rfl
theorem q883 : (Jvm.Cond.privateMethod ({ cls := "TreesBeforeMen", name := "refusesWords", desc := "(II)I" } : Jvm.MethodName)) ∈ lw_tbl := lw_at lw_m4 73 rfl
theorem q884 : (Jvm.Cond.instanceMethod ({ cls := "TreesBeforeMen", name := "refusesWords", desc := "(II)I" } : Jvm.MethodName)) ∈ lw_all := lw_g (lw_at lw_m4 74 rfl) rfl
theorem q885 : (Jvm.Cond.code ({ cls := "TreesBeforeMen", name := "refusesWords", desc := "(II)I" } : Jvm.MethodName) prog_1_method_32_code (3 : Nat) (Option.some Jvm.ClassFile.FieldType.int)) ∈ lw_all := lw_g (lw_at lw_m4 75 rfl) rfl
theorem q886 : (Jvm.Cond.methodLink "TreesBeforeMen" (248 : Nat) ({ cls := "TreesBeforeMen", name := "isMan", desc := "(I)Z" } : Jvm.MethodName)) ∈ lw_all := lw_g (lw_at lw_m4 76 rfl) rfl
theorem q887 : (Jvm.Cond.privateMethod ({ cls := "TreesBeforeMen", name := "isMan", desc := "(I)Z" } : Jvm.MethodName)) ∈ lw_tbl := lw_at lw_m4 77 rfl
theorem q888 : (Jvm.Cond.instanceMethod ({ cls := "TreesBeforeMen", name := "isMan", desc := "(I)Z" } : Jvm.MethodName)) ∈ lw_all := lw_g (lw_at lw_m4 78 rfl) rfl
theorem q889 : (Jvm.Cond.code ({ cls := "TreesBeforeMen", name := "isMan", desc := "(I)Z" } : Jvm.MethodName) prog_1_method_6_code (2 : Nat) (Option.some Jvm.ClassFile.FieldType.boolean)) ∈ lw_all := lw_g (lw_at lw_m4 79 rfl) rfl
theorem q891 : (Jvm.Cond.instanceMethod ({ cls := "TreesBeforeMen", name := "soothe", desc := "(II)I" } : Jvm.MethodName)) ∈ lw_all := lw_g (lw_at lw_m4 81 rfl) rfl
theorem q892 : (Jvm.Cond.selects "TreesBeforeMen" ({ cls := "TreesBeforeMen", name := "soothe", desc := "(II)I" } : Jvm.MethodName) ({ cls := "TreesBeforeMen", name := "soothe", desc := "(II)I" } : Jvm.MethodName)) ∈ lw_all := lw_g (lw_at lw_m4 82 rfl) rfl
theorem q893 : (Jvm.Cond.code ({ cls := "TreesBeforeMen", name := "soothe", desc := "(II)I" } : Jvm.MethodName) prog_1_method_35_code (3 : Nat) (Option.some Jvm.ClassFile.FieldType.int)) ∈ lw_all := lw_g (lw_at lw_m4 83 rfl) rfl
theorem q895 : (Jvm.Cond.instanceMethod ({ cls := "TreesBeforeMen", name := "runs", desc := "(I)I" } : Jvm.MethodName)) ∈ lw_all := lw_g (lw_at lw_m4 85 rfl) rfl
theorem q896 : (Jvm.Cond.selects "TreesBeforeMen" ({ cls := "TreesBeforeMen", name := "runs", desc := "(I)I" } : Jvm.MethodName) ({ cls := "TreesBeforeMen", name := "runs", desc := "(I)I" } : Jvm.MethodName)) ∈ lw_all := lw_g (lw_at lw_m4 86 rfl) rfl
theorem q897 : (Jvm.Cond.code ({ cls := "TreesBeforeMen", name := "runs", desc := "(I)I" } : Jvm.MethodName) prog_1_method_38_code (3 : Nat) (Option.some Jvm.ClassFile.FieldType.int)) ∈ lw_all := lw_g (lw_at lw_m4 87 rfl) rfl
theorem q898 : (Jvm.Cond.methodLink "TreesBeforeMen" (346 : Nat) ({ cls := "TreesBeforeMen", name := "refusesRun", desc := "(I)I" } : Jvm.MethodName)) ∈ lw_all := lw_g (lw_at lw_m4 88 rfl) rfl
theorem q899 : (Jvm.Cond.privateMethod ({ cls := "TreesBeforeMen", name := "refusesRun", desc := "(I)I" } : Jvm.MethodName)) ∈ lw_tbl := lw_at lw_m4 89 rfl
theorem q900 : (Jvm.Cond.instanceMethod ({ cls := "TreesBeforeMen", name := "refusesRun", desc := "(I)I" } : Jvm.MethodName)) ∈ lw_all := lw_g (lw_at lw_m4 90 rfl) rfl
theorem q901 : (Jvm.Cond.code ({ cls := "TreesBeforeMen", name := "refusesRun", desc := "(I)I" } : Jvm.MethodName) prog_1_method_36_code (2 : Nat) (Option.some Jvm.ClassFile.FieldType.int)) ∈ lw_all := lw_g (lw_at lw_m4 91 rfl) rfl
theorem q902 : (Jvm.Cond.methodLink "TreesBeforeMen" (349 : Nat) ({ cls := "TreesBeforeMen", name := "goRun", desc := "(I)I" } : Jvm.MethodName)) ∈ lw_all := lw_g (lw_at lw_m4 92 rfl) rfl
theorem q903 : (Jvm.Cond.privateMethod ({ cls := "TreesBeforeMen", name := "goRun", desc := "(I)I" } : Jvm.MethodName)) ∈ lw_tbl := lw_at lw_m4 93 rfl
theorem q904 : (Jvm.Cond.instanceMethod ({ cls := "TreesBeforeMen", name := "goRun", desc := "(I)I" } : Jvm.MethodName)) ∈ lw_all := lw_g (lw_at lw_m4 94 rfl) rfl
theorem q905 : (Jvm.Cond.code ({ cls := "TreesBeforeMen", name := "goRun", desc := "(I)I" } : Jvm.MethodName) prog_1_method_37_code (2 : Nat) (Option.some Jvm.ClassFile.FieldType.int)) ∈ lw_all := lw_g (lw_at lw_m4 95 rfl) rfl
theorem q907 : (Jvm.Cond.instanceMethod ({ cls := "TreesBeforeMen", name := "put", desc := "()I" } : Jvm.MethodName)) ∈ lw_all := lw_g (lw_at lw_m4 97 rfl) rfl
theorem q908 : (Jvm.Cond.selects "TreesBeforeMen" ({ cls := "TreesBeforeMen", name := "put", desc := "()I" } : Jvm.MethodName) ({ cls := "TreesBeforeMen", name := "put", desc := "()I" } : Jvm.MethodName)) ∈ lw_all := lw_g (lw_at lw_m4 98 rfl) rfl
theorem q909 : (Jvm.Cond.code ({ cls := "TreesBeforeMen", name := "put", desc := "()I" } : Jvm.MethodName) prog_1_method_40_code (3 : Nat) (Option.some Jvm.ClassFile.FieldType.int)) ∈ lw_all := lw_g (lw_at lw_m4 99 rfl) rfl
theorem q910 : (Jvm.Cond.methodLink "TreesBeforeMen" (352 : Nat) ({ cls := "TreesBeforeMen", name := "goPut", desc := "(LTreesBeforeMen$Voyage;II)I" } : Jvm.MethodName)) ∈ lw_all := lw_g (lw_at lw_m4 100 rfl) rfl
theorem q911 : (Jvm.Cond.static ({ cls := "TreesBeforeMen", name := "goPut", desc := "(LTreesBeforeMen$Voyage;II)I" } : Jvm.MethodName)) ∈ lw_all := lw_g (lw_at lw_m4 101 rfl) rfl
theorem q912 : (Jvm.Cond.code ({ cls := "TreesBeforeMen", name := "goPut", desc := "(LTreesBeforeMen$Voyage;II)I" } : Jvm.MethodName) prog_1_method_39_code (5 : Nat) (Option.some Jvm.ClassFile.FieldType.int)) ∈ lw_all := lw_g (lw_at lw_m4 102 rfl) rfl
theorem q914 : (Jvm.Cond.instanceMethod ({ cls := "TreesBeforeMen", name := "log", desc := "()I" } : Jvm.MethodName)) ∈ lw_all := lw_g (lw_at lw_m4 104 rfl) rfl
theorem q915 : (Jvm.Cond.selects "TreesBeforeMen" ({ cls := "TreesBeforeMen", name := "log", desc := "()I" } : Jvm.MethodName) ({ cls := "TreesBeforeMen", name := "log", desc := "()I" } : Jvm.MethodName)) ∈ lw_all := lw_g (lw_at lw_m4 105 rfl) rfl
theorem q916 : (Jvm.Cond.codeWith ({ cls := "TreesBeforeMen", name := "log", desc := "()I" } : Jvm.MethodName) prog_1_method_41_code (3 : Nat) (Option.some Jvm.ClassFile.FieldType.int) [((21 : Nat), (25 : Nat), (28 : Nat), (164 : Nat))]) ∈ lw_all := lw_g (lw_at lw_m4 106 rfl) rfl
theorem q917 : (Jvm.Cond.classLink "TreesBeforeMen" (355 : Nat) "TreesBeforeMen$Order") ∈ lw_all := lw_g (lw_at lw_m4 107 rfl) rfl
theorem q919 : (Jvm.Cond.methodLink "TreesBeforeMen" (357 : Nat) ({ cls := "TreesBeforeMen$Order", name := "<init>", desc := "([BI)V" } : Jvm.MethodName)) ∈ lw_all := lw_g (lw_at lw_m4 109 rfl) rfl
theorem q924 : (Jvm.Cond.fieldLink "TreesBeforeMen" (365 : Nat) "TreesBeforeMen$Order" "acts" "[C") ∈ lw_all := lw_g (lw_at lw_m4 114 rfl) rfl
theorem q926 : (Jvm.Cond.fieldLink "TreesBeforeMen" (369 : Nat) "TreesBeforeMen$Order" "first" "[I") ∈ lw_all := lw_g (lw_at lw_m4 116 rfl) rfl
theorem q928 : (Jvm.Cond.fieldLink "TreesBeforeMen" (372 : Nat) "TreesBeforeMen$Order" "second" "[I") ∈ lw_all := lw_g (lw_at lw_m4 118 rfl) rfl
theorem q930 : (Jvm.Cond.fieldLink "TreesBeforeMen" (362 : Nat) "TreesBeforeMen$Order" "many" "I") ∈ lw_all := lw_g (lw_at lw_m4 120 rfl) rfl
theorem q945 : (Jvm.Cond.methodLink "TreesBeforeMen" (360 : Nat) ({ cls := "TreesBeforeMen$Order", name := "read", desc := "()V" } : Jvm.MethodName)) ∈ lw_all := lw_g (lw_at lw_m4 135 rfl) rfl
theorem q968 : (Jvm.Cond.methodLink "TreesBeforeMen" (375 : Nat) ({ cls := "TreesBeforeMen", name := "act", desc := "(CII)Z" } : Jvm.MethodName)) ∈ lw_all := lw_g (lw_at lw_m4 158 rfl) rfl
theorem q969 : (Jvm.Cond.privateMethod ({ cls := "TreesBeforeMen", name := "act", desc := "(CII)Z" } : Jvm.MethodName)) ∈ lw_tbl := lw_at lw_m4 159 rfl
theorem q970 : (Jvm.Cond.instanceMethod ({ cls := "TreesBeforeMen", name := "act", desc := "(CII)Z" } : Jvm.MethodName)) ∈ lw_all := lw_g (lw_at lw_m4 160 rfl) rfl
theorem q971 : (Jvm.Cond.code ({ cls := "TreesBeforeMen", name := "act", desc := "(CII)Z" } : Jvm.MethodName) prog_1_method_42_code (5 : Nat) (Option.some Jvm.ClassFile.FieldType.boolean)) ∈ lw_all := lw_g (lw_at lw_m4 161 rfl) rfl
theorem q973 : (Jvm.Cond.instanceMethod ({ cls := "TreesBeforeMen", name := "undo", desc := "()I" } : Jvm.MethodName)) ∈ lw_all := lw_g (lw_at lw_m4 163 rfl) rfl
theorem q974 : (Jvm.Cond.selects "TreesBeforeMen" ({ cls := "TreesBeforeMen", name := "undo", desc := "()I" } : Jvm.MethodName) ({ cls := "TreesBeforeMen", name := "undo", desc := "()I" } : Jvm.MethodName)) ∈ lw_all := lw_g (lw_at lw_m4 164 rfl) rfl
theorem q975 : (Jvm.Cond.code ({ cls := "TreesBeforeMen", name := "undo", desc := "()I" } : Jvm.MethodName) prog_1_method_43_code (1 : Nat) (Option.some Jvm.ClassFile.FieldType.int)) ∈ lw_all := lw_g (lw_at lw_m4 165 rfl) rfl
theorem q977 : (Jvm.Cond.instanceMethod ({ cls := "TreesBeforeMen", name := "rises", desc := "()I" } : Jvm.MethodName)) ∈ lw_all := lw_g (lw_at lw_m4 167 rfl) rfl
theorem q978 : (Jvm.Cond.selects "TreesBeforeMen" ({ cls := "TreesBeforeMen", name := "rises", desc := "()I" } : Jvm.MethodName) ({ cls := "TreesBeforeMen", name := "rises", desc := "()I" } : Jvm.MethodName)) ∈ lw_all := lw_g (lw_at lw_m4 168 rfl) rfl
theorem q979 : (Jvm.Cond.code ({ cls := "TreesBeforeMen", name := "rises", desc := "()I" } : Jvm.MethodName) prog_1_method_44_code (2 : Nat) (Option.some Jvm.ClassFile.FieldType.int)) ∈ lw_all := lw_g (lw_at lw_m4 169 rfl) rfl
theorem q981 : (Jvm.Cond.instanceMethod ({ cls := "TreesBeforeMen", name := "follow", desc := "(I)I" } : Jvm.MethodName)) ∈ lw_all := lw_g (lw_at lw_m4 171 rfl) rfl
theorem q982 : (Jvm.Cond.selects "TreesBeforeMen" ({ cls := "TreesBeforeMen", name := "follow", desc := "(I)I" } : Jvm.MethodName) ({ cls := "TreesBeforeMen", name := "follow", desc := "(I)I" } : Jvm.MethodName)) ∈ lw_all := lw_g (lw_at lw_m4 172 rfl) rfl
theorem q983 : (Jvm.Cond.code ({ cls := "TreesBeforeMen", name := "follow", desc := "(I)I" } : Jvm.MethodName) prog_1_method_45_code (3 : Nat) (Option.some Jvm.ClassFile.FieldType.int)) ∈ lw_all := lw_g (lw_at lw_m4 173 rfl) rfl
theorem q985 : (Jvm.Cond.instanceMethod ({ cls := "TreesBeforeMen", name := "quiet", desc := "()I" } : Jvm.MethodName)) ∈ lw_all := lw_g (lw_at lw_m4 175 rfl) rfl
theorem q986 : (Jvm.Cond.selects "TreesBeforeMen" ({ cls := "TreesBeforeMen", name := "quiet", desc := "()I" } : Jvm.MethodName) ({ cls := "TreesBeforeMen", name := "quiet", desc := "()I" } : Jvm.MethodName)) ∈ lw_all := lw_g (lw_at lw_m4 176 rfl) rfl
theorem q987 : (Jvm.Cond.code ({ cls := "TreesBeforeMen", name := "quiet", desc := "()I" } : Jvm.MethodName) prog_1_method_46_code (3 : Nat) (Option.some Jvm.ClassFile.FieldType.int)) ∈ lw_all := lw_g (lw_at lw_m4 177 rfl) rfl
theorem q989 : (Jvm.Cond.instanceMethod ({ cls := "TreesBeforeMen", name := "words", desc := "()I" } : Jvm.MethodName)) ∈ lw_all := lw_g (lw_at lw_m4 179 rfl) rfl
theorem q990 : (Jvm.Cond.selects "TreesBeforeMen" ({ cls := "TreesBeforeMen", name := "words", desc := "()I" } : Jvm.MethodName) ({ cls := "TreesBeforeMen", name := "words", desc := "()I" } : Jvm.MethodName)) ∈ lw_all := lw_g (lw_at lw_m4 180 rfl) rfl
theorem q991 : (Jvm.Cond.code ({ cls := "TreesBeforeMen", name := "words", desc := "()I" } : Jvm.MethodName) prog_1_method_49_code (1 : Nat) (Option.some Jvm.ClassFile.FieldType.int)) ∈ lw_all := lw_g (lw_at lw_m4 181 rfl) rfl
theorem q992 : (Jvm.Cond.methodLink "TreesBeforeMen" (384 : Nat) ({ cls := "TreesBeforeMen", name := "fewest", desc := "(Z)I" } : Jvm.MethodName)) ∈ lw_all := lw_g (lw_at lw_m4 182 rfl) rfl
theorem q993 : (Jvm.Cond.privateMethod ({ cls := "TreesBeforeMen", name := "fewest", desc := "(Z)I" } : Jvm.MethodName)) ∈ lw_tbl := lw_at lw_m4 183 rfl
theorem q994 : (Jvm.Cond.instanceMethod ({ cls := "TreesBeforeMen", name := "fewest", desc := "(Z)I" } : Jvm.MethodName)) ∈ lw_all := lw_g (lw_at lw_m4 184 rfl) rfl
theorem q995 : (Jvm.Cond.code ({ cls := "TreesBeforeMen", name := "fewest", desc := "(Z)I" } : Jvm.MethodName) prog_1_method_48_code (9 : Nat) (Option.some Jvm.ClassFile.FieldType.int)) ∈ lw_all := lw_g (lw_at lw_m4 185 rfl) rfl
theorem q996 : (Jvm.Cond.constant "TreesBeforeMen" (379 : Nat) (1000000 : Int32)) ∈ lw_all := lw_g (lw_at lw_m4 186 rfl) rfl
theorem q997 : (Jvm.Cond.methodLink "TreesBeforeMen" (380 : Nat) ({ cls := "TreesBeforeMen", name := "isLess", desc := "()Z" } : Jvm.MethodName)) ∈ lw_all := lw_g (lw_at lw_m4 187 rfl) rfl
theorem q998 : (Jvm.Cond.privateMethod ({ cls := "TreesBeforeMen", name := "isLess", desc := "()Z" } : Jvm.MethodName)) ∈ lw_tbl := lw_at lw_m4 188 rfl
theorem q999 : (Jvm.Cond.instanceMethod ({ cls := "TreesBeforeMen", name := "isLess", desc := "()Z" } : Jvm.MethodName)) ∈ lw_all := lw_g (lw_at lw_m4 189 rfl) rfl
theorem q1000 : (Jvm.Cond.code ({ cls := "TreesBeforeMen", name := "isLess", desc := "()Z" } : Jvm.MethodName) prog_1_method_47_code (2 : Nat) (Option.some Jvm.ClassFile.FieldType.boolean)) ∈ lw_all := lw_g (lw_at lw_m4 190 rfl) rfl
theorem q1002 : (Jvm.Cond.instanceMethod ({ cls := "TreesBeforeMen", name := "kindness", desc := "()I" } : Jvm.MethodName)) ∈ lw_all := lw_g (lw_at lw_m4 192 rfl) rfl
theorem q1003 : (Jvm.Cond.selects "TreesBeforeMen" ({ cls := "TreesBeforeMen", name := "kindness", desc := "()I" } : Jvm.MethodName) ({ cls := "TreesBeforeMen", name := "kindness", desc := "()I" } : Jvm.MethodName)) ∈ lw_all := lw_g (lw_at lw_m4 193 rfl) rfl
theorem q1004 : (Jvm.Cond.code ({ cls := "TreesBeforeMen", name := "kindness", desc := "()I" } : Jvm.MethodName) prog_1_method_50_code (1 : Nat) (Option.some Jvm.ClassFile.FieldType.int)) ∈ lw_all := lw_g (lw_at lw_m4 194 rfl) rfl
theorem q1006 : (Jvm.Cond.instanceMethod ({ cls := "TreesBeforeMen", name := "heads", desc := "()I" } : Jvm.MethodName)) ∈ lw_all := lw_g (lw_at lw_m4 196 rfl) rfl
theorem q1007 : (Jvm.Cond.selects "TreesBeforeMen" ({ cls := "TreesBeforeMen", name := "heads", desc := "()I" } : Jvm.MethodName) ({ cls := "TreesBeforeMen", name := "heads", desc := "()I" } : Jvm.MethodName)) ∈ lw_all := lw_g (lw_at lw_m4 197 rfl) rfl
theorem q1008 : (Jvm.Cond.code ({ cls := "TreesBeforeMen", name := "heads", desc := "()I" } : Jvm.MethodName) prog_1_method_51_code (3 : Nat) (Option.some Jvm.ClassFile.FieldType.int)) ∈ lw_all := lw_g (lw_at lw_m4 198 rfl) rfl
theorem q1010 : (Jvm.Cond.instanceMethod ({ cls := "TreesBeforeMen", name := "ahead", desc := "(I)I" } : Jvm.MethodName)) ∈ lw_all := lw_g (lw_at lw_m4 200 rfl) rfl
theorem q1011 : (Jvm.Cond.selects "TreesBeforeMen" ({ cls := "TreesBeforeMen", name := "ahead", desc := "(I)I" } : Jvm.MethodName) ({ cls := "TreesBeforeMen", name := "ahead", desc := "(I)I" } : Jvm.MethodName)) ∈ lw_all := lw_g (lw_at lw_m4 201 rfl) rfl
theorem q1012 : (Jvm.Cond.code ({ cls := "TreesBeforeMen", name := "ahead", desc := "(I)I" } : Jvm.MethodName) prog_1_method_52_code (3 : Nat) (Option.some Jvm.ClassFile.FieldType.int)) ∈ lw_all := lw_g (lw_at lw_m4 202 rfl) rfl
theorem q1014 : (Jvm.Cond.instanceMethod ({ cls := "TreesBeforeMen", name := "lasts", desc := "()I" } : Jvm.MethodName)) ∈ lw_all := lw_g (lw_at lw_m4 204 rfl) rfl
theorem q1015 : (Jvm.Cond.selects "TreesBeforeMen" ({ cls := "TreesBeforeMen", name := "lasts", desc := "()I" } : Jvm.MethodName) ({ cls := "TreesBeforeMen", name := "lasts", desc := "()I" } : Jvm.MethodName)) ∈ lw_all := lw_g (lw_at lw_m4 205 rfl) rfl
theorem q1016 : (Jvm.Cond.code ({ cls := "TreesBeforeMen", name := "lasts", desc := "()I" } : Jvm.MethodName) prog_1_method_53_code (3 : Nat) (Option.some Jvm.ClassFile.FieldType.int)) ∈ lw_all := lw_g (lw_at lw_m4 206 rfl) rfl
theorem q1018 : (Jvm.Cond.instanceMethod ({ cls := "TreesBeforeMen", name := "most", desc := "(I)I" } : Jvm.MethodName)) ∈ lw_all := lw_g (lw_at lw_m4 208 rfl) rfl
theorem q1019 : (Jvm.Cond.selects "TreesBeforeMen" ({ cls := "TreesBeforeMen", name := "most", desc := "(I)I" } : Jvm.MethodName) ({ cls := "TreesBeforeMen", name := "most", desc := "(I)I" } : Jvm.MethodName)) ∈ lw_all := lw_g (lw_at lw_m4 209 rfl) rfl
theorem q1020 : (Jvm.Cond.code ({ cls := "TreesBeforeMen", name := "most", desc := "(I)I" } : Jvm.MethodName) prog_1_method_55_code (4 : Nat) (Option.some Jvm.ClassFile.FieldType.int)) ∈ lw_all := lw_g (lw_at lw_m4 210 rfl) rfl
theorem q1021 : (Jvm.Cond.methodLink "TreesBeforeMen" (393 : Nat) ({ cls := "TreesBeforeMen", name := "isMonth", desc := "(I)Z" } : Jvm.MethodName)) ∈ lw_all := lw_g (lw_at lw_m4 211 rfl) rfl
theorem q1022 : (Jvm.Cond.static ({ cls := "TreesBeforeMen", name := "isMonth", desc := "(I)Z" } : Jvm.MethodName)) ∈ lw_all := lw_g (lw_at lw_m4 212 rfl) rfl
theorem q1023 : (Jvm.Cond.code ({ cls := "TreesBeforeMen", name := "isMonth", desc := "(I)Z" } : Jvm.MethodName) prog_1_method_54_code (1 : Nat) (Option.some Jvm.ClassFile.FieldType.boolean)) ∈ lw_all := lw_g (lw_at lw_m4 213 rfl) rfl
theorem q1024 : (Jvm.Cond.constantLong "TreesBeforeMen" (391 : Nat) (30 : Int64)) ∈ lw_all := lw_g (lw_at lw_m4 214 rfl) rfl
theorem q1026 : (Jvm.Cond.instanceMethod ({ cls := "TreesBeforeMen", name := "gives", desc := "(I)I" } : Jvm.MethodName)) ∈ lw_all := lw_g (lw_at lw_m4 216 rfl) rfl
theorem q1027 : (Jvm.Cond.selects "TreesBeforeMen" ({ cls := "TreesBeforeMen", name := "gives", desc := "(I)I" } : Jvm.MethodName) ({ cls := "TreesBeforeMen", name := "gives", desc := "(I)I" } : Jvm.MethodName)) ∈ lw_all := lw_g (lw_at lw_m4 217 rfl) rfl
theorem q1028 : (Jvm.Cond.code ({ cls := "TreesBeforeMen", name := "gives", desc := "(I)I" } : Jvm.MethodName) prog_1_method_56_code (3 : Nat) (Option.some Jvm.ClassFile.FieldType.int)) ∈ lw_all := lw_g (lw_at lw_m4 218 rfl) rfl
theorem q1030 : (Jvm.Cond.instanceMethod ({ cls := "TreesBeforeMen", name := "plan", desc := "(I)I" } : Jvm.MethodName)) ∈ lw_all := lw_g (lw_at lw_m4 220 rfl) rfl
theorem q1031 : (Jvm.Cond.selects "TreesBeforeMen" ({ cls := "TreesBeforeMen", name := "plan", desc := "(I)I" } : Jvm.MethodName) ({ cls := "TreesBeforeMen", name := "plan", desc := "(I)I" } : Jvm.MethodName)) ∈ lw_all := lw_g (lw_at lw_m4 221 rfl) rfl
theorem q1032 : (Jvm.Cond.code ({ cls := "TreesBeforeMen", name := "plan", desc := "(I)I" } : Jvm.MethodName) prog_1_method_58_code (3 : Nat) (Option.some Jvm.ClassFile.FieldType.int)) ∈ lw_all := lw_g (lw_at lw_m4 222 rfl) rfl
theorem q1033 : (Jvm.Cond.constantLong "TreesBeforeMen" (402 : Nat) (6 : Int64)) ∈ lw_all := lw_g (lw_at lw_m4 223 rfl) rfl
theorem q1034 : (Jvm.Cond.methodLink "TreesBeforeMen" (399 : Nat) ({ cls := "TreesBeforeMen", name := "goPlan", desc := "(II)V" } : Jvm.MethodName)) ∈ lw_all := lw_g (lw_at lw_m4 224 rfl) rfl
theorem q1035 : (Jvm.Cond.privateMethod ({ cls := "TreesBeforeMen", name := "goPlan", desc := "(II)V" } : Jvm.MethodName)) ∈ lw_tbl := lw_at lw_m4 225 rfl
theorem q1036 : (Jvm.Cond.instanceMethod ({ cls := "TreesBeforeMen", name := "goPlan", desc := "(II)V" } : Jvm.MethodName)) ∈ lw_all := lw_g (lw_at lw_m4 226 rfl) rfl
theorem q1037 : (Jvm.Cond.code ({ cls := "TreesBeforeMen", name := "goPlan", desc := "(II)V" } : Jvm.MethodName) prog_1_method_57_code (5 : Nat) (Option.none : Option Jvm.ClassFile.FieldType)) ∈ lw_all := lw_g (lw_at lw_m4 227 rfl) rfl
theorem q1039 : (Jvm.Cond.instanceMethod ({ cls := "TreesBeforeMen", name := "law", desc := "()I" } : Jvm.MethodName)) ∈ lw_all := lw_g (lw_at lw_m4 229 rfl) rfl
theorem q1040 : (Jvm.Cond.selects "TreesBeforeMen" ({ cls := "TreesBeforeMen", name := "law", desc := "()I" } : Jvm.MethodName) ({ cls := "TreesBeforeMen", name := "law", desc := "()I" } : Jvm.MethodName)) ∈ lw_all := lw_g (lw_at lw_m4 230 rfl) rfl
theorem q1041 : (Jvm.Cond.codeWith ({ cls := "TreesBeforeMen", name := "law", desc := "()I" } : Jvm.MethodName) prog_1_method_60_code (9 : Nat) (Option.some Jvm.ClassFile.FieldType.int) [((32 : Nat), (63 : Nat), (71 : Nat), (164 : Nat)), ((32 : Nat), (63 : Nat), (92 : Nat), (0 : Nat)), ((71 : Nat), (84 : Nat), (92 : Nat), (0 : Nat)), ((92 : Nat), (94 : Nat), (92 : Nat), (0 : Nat))]) ∈ lw_all := lw_g (lw_at lw_m4 231 rfl) rfl
theorem q1042 : (Jvm.Cond.methodLink "TreesBeforeMen" (404 : Nat) ({ cls := "TreesBeforeMen", name := "treesIn10", desc := "()I" } : Jvm.MethodName)) ∈ lw_all := lw_g (lw_at lw_m4 232 rfl) rfl
theorem q1043 : (Jvm.Cond.privateMethod ({ cls := "TreesBeforeMen", name := "treesIn10", desc := "()I" } : Jvm.MethodName)) ∈ lw_tbl := lw_at lw_m4 233 rfl
theorem q1044 : (Jvm.Cond.instanceMethod ({ cls := "TreesBeforeMen", name := "treesIn10", desc := "()I" } : Jvm.MethodName)) ∈ lw_all := lw_g (lw_at lw_m4 234 rfl) rfl
theorem q1045 : (Jvm.Cond.code ({ cls := "TreesBeforeMen", name := "treesIn10", desc := "()I" } : Jvm.MethodName) prog_1_method_59_code (1 : Nat) (Option.some Jvm.ClassFile.FieldType.int)) ∈ lw_all := lw_g (lw_at lw_m4 235 rfl) rfl
theorem q1047 : (Jvm.Cond.instanceMethod ({ cls := "TreesBeforeMen", name := "sail", desc := "(II)I" } : Jvm.MethodName)) ∈ lw_all := lw_g (lw_at lw_m4 237 rfl) rfl
theorem q1048 : (Jvm.Cond.selects "TreesBeforeMen" ({ cls := "TreesBeforeMen", name := "sail", desc := "(II)I" } : Jvm.MethodName) ({ cls := "TreesBeforeMen", name := "sail", desc := "(II)I" } : Jvm.MethodName)) ∈ lw_all := lw_g (lw_at lw_m4 238 rfl) rfl
theorem q1049 : (Jvm.Cond.code ({ cls := "TreesBeforeMen", name := "sail", desc := "(II)I" } : Jvm.MethodName) prog_1_method_63_code (5 : Nat) (Option.some Jvm.ClassFile.FieldType.int)) ∈ lw_all := lw_g (lw_at lw_m4 239 rfl) rfl
theorem q1050 : (Jvm.Cond.constantLong "TreesBeforeMen" (413 : Nat) (20 : Int64)) ∈ lw_all := lw_g (lw_at lw_m5 0 rfl) rfl
theorem q1051 : (Jvm.Cond.constantLong "TreesBeforeMen" (415 : Nat) (999 : Int64)) ∈ lw_all := lw_g (lw_at lw_m5 1 rfl) rfl
theorem q1052 : (Jvm.Cond.methodLink "TreesBeforeMen" (417 : Nat) ({ cls := "TreesBeforeMen", name := "bestLandings", desc := "(II)I" } : Jvm.MethodName)) ∈ lw_all := lw_g (lw_at lw_m5 2 rfl) rfl
theorem q1053 : (Jvm.Cond.privateMethod ({ cls := "TreesBeforeMen", name := "bestLandings", desc := "(II)I" } : Jvm.MethodName)) ∈ lw_tbl := lw_at lw_m5 3 rfl
theorem q1054 : (Jvm.Cond.instanceMethod ({ cls := "TreesBeforeMen", name := "bestLandings", desc := "(II)I" } : Jvm.MethodName)) ∈ lw_all := lw_g (lw_at lw_m5 4 rfl) rfl
theorem q1055 : (Jvm.Cond.code ({ cls := "TreesBeforeMen", name := "bestLandings", desc := "(II)I" } : Jvm.MethodName) prog_1_method_62_code (7 : Nat) (Option.some Jvm.ClassFile.FieldType.int)) ∈ lw_all := lw_g (lw_at lw_m5 5 rfl) rfl
theorem q1056 : (Jvm.Cond.methodLink "TreesBeforeMen" (410 : Nat) ({ cls := "TreesBeforeMen", name := "aliveBy", desc := "(III)I" } : Jvm.MethodName)) ∈ lw_all := lw_g (lw_at lw_m5 6 rfl) rfl
theorem q1057 : (Jvm.Cond.privateMethod ({ cls := "TreesBeforeMen", name := "aliveBy", desc := "(III)I" } : Jvm.MethodName)) ∈ lw_tbl := lw_at lw_m5 7 rfl
theorem q1058 : (Jvm.Cond.instanceMethod ({ cls := "TreesBeforeMen", name := "aliveBy", desc := "(III)I" } : Jvm.MethodName)) ∈ lw_all := lw_g (lw_at lw_m5 8 rfl) rfl
theorem q1059 : (Jvm.Cond.code ({ cls := "TreesBeforeMen", name := "aliveBy", desc := "(III)I" } : Jvm.MethodName) prog_1_method_61_code (9 : Nat) (Option.some Jvm.ClassFile.FieldType.int)) ∈ lw_all := lw_g (lw_at lw_m5 9 rfl) rfl
theorem q1061 : (Jvm.Cond.instanceMethod ({ cls := "TreesBeforeMen", name := "bread", desc := "(I)I" } : Jvm.MethodName)) ∈ lw_all := lw_g (lw_at lw_m5 11 rfl) rfl
theorem q1062 : (Jvm.Cond.selects "TreesBeforeMen" ({ cls := "TreesBeforeMen", name := "bread", desc := "(I)I" } : Jvm.MethodName) ({ cls := "TreesBeforeMen", name := "bread", desc := "(I)I" } : Jvm.MethodName)) ∈ lw_all := lw_g (lw_at lw_m5 12 rfl) rfl
theorem q1063 : (Jvm.Cond.code ({ cls := "TreesBeforeMen", name := "bread", desc := "(I)I" } : Jvm.MethodName) prog_1_method_64_code (3 : Nat) (Option.some Jvm.ClassFile.FieldType.int)) ∈ lw_all := lw_g (lw_at lw_m5 13 rfl) rfl
theorem q1065 : (Jvm.Cond.instanceMethod ({ cls := "TreesBeforeMen", name := "shares", desc := "(III)I" } : Jvm.MethodName)) ∈ lw_all := lw_g (lw_at lw_m5 15 rfl) rfl
theorem q1066 : (Jvm.Cond.selects "TreesBeforeMen" ({ cls := "TreesBeforeMen", name := "shares", desc := "(III)I" } : Jvm.MethodName) ({ cls := "TreesBeforeMen", name := "shares", desc := "(III)I" } : Jvm.MethodName)) ∈ lw_all := lw_g (lw_at lw_m5 16 rfl) rfl
theorem q1067 : (Jvm.Cond.code ({ cls := "TreesBeforeMen", name := "shares", desc := "(III)I" } : Jvm.MethodName) prog_1_method_65_code (4 : Nat) (Option.some Jvm.ClassFile.FieldType.int)) ∈ lw_all := lw_g (lw_at lw_m5 17 rfl) rfl
theorem q1069 : (Jvm.Cond.instanceMethod ({ cls := "TreesBeforeMen", name := "searched", desc := "(I)I" } : Jvm.MethodName)) ∈ lw_all := lw_g (lw_at lw_m5 19 rfl) rfl
theorem q1070 : (Jvm.Cond.selects "TreesBeforeMen" ({ cls := "TreesBeforeMen", name := "searched", desc := "(I)I" } : Jvm.MethodName) ({ cls := "TreesBeforeMen", name := "searched", desc := "(I)I" } : Jvm.MethodName)) ∈ lw_all := lw_g (lw_at lw_m5 20 rfl) rfl
theorem q1071 : (Jvm.Cond.code ({ cls := "TreesBeforeMen", name := "searched", desc := "(I)I" } : Jvm.MethodName) prog_1_method_66_code (2 : Nat) (Option.some Jvm.ClassFile.FieldType.int)) ∈ lw_all := lw_g (lw_at lw_m5 21 rfl) rfl
theorem q1073 : (Jvm.Cond.instanceMethod ({ cls := "TreesBeforeMen", name := "forget", desc := "()I" } : Jvm.MethodName)) ∈ lw_all := lw_g (lw_at lw_m5 23 rfl) rfl
theorem q1074 : (Jvm.Cond.selects "TreesBeforeMen" ({ cls := "TreesBeforeMen", name := "forget", desc := "()I" } : Jvm.MethodName) ({ cls := "TreesBeforeMen", name := "forget", desc := "()I" } : Jvm.MethodName)) ∈ lw_all := lw_g (lw_at lw_m5 24 rfl) rfl
theorem q1075 : (Jvm.Cond.code ({ cls := "TreesBeforeMen", name := "forget", desc := "()I" } : Jvm.MethodName) prog_1_method_67_code (2 : Nat) (Option.some Jvm.ClassFile.FieldType.int)) ∈ lw_all := lw_g (lw_at lw_m5 25 rfl) rfl
theorem q1076 : (Jvm.Cond.methodLink "TreesBeforeMen" (423 : Nat) ({ cls := "java/util/Arrays", name := "fill", desc := "([II)V" } : Jvm.MethodName)) ∈ lw_all := lw_g (lw_at lw_m5 26 rfl) rfl
theorem q1080 : (Jvm.Cond.instanceMethod ({ cls := "TreesBeforeMen", name := "belief", desc := "(II)I" } : Jvm.MethodName)) ∈ lw_all := lw_g (lw_at lw_m5 30 rfl) rfl
theorem q1081 : (Jvm.Cond.selects "TreesBeforeMen" ({ cls := "TreesBeforeMen", name := "belief", desc := "(II)I" } : Jvm.MethodName) ({ cls := "TreesBeforeMen", name := "belief", desc := "(II)I" } : Jvm.MethodName)) ∈ lw_all := lw_g (lw_at lw_m5 31 rfl) rfl
theorem q1082 : (Jvm.Cond.code ({ cls := "TreesBeforeMen", name := "belief", desc := "(II)I" } : Jvm.MethodName) prog_1_method_73_code (3 : Nat) (Option.some Jvm.ClassFile.FieldType.int)) ∈ lw_all := lw_g (lw_at lw_m5 32 rfl) rfl
theorem q1083 : (Jvm.Cond.constantLong "TreesBeforeMen" (432 : Nat) (10 : Int64)) ∈ lw_all := lw_g (lw_at lw_m5 33 rfl) rfl
theorem q1084 : (Jvm.Cond.methodLink "TreesBeforeMen" (442 : Nat) ({ cls := "TreesBeforeMen", name := "likelyAll", desc := "(I)J" } : Jvm.MethodName)) ∈ lw_all := lw_g (lw_at lw_m5 34 rfl) rfl
theorem q1085 : (Jvm.Cond.privateMethod ({ cls := "TreesBeforeMen", name := "likelyAll", desc := "(I)J" } : Jvm.MethodName)) ∈ lw_tbl := lw_at lw_m5 35 rfl
theorem q1086 : (Jvm.Cond.instanceMethod ({ cls := "TreesBeforeMen", name := "likelyAll", desc := "(I)J" } : Jvm.MethodName)) ∈ lw_all := lw_g (lw_at lw_m5 36 rfl) rfl
theorem q1087 : (Jvm.Cond.code ({ cls := "TreesBeforeMen", name := "likelyAll", desc := "(I)J" } : Jvm.MethodName) prog_1_method_72_code (5 : Nat) (Option.some Jvm.ClassFile.FieldType.long)) ∈ lw_all := lw_g (lw_at lw_m5 37 rfl) rfl
theorem q1088 : (Jvm.Cond.methodLink "TreesBeforeMen" (438 : Nat) ({ cls := "TreesBeforeMen", name := "likelyAt", desc := "(II)J" } : Jvm.MethodName)) ∈ lw_all := lw_g (lw_at lw_m5 38 rfl) rfl
theorem q1089 : (Jvm.Cond.privateMethod ({ cls := "TreesBeforeMen", name := "likelyAt", desc := "(II)J" } : Jvm.MethodName)) ∈ lw_tbl := lw_at lw_m5 39 rfl
theorem q1090 : (Jvm.Cond.instanceMethod ({ cls := "TreesBeforeMen", name := "likelyAt", desc := "(II)J" } : Jvm.MethodName)) ∈ lw_all := lw_g (lw_at lw_m5 40 rfl) rfl
theorem q1091 : (Jvm.Cond.code ({ cls := "TreesBeforeMen", name := "likelyAt", desc := "(II)J" } : Jvm.MethodName) prog_1_method_71_code (3 : Nat) (Option.some Jvm.ClassFile.FieldType.long)) ∈ lw_all := lw_g (lw_at lw_m5 41 rfl) rfl
theorem q1092 : (Jvm.Cond.methodLink "TreesBeforeMen" (434 : Nat) ({ cls := "TreesBeforeMen", name := "power", desc := "(JI)J" } : Jvm.MethodName)) ∈ lw_all := lw_g (lw_at lw_m5 42 rfl) rfl
theorem q1093 : (Jvm.Cond.static ({ cls := "TreesBeforeMen", name := "power", desc := "(JI)J" } : Jvm.MethodName)) ∈ lw_all := lw_g (lw_at lw_m5 43 rfl) rfl
theorem q1094 : (Jvm.Cond.code ({ cls := "TreesBeforeMen", name := "power", desc := "(JI)J" } : Jvm.MethodName) prog_1_method_70_code (6 : Nat) (Option.some Jvm.ClassFile.FieldType.long)) ∈ lw_all := lw_g (lw_at lw_m5 44 rfl) rfl
theorem q1095 : (Jvm.Cond.methodLink "TreesBeforeMen" (446 : Nat) ({ cls := "TreesBeforeMen", name := "tellPart", desc := "(JJ)V" } : Jvm.MethodName)) ∈ lw_all := lw_g (lw_at lw_m5 45 rfl) rfl
theorem q1096 : (Jvm.Cond.privateMethod ({ cls := "TreesBeforeMen", name := "tellPart", desc := "(JJ)V" } : Jvm.MethodName)) ∈ lw_tbl := lw_at lw_m5 46 rfl
theorem q1097 : (Jvm.Cond.instanceMethod ({ cls := "TreesBeforeMen", name := "tellPart", desc := "(JJ)V" } : Jvm.MethodName)) ∈ lw_all := lw_g (lw_at lw_m5 47 rfl) rfl
theorem q1098 : (Jvm.Cond.code ({ cls := "TreesBeforeMen", name := "tellPart", desc := "(JJ)V" } : Jvm.MethodName) prog_1_method_69_code (7 : Nat) (Option.none : Option Jvm.ClassFile.FieldType)) ∈ lw_all := lw_g (lw_at lw_m5 48 rfl) rfl
theorem q1099 : (Jvm.Cond.methodLink "TreesBeforeMen" (428 : Nat) ({ cls := "TreesBeforeMen", name := "common", desc := "(JJ)J" } : Jvm.MethodName)) ∈ lw_all := lw_g (lw_at lw_m5 49 rfl) rfl
theorem q1100 : (Jvm.Cond.static ({ cls := "TreesBeforeMen", name := "common", desc := "(JJ)J" } : Jvm.MethodName)) ∈ lw_all := lw_g (lw_at lw_m5 50 rfl) rfl
theorem q1101 : (Jvm.Cond.code ({ cls := "TreesBeforeMen", name := "common", desc := "(JJ)J" } : Jvm.MethodName) prog_1_method_68_code (4 : Nat) (Option.some Jvm.ClassFile.FieldType.long)) ∈ lw_all := lw_g (lw_at lw_m5 51 rfl) rfl
theorem q1103 : (Jvm.Cond.instanceMethod ({ cls := "TreesBeforeMen", name := "hunt", desc := "(I)I" } : Jvm.MethodName)) ∈ lw_all := lw_g (lw_at lw_m5 53 rfl) rfl
theorem q1104 : (Jvm.Cond.selects "TreesBeforeMen" ({ cls := "TreesBeforeMen", name := "hunt", desc := "(I)I" } : Jvm.MethodName) ({ cls := "TreesBeforeMen", name := "hunt", desc := "(I)I" } : Jvm.MethodName)) ∈ lw_all := lw_g (lw_at lw_m5 54 rfl) rfl
theorem q1105 : (Jvm.Cond.code ({ cls := "TreesBeforeMen", name := "hunt", desc := "(I)I" } : Jvm.MethodName) prog_1_method_74_code (4 : Nat) (Option.some Jvm.ClassFile.FieldType.int)) ∈ lw_all := lw_g (lw_at lw_m5 55 rfl) rfl
theorem q1107 : (Jvm.Cond.instanceMethod ({ cls := "TreesBeforeMen", name := "heard", desc := "(II)I" } : Jvm.MethodName)) ∈ lw_all := lw_g (lw_at lw_m5 57 rfl) rfl
theorem q1108 : (Jvm.Cond.selects "TreesBeforeMen" ({ cls := "TreesBeforeMen", name := "heard", desc := "(II)I" } : Jvm.MethodName) ({ cls := "TreesBeforeMen", name := "heard", desc := "(II)I" } : Jvm.MethodName)) ∈ lw_all := lw_g (lw_at lw_m5 58 rfl) rfl
theorem q1109 : (Jvm.Cond.code ({ cls := "TreesBeforeMen", name := "heard", desc := "(II)I" } : Jvm.MethodName) prog_1_method_75_code (3 : Nat) (Option.some Jvm.ClassFile.FieldType.int)) ∈ lw_all := lw_g (lw_at lw_m5 59 rfl) rfl
theorem q1110 : (Jvm.Cond.constantLong "TreesBeforeMen" (450 : Nat) (4 : Int64)) ∈ lw_all := lw_g (lw_at lw_m5 60 rfl) rfl
theorem q1112 : (Jvm.Cond.instanceMethod ({ cls := "TreesBeforeMen", name := "pardon", desc := "()I" } : Jvm.MethodName)) ∈ lw_all := lw_g (lw_at lw_m5 62 rfl) rfl
theorem q1113 : (Jvm.Cond.selects "TreesBeforeMen" ({ cls := "TreesBeforeMen", name := "pardon", desc := "()I" } : Jvm.MethodName) ({ cls := "TreesBeforeMen", name := "pardon", desc := "()I" } : Jvm.MethodName)) ∈ lw_all := lw_g (lw_at lw_m5 63 rfl) rfl
theorem q1114 : (Jvm.Cond.code ({ cls := "TreesBeforeMen", name := "pardon", desc := "()I" } : Jvm.MethodName) prog_1_method_76_code (2 : Nat) (Option.some Jvm.ClassFile.FieldType.int)) ∈ lw_all := lw_g (lw_at lw_m5 64 rfl) rfl
theorem q1116 : (Jvm.Cond.instanceMethod ({ cls := "TreesBeforeMen", name := "fits", desc := "()I" } : Jvm.MethodName)) ∈ lw_all := lw_g (lw_at lw_m5 66 rfl) rfl
theorem q1117 : (Jvm.Cond.selects "TreesBeforeMen" ({ cls := "TreesBeforeMen", name := "fits", desc := "()I" } : Jvm.MethodName) ({ cls := "TreesBeforeMen", name := "fits", desc := "()I" } : Jvm.MethodName)) ∈ lw_all := lw_g (lw_at lw_m5 67 rfl) rfl
theorem q1118 : (Jvm.Cond.code ({ cls := "TreesBeforeMen", name := "fits", desc := "()I" } : Jvm.MethodName) prog_1_method_79_code (1 : Nat) (Option.some Jvm.ClassFile.FieldType.int)) ∈ lw_all := lw_g (lw_at lw_m5 68 rfl) rfl
theorem q1119 : (Jvm.Cond.methodLink "TreesBeforeMen" (459 : Nat) ({ cls := "TreesBeforeMen", name := "fitting", desc := "()I" } : Jvm.MethodName)) ∈ lw_all := lw_g (lw_at lw_m5 69 rfl) rfl
theorem q1120 : (Jvm.Cond.privateMethod ({ cls := "TreesBeforeMen", name := "fitting", desc := "()I" } : Jvm.MethodName)) ∈ lw_tbl := lw_at lw_m5 70 rfl
theorem q1121 : (Jvm.Cond.instanceMethod ({ cls := "TreesBeforeMen", name := "fitting", desc := "()I" } : Jvm.MethodName)) ∈ lw_all := lw_g (lw_at lw_m5 71 rfl) rfl
theorem q1122 : (Jvm.Cond.code ({ cls := "TreesBeforeMen", name := "fitting", desc := "()I" } : Jvm.MethodName) prog_1_method_78_code (5 : Nat) (Option.some Jvm.ClassFile.FieldType.int)) ∈ lw_all := lw_g (lw_at lw_m5 72 rfl) rfl
theorem q1123 : (Jvm.Cond.methodLink "TreesBeforeMen" (455 : Nat) ({ cls := "TreesBeforeMen", name := "fitsTo", desc := "(III)Z" } : Jvm.MethodName)) ∈ lw_all := lw_g (lw_at lw_m5 73 rfl) rfl
theorem q1124 : (Jvm.Cond.privateMethod ({ cls := "TreesBeforeMen", name := "fitsTo", desc := "(III)Z" } : Jvm.MethodName)) ∈ lw_tbl := lw_at lw_m5 74 rfl
theorem q1125 : (Jvm.Cond.instanceMethod ({ cls := "TreesBeforeMen", name := "fitsTo", desc := "(III)Z" } : Jvm.MethodName)) ∈ lw_all := lw_g (lw_at lw_m5 75 rfl) rfl
theorem q1126 : (Jvm.Cond.code ({ cls := "TreesBeforeMen", name := "fitsTo", desc := "(III)Z" } : Jvm.MethodName) prog_1_method_77_code (4 : Nat) (Option.some Jvm.ClassFile.FieldType.boolean)) ∈ lw_all := lw_g (lw_at lw_m5 76 rfl) rfl
theorem q1128 : (Jvm.Cond.instanceMethod ({ cls := "TreesBeforeMen", name := "ask", desc := "()I" } : Jvm.MethodName)) ∈ lw_all := lw_g (lw_at lw_m5 78 rfl) rfl
theorem q1129 : (Jvm.Cond.selects "TreesBeforeMen" ({ cls := "TreesBeforeMen", name := "ask", desc := "()I" } : Jvm.MethodName) ({ cls := "TreesBeforeMen", name := "ask", desc := "()I" } : Jvm.MethodName)) ∈ lw_all := lw_g (lw_at lw_m5 79 rfl) rfl
theorem q1130 : (Jvm.Cond.code ({ cls := "TreesBeforeMen", name := "ask", desc := "()I" } : Jvm.MethodName) prog_1_method_80_code (7 : Nat) (Option.some Jvm.ClassFile.FieldType.int)) ∈ lw_all := lw_g (lw_at lw_m5 80 rfl) rfl
theorem q1132 : (Jvm.Cond.instanceMethod ({ cls := "TreesBeforeMen", name := "rests", desc := "(I)I" } : Jvm.MethodName)) ∈ lw_all := lw_g (lw_at lw_m5 82 rfl) rfl
theorem q1133 : (Jvm.Cond.selects "TreesBeforeMen" ({ cls := "TreesBeforeMen", name := "rests", desc := "(I)I" } : Jvm.MethodName) ({ cls := "TreesBeforeMen", name := "rests", desc := "(I)I" } : Jvm.MethodName)) ∈ lw_all := lw_g (lw_at lw_m5 83 rfl) rfl
theorem q1134 : (Jvm.Cond.code ({ cls := "TreesBeforeMen", name := "rests", desc := "(I)I" } : Jvm.MethodName) prog_1_method_83_code (5 : Nat) (Option.some Jvm.ClassFile.FieldType.int)) ∈ lw_all := lw_g (lw_at lw_m5 84 rfl) rfl
theorem q1135 : (Jvm.Cond.constantLong "TreesBeforeMen" (465 : Nat) (18 : Int64)) ∈ lw_all := lw_g (lw_at lw_m5 85 rfl) rfl
theorem q1136 : (Jvm.Cond.methodLink "TreesBeforeMen" (467 : Nat) ({ cls := "TreesBeforeMen", name := "isBest", desc := "(III)Z" } : Jvm.MethodName)) ∈ lw_all := lw_g (lw_at lw_m5 86 rfl) rfl
theorem q1137 : (Jvm.Cond.static ({ cls := "TreesBeforeMen", name := "isBest", desc := "(III)Z" } : Jvm.MethodName)) ∈ lw_all := lw_g (lw_at lw_m5 87 rfl) rfl
theorem q1138 : (Jvm.Cond.code ({ cls := "TreesBeforeMen", name := "isBest", desc := "(III)Z" } : Jvm.MethodName) prog_1_method_82_code (4 : Nat) (Option.some Jvm.ClassFile.FieldType.boolean)) ∈ lw_all := lw_g (lw_at lw_m5 88 rfl) rfl
theorem q1139 : (Jvm.Cond.methodLink "TreesBeforeMen" (462 : Nat) ({ cls := "TreesBeforeMen", name := "gets", desc := "(III)I" } : Jvm.MethodName)) ∈ lw_all := lw_g (lw_at lw_m5 89 rfl) rfl
theorem q1140 : (Jvm.Cond.static ({ cls := "TreesBeforeMen", name := "gets", desc := "(III)I" } : Jvm.MethodName)) ∈ lw_all := lw_g (lw_at lw_m5 90 rfl) rfl
theorem q1141 : (Jvm.Cond.code ({ cls := "TreesBeforeMen", name := "gets", desc := "(III)I" } : Jvm.MethodName) prog_1_method_81_code (3 : Nat) (Option.some Jvm.ClassFile.FieldType.int)) ∈ lw_all := lw_g (lw_at lw_m5 91 rfl) rfl
theorem q1143 : (Jvm.Cond.instanceMethod ({ cls := "TreesBeforeMen", name := "voyages", desc := "(II)I" } : Jvm.MethodName)) ∈ lw_all := lw_g (lw_at lw_m5 93 rfl) rfl
theorem q1144 : (Jvm.Cond.selects "TreesBeforeMen" ({ cls := "TreesBeforeMen", name := "voyages", desc := "(II)I" } : Jvm.MethodName) ({ cls := "TreesBeforeMen", name := "voyages", desc := "(II)I" } : Jvm.MethodName)) ∈ lw_all := lw_g (lw_at lw_m5 94 rfl) rfl
theorem q1145 : (Jvm.Cond.code ({ cls := "TreesBeforeMen", name := "voyages", desc := "(II)I" } : Jvm.MethodName) prog_1_method_85_code (6 : Nat) (Option.some Jvm.ClassFile.FieldType.int)) ∈ lw_all := lw_g (lw_at lw_m5 95 rfl) rfl
theorem q1146 : (Jvm.Cond.methodLink "TreesBeforeMen" (474 : Nat) ({ cls := "TreesBeforeMen", name := "draw", desc := "(I)I" } : Jvm.MethodName)) ∈ lw_all := lw_g (lw_at lw_m5 96 rfl) rfl
theorem q1147 : (Jvm.Cond.privateMethod ({ cls := "TreesBeforeMen", name := "draw", desc := "(I)I" } : Jvm.MethodName)) ∈ lw_tbl := lw_at lw_m5 97 rfl
theorem q1148 : (Jvm.Cond.instanceMethod ({ cls := "TreesBeforeMen", name := "draw", desc := "(I)I" } : Jvm.MethodName)) ∈ lw_all := lw_g (lw_at lw_m5 98 rfl) rfl
theorem q1149 : (Jvm.Cond.code ({ cls := "TreesBeforeMen", name := "draw", desc := "(I)I" } : Jvm.MethodName) prog_1_method_84_code (2 : Nat) (Option.some Jvm.ClassFile.FieldType.int)) ∈ lw_all := lw_g (lw_at lw_m5 99 rfl) rfl
theorem q1150 : (Jvm.Cond.constant "TreesBeforeMen" (473 : Nat) (1103515245 : Int32)) ∈ lw_all := lw_g (lw_at lw_m5 100 rfl) rfl
theorem q1152 : (Jvm.Cond.instanceMethod ({ cls := "TreesBeforeMen", name := "keep", desc := "(I)Z" } : Jvm.MethodName)) ∈ lw_all := lw_g (lw_at lw_m5 102 rfl) rfl
theorem q1153 : (Jvm.Cond.selects "TreesBeforeMen" ({ cls := "TreesBeforeMen", name := "keep", desc := "(I)Z" } : Jvm.MethodName) ({ cls := "TreesBeforeMen", name := "keep", desc := "(I)Z" } : Jvm.MethodName)) ∈ lw_all := lw_g (lw_at lw_m5 103 rfl) rfl
theorem q1154 : (Jvm.Cond.code ({ cls := "TreesBeforeMen", name := "keep", desc := "(I)Z" } : Jvm.MethodName) prog_1_method_86_code (2 : Nat) (Option.some Jvm.ClassFile.FieldType.boolean)) ∈ lw_all := lw_g (lw_at lw_m5 104 rfl) rfl
theorem q1155 : (Jvm.Cond.constantLong "TreesBeforeMen" (477 : Nat) (2 : Int64)) ∈ lw_all := lw_g (lw_at lw_m5 105 rfl) rfl
theorem q1157 : (Jvm.Cond.methodLink "TreesBeforeMen" (479 : Nat) ({ cls := "TreesBeforeMen$Page", name := "<init>", desc := "(LTreesBeforeMen;)V" } : Jvm.MethodName)) ∈ lw_all := lw_g (lw_at lw_m5 107 rfl) rfl
theorem q1165 : (Jvm.Cond.fieldLinkNest "TreesBeforeMen" (483 : Nat) "TreesBeforeMen$Page" "was" "LTreesBeforeMen$Voyage;" "TreesBeforeMen") ∈ lw_tbl := lw_at lw_m5 115 rfl
theorem q1167 : (Jvm.Cond.fieldLinkNest "TreesBeforeMen" (480 : Nat) "TreesBeforeMen$Page" "since" "I" "TreesBeforeMen") ∈ lw_tbl := lw_at lw_m5 117 rfl
theorem q1177 : (Jvm.Cond.instanceMethod ({ cls := "TreesBeforeMen", name := "again", desc := "(I)Z" } : Jvm.MethodName)) ∈ lw_all := lw_g (lw_at lw_m5 127 rfl) rfl
theorem q1178 : (Jvm.Cond.selects "TreesBeforeMen" ({ cls := "TreesBeforeMen", name := "again", desc := "(I)Z" } : Jvm.MethodName) ({ cls := "TreesBeforeMen", name := "again", desc := "(I)Z" } : Jvm.MethodName)) ∈ lw_all := lw_g (lw_at lw_m5 128 rfl) rfl
theorem q1179 : (Jvm.Cond.code ({ cls := "TreesBeforeMen", name := "again", desc := "(I)Z" } : Jvm.MethodName) prog_1_method_87_code (2 : Nat) (Option.some Jvm.ClassFile.FieldType.boolean)) ∈ lw_all := lw_g (lw_at lw_m5 129 rfl) rfl
theorem q1181 : (Jvm.Cond.instanceMethod ({ cls := "TreesBeforeMen", name := "count", desc := "(I)I" } : Jvm.MethodName)) ∈ lw_all := lw_g (lw_at lw_m5 131 rfl) rfl
theorem q1182 : (Jvm.Cond.selects "TreesBeforeMen" ({ cls := "TreesBeforeMen", name := "count", desc := "(I)I" } : Jvm.MethodName) ({ cls := "TreesBeforeMen", name := "count", desc := "(I)I" } : Jvm.MethodName)) ∈ lw_all := lw_g (lw_at lw_m5 132 rfl) rfl
theorem q1183 : (Jvm.Cond.code ({ cls := "TreesBeforeMen", name := "count", desc := "(I)I" } : Jvm.MethodName) prog_1_method_88_code (2 : Nat) (Option.some Jvm.ClassFile.FieldType.int)) ∈ lw_all := lw_g (lw_at lw_m5 133 rfl) rfl
theorem q1189 : (Jvm.Cond.instanceMethod ({ cls := "TreesBeforeMen", name := "man", desc := "(II)I" } : Jvm.MethodName)) ∈ lw_all := lw_g (lw_at lw_m5 139 rfl) rfl
theorem q1190 : (Jvm.Cond.selects "TreesBeforeMen" ({ cls := "TreesBeforeMen", name := "man", desc := "(II)I" } : Jvm.MethodName) ({ cls := "TreesBeforeMen", name := "man", desc := "(II)I" } : Jvm.MethodName)) ∈ lw_all := lw_g (lw_at lw_m5 140 rfl) rfl
theorem q1191 : (Jvm.Cond.code ({ cls := "TreesBeforeMen", name := "man", desc := "(II)I" } : Jvm.MethodName) prog_1_method_18_code (3 : Nat) (Option.some Jvm.ClassFile.FieldType.int)) ∈ lw_all := lw_g (lw_at lw_m5 141 rfl) rfl
theorem q1192 : (Jvm.Cond.classLink "TreesBeforeMen" (252 : Nat) "java/util/NoSuchElementException") ∈ lw_all := lw_g (lw_at lw_m5 142 rfl) rfl
theorem q1201 : (Jvm.Cond.methodLink "TreesBeforeMen" (254 : Nat) ({ cls := "java/util/NoSuchElementException", name := "<init>", desc := "()V" } : Jvm.MethodName)) ∈ lw_all := lw_g (lw_at lw_m5 151 rfl) rfl
theorem q1214 : (Jvm.Cond.instanceMethod ({ cls := "TreesBeforeMen", name := "island", desc := "(II)I" } : Jvm.MethodName)) ∈ lw_all := lw_g (lw_at lw_m5 164 rfl) rfl
theorem q1215 : (Jvm.Cond.selects "TreesBeforeMen" ({ cls := "TreesBeforeMen", name := "island", desc := "(II)I" } : Jvm.MethodName) ({ cls := "TreesBeforeMen", name := "island", desc := "(II)I" } : Jvm.MethodName)) ∈ lw_all := lw_g (lw_at lw_m5 165 rfl) rfl
theorem q1216 : (Jvm.Cond.code ({ cls := "TreesBeforeMen", name := "island", desc := "(II)I" } : Jvm.MethodName) prog_1_method_19_code (3 : Nat) (Option.some Jvm.ClassFile.FieldType.int)) ∈ lw_all := lw_g (lw_at lw_m5 166 rfl) rfl
theorem q1221 : (Jvm.Cond.instanceMethod ({ cls := "TreesBeforeMen", name := "row", desc := "(I)J" } : Jvm.MethodName)) ∈ lw_all := lw_g (lw_at lw_m5 171 rfl) rfl
theorem q1222 : (Jvm.Cond.selects "TreesBeforeMen" ({ cls := "TreesBeforeMen", name := "row", desc := "(I)J" } : Jvm.MethodName) ({ cls := "TreesBeforeMen", name := "row", desc := "(I)J" } : Jvm.MethodName)) ∈ lw_all := lw_g (lw_at lw_m5 172 rfl) rfl
theorem q1223 : (Jvm.Cond.code ({ cls := "TreesBeforeMen", name := "row", desc := "(I)J" } : Jvm.MethodName) prog_1_method_89_code (2 : Nat) (Option.some Jvm.ClassFile.FieldType.long)) ∈ lw_all := lw_g (lw_at lw_m5 173 rfl) rfl
theorem q1880 : (Jvm.Cond.castable "TreesBeforeMen" "java/lang/Object") ∈ lw_tbl := lw_at lw_m8 110 rfl
theorem in_X1 : ∀ w ∈ wsX10, w ∈ lw_all := lw_in wsX10 [276, 278, 280, 282, 284, 286, 288, 290, 292, 294, 296, 298, 300, 302, 304, 306, 308, 310, 312, 314, 316, 318, 320, 322, 324, 326, 328, 330, 332, 334, 336, 338, 340, 342, 344, 346, 348, 350, 352, 354] (by decide +kernel) (by decide +kernel)
