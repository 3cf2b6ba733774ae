/-! TreesBeforeMenModel -/
set_option maxRecDepth 100000
def RX9 : String := "TreesBeforeMenModel"
def TX9 : u_T := fun k => match k with
  | 0 => ("TreesBeforeMenModel", "thrown", "I", false)
  | 1 => ("TreesBeforeMenModel", "told", "I", false)
  | 2 => ("TreesBeforeMenModel", "row", "[J", true)
  | 3 => ("TreesBeforeMenModel", "men", "I", false)
  | 4 => ("TreesBeforeMenModel", "islands", "I", false)
  | 5 => ("TreesBeforeMenModel", "changes", "I", false)
  | 6 => ("TreesBeforeMenModel", "skyLong", "I", false)
  | 7 => ("TreesBeforeMenModel", "sky", "[I", true)
  | 8 => ("TreesBeforeMenModel", "temper", "[I", true)
  | 9 => ("TreesBeforeMenModel", "need", "[I", true)
  | 10 => ("TreesBeforeMenModel", "kind", "[I", true)
  | 11 => ("TreesBeforeMenModel", "way", "[I", true)
  | 12 => ("TreesBeforeMenModel", "bread", "[I", true)
  | 13 => ("TreesBeforeMenModel", "lost", "[I", true)
  | 14 => ("TreesBeforeMenModel", "now", "[I", true)
  | 15 => ("TreesBeforeMenModel", "then", "[I", true)
  | 16 => ("TreesBeforeMenModel", "tape", "[I", true)
  | 17 => ("TreesBeforeMenModel", "taped", "I", false)
  | 18 => ("TreesBeforeMenModel", "at", "I", false)
  | 19 => ("TreesBeforeMenModel", "to", "I", false)
  | 20 => ("TreesBeforeMenModel", "nest", "I", false)
  | 21 => ("TreesBeforeMenModel", "read", "[I", true)
  | 22 => ("TreesBeforeMenModel", "readMany", "I", false)
  | 23 => ("TreesBeforeMenModel", "readSky", "[I", true)
  | 24 => ("TreesBeforeMenModel", "code", "[I", true)
  | 25 => ("TreesBeforeMenModel", "readCode", "[I", true)
  | 26 => ("TreesBeforeMenModel", "codeLong", "I", false)
  | 27 => ("TreesBeforeMenModel", "readLong", "I", false)
  | 28 => ("TreesBeforeMenModel", "stack", "[I", true)
  | 29 => ("TreesBeforeMenModel", "asked", "[I", true)
  | 30 => ("TreesBeforeMenModel", "undos", "I", false)
  | 31 => ("TreesBeforeMenModel", "undone", "[I", true)
  | 32 => ("TreesBeforeMenModel", "putBits", "I", false)
  | 33 => ("TreesBeforeMenModel", "actSign", "[I", true)
  | 34 => ("TreesBeforeMenModel", "actOne", "[I", true)
  | 35 => ("TreesBeforeMenModel", "actTwo", "[I", true)
  | 36 => ("TreesBeforeMenModel", "acts", "I", false)
  | 37 => ("TreesBeforeMenModel", "cost", "[I", true)
  | 38 => ("TreesBeforeMenModel", "stage", "[I", true)
  | 39 => ("TreesBeforeMenModel", "by", "[I", true)
  | 40 => ("TreesBeforeMenModel", "bestBy", "[I", true)
  | 41 => ("TreesBeforeMenModel", "bestTrees", "I", false)
  | 42 => ("TreesBeforeMenModel", "wasCode", "[I", true)
  | 43 => ("TreesBeforeMenModel", "ounces", "I", false)
  | 44 => ("TreesBeforeMenModel", "searches", "I", false)
  | 45 => ("TreesBeforeMenModel", "searchOf", "[I", true)
  | 46 => ("TreesBeforeMenModel", "heardMany", "I", false)
  | 47 => ("TreesBeforeMenModel", "heardWhat", "[I", true)
  | 48 => ("TreesBeforeMenModel", "heardOf", "[I", true)
  | 49 => ("TreesBeforeMenModel", "random", "I", false)
  | 50 => ("TreesBeforeMenModel", "isKept", "[Z", true)
  | 51 => ("TreesBeforeMenModel", "keptChanges", "[I", true)
  | _ => ("TreesBeforeMenModel", "kept", "[I", true)
def tyX9 : Nat → FieldType := fun k => match k with
  | 0 => .int
  | 1 => .int
  | 2 => .array .long
  | 3 => .int
  | 4 => .int
  | 5 => .int
  | 6 => .int
  | 7 => .array .int
  | 8 => .array .int
  | 9 => .array .int
  | 10 => .array .int
  | 11 => .array .int
  | 12 => .array .int
  | 13 => .array .int
  | 14 => .array .int
  | 15 => .array .int
  | 16 => .array .int
  | 17 => .int
  | 18 => .int
  | 19 => .int
  | 20 => .int
  | 21 => .array .int
  | 22 => .int
  | 23 => .array .int
  | 24 => .array .int
  | 25 => .array .int
  | 26 => .int
  | 27 => .int
  | 28 => .array .int
  | 29 => .array .int
  | 30 => .int
  | 31 => .array .int
  | 32 => .int
  | 33 => .array .int
  | 34 => .array .int
  | 35 => .array .int
  | 36 => .int
  | 37 => .array .int
  | 38 => .array .int
  | 39 => .array .int
  | 40 => .array .int
  | 41 => .int
  | 42 => .array .int
  | 43 => .int
  | 44 => .int
  | 45 => .array .int
  | 46 => .int
  | 47 => .array .int
  | 48 => .array .int
  | 49 => .int
  | 50 => .array .boolean
  | 51 => .array .int
  | _ => .array .int
abbrev wsX90 : List Cond := u_ws RX9 TX9 53
set_option maxRecDepth 100000 in
theorem nmX9 : ∀ a, a < 53 → ∀ b, b < 53 → a ≠ b → (TX9 a).2.1 ≠ (TX9 b).2.1 := by decide +kernel
set_option maxRecDepth 100000 in
theorem tyX9_ok : ∀ k, k < 53 → parseFieldDescriptor (TX9 k).2.2.1 = some (tyX9 k) := by decide +kernel
abbrev cX9_init : ByteArray := prog_15_method_1_code
def yX9_init : MethodName := ⟨RX9, "<init>", "()V"⟩
def dkwX9_init_15 : List UInt8 := [181, 0, 106, 42, 16, 63, 188, 10, 181, 0, 109, 177]
abbrev dktX9_init_15 : List UInt8 := dkwX9_init_15 ++ []
def dkwX9_init_14 : List UInt8 := [188, 10, 181, 0, 96, 42, 16, 12, 188, 10, 181, 0, 99, 42, 6, 188, 4, 181, 0, 102, 42, 6, 188, 10]
abbrev dktX9_init_14 : List UInt8 := dkwX9_init_14 ++ dktX9_init_15
def dkwX9_init_13 : List UInt8 := [188, 10, 181, 0, 87, 42, 16, 80, 188, 10, 181, 0, 90, 42, 16, 12, 188, 10, 181, 0, 93, 42, 16, 12]
abbrev dktX9_init_13 : List UInt8 := dkwX9_init_13 ++ dktX9_init_14
def dkwX9_init_12 : List UInt8 := [181, 0, 78, 42, 17, 0, 147, 188, 10, 181, 0, 81, 42, 16, 6, 188, 10, 181, 0, 84, 42, 16, 6]
abbrev dktX9_init_12 : List UInt8 := dkwX9_init_12 ++ dktX9_init_13
def dkwX9_init_11 : List UInt8 := [181, 0, 69, 42, 16, 60, 188, 10, 181, 0, 72, 42, 16, 60, 188, 10, 181, 0, 75, 42, 16, 8, 188, 10]
abbrev dktX9_init_11 : List UInt8 := dkwX9_init_11 ++ dktX9_init_12
def dkwX9_init_10 : List UInt8 := [181, 0, 60, 42, 8, 188, 10, 181, 0, 63, 42, 17, 1, 80, 188, 10, 181, 0, 66, 42, 16, 60, 188, 10]
abbrev dktX9_init_10 : List UInt8 := dkwX9_init_10 ++ dktX9_init_11
def dkwX9_init_9 : List UInt8 := [181, 0, 51, 42, 16, 80, 188, 10, 181, 0, 54, 42, 16, 80, 188, 10, 181, 0, 57, 42, 16, 80, 188, 10]
abbrev dktX9_init_9 : List UInt8 := dkwX9_init_9 ++ dktX9_init_10
def dkwX9_init_8 : List UInt8 := [181, 0, 42, 42, 16, 80, 188, 10, 181, 0, 45, 42, 16, 24, 188, 10, 181, 0, 48, 42, 16, 20, 188, 10]
abbrev dktX9_init_8 : List UInt8 := dkwX9_init_8 ++ dktX9_init_9
def dkwX9_init_7 : List UInt8 := [16, 18, 6, 79, 89, 16, 19, 4, 79, 89, 16, 20, 3, 79, 181, 0, 39, 42, 16, 21, 188, 10]
abbrev dktX9_init_7 : List UInt8 := dkwX9_init_7 ++ dktX9_init_8
def dkwX9_init_6 : List UInt8 := [89, 16, 14, 3, 79, 89, 16, 15, 3, 79, 89, 16, 16, 17, 0, 200, 79, 89, 16, 17, 16, 40, 79, 89]
abbrev dktX9_init_6 : List UInt8 := dkwX9_init_6 ++ dktX9_init_7
def dkwX9_init_5 : List UInt8 := [16, 9, 3, 79, 89, 16, 10, 3, 79, 89, 16, 11, 3, 79, 89, 16, 12, 3, 79, 89, 16, 13, 3, 79]
abbrev dktX9_init_5 : List UInt8 := dkwX9_init_5 ++ dktX9_init_6
def dkwX9_init_4 : List UInt8 := [89, 7, 3, 79, 89, 8, 3, 79, 89, 16, 6, 3, 79, 89, 16, 7, 3, 79, 89, 16, 8, 3, 79, 89]
abbrev dktX9_init_4 : List UInt8 := dkwX9_init_4 ++ dktX9_init_5
def dkwX9_init_3 : List UInt8 := [181, 0, 36, 42, 16, 21, 188, 10, 89, 3, 3, 79, 89, 4, 3, 79, 89, 5, 3, 79, 89, 6, 3, 79]
abbrev dktX9_init_3 : List UInt8 := dkwX9_init_3 ++ dktX9_init_4
def dkwX9_init_2 : List UInt8 := [181, 0, 27, 42, 16, 6, 188, 10, 181, 0, 30, 42, 16, 6, 188, 10, 181, 0, 33, 42, 16, 6, 188, 10]
abbrev dktX9_init_2 : List UInt8 := dkwX9_init_2 ++ dktX9_init_3
def dkwX9_init_1 : List UInt8 := [181, 0, 17, 42, 16, 8, 188, 10, 181, 0, 21, 42, 16, 8, 188, 10, 181, 0, 24, 42, 16, 8, 188, 10]
abbrev dktX9_init_1 : List UInt8 := dkwX9_init_1 ++ dktX9_init_2
def dkwX9_init_0 : List UInt8 := [42, 183, 0, 3, 42, 16, 24, 188, 11, 181, 0, 9, 42, 4, 181, 0, 13, 42, 16, 20, 188, 10]
abbrev dktX9_init_0 : List UInt8 := dkwX9_init_0 ++ dktX9_init_1
theorem dksX9_init_0 : cX9_init.data.toList.drop 0 = dktX9_init_0 := by decide +kernel
theorem dksX9_init_1 : cX9_init.data.toList.drop 22 = dktX9_init_1 := dk_seg dksX9_init_0 22 rfl rfl
theorem dksX9_init_2 : cX9_init.data.toList.drop 46 = dktX9_init_2 := dk_seg dksX9_init_1 24 rfl rfl
theorem dksX9_init_3 : cX9_init.data.toList.drop 70 = dktX9_init_3 := dk_seg dksX9_init_2 24 rfl rfl
theorem dksX9_init_4 : cX9_init.data.toList.drop 94 = dktX9_init_4 := dk_seg dksX9_init_3 24 rfl rfl
theorem dksX9_init_5 : cX9_init.data.toList.drop 118 = dktX9_init_5 := dk_seg dksX9_init_4 24 rfl rfl
theorem dksX9_init_6 : cX9_init.data.toList.drop 142 = dktX9_init_6 := dk_seg dksX9_init_5 24 rfl rfl
theorem dksX9_init_7 : cX9_init.data.toList.drop 166 = dktX9_init_7 := dk_seg dksX9_init_6 24 rfl rfl
theorem dksX9_init_8 : cX9_init.data.toList.drop 188 = dktX9_init_8 := dk_seg dksX9_init_7 22 rfl rfl
theorem dksX9_init_9 : cX9_init.data.toList.drop 212 = dktX9_init_9 := dk_seg dksX9_init_8 24 rfl rfl
theorem dksX9_init_10 : cX9_init.data.toList.drop 236 = dktX9_init_10 := dk_seg dksX9_init_9 24 rfl rfl
theorem dksX9_init_11 : cX9_init.data.toList.drop 260 = dktX9_init_11 := dk_seg dksX9_init_10 24 rfl rfl
theorem dksX9_init_12 : cX9_init.data.toList.drop 284 = dktX9_init_12 := dk_seg dksX9_init_11 24 rfl rfl
theorem dksX9_init_13 : cX9_init.data.toList.drop 307 = dktX9_init_13 := dk_seg dksX9_init_12 23 rfl rfl
theorem dksX9_init_14 : cX9_init.data.toList.drop 331 = dktX9_init_14 := dk_seg dksX9_init_13 24 rfl rfl
theorem dksX9_init_15 : cX9_init.data.toList.drop 355 = dktX9_init_15 := dk_seg dksX9_init_14 24 rfl rfl
theorem dX9_init_0 : decode cX9_init 0 = .ok (.aload_n 0, 1) := dk_42 (dk_at dksX9_init_0 0 rfl rfl)
theorem dX9_init_1 : decode cX9_init 1 = .ok (.invokespecial 3, 3) := dk_183 0 3 (dk_at dksX9_init_0 1 rfl rfl)
theorem dX9_init_4 : decode cX9_init 4 = .ok (.aload_n 0, 1) := dk_42 (dk_at dksX9_init_0 4 rfl rfl)
theorem dX9_init_5 : decode cX9_init 5 = .ok (.bipush 24, 2) := dk_16 24 (dk_at dksX9_init_0 5 rfl rfl)
theorem dX9_init_7 : decode cX9_init 7 = .ok (.newarray .long, 2) := dk_188_11 (dk_at dksX9_init_0 7 rfl rfl)
theorem dX9_init_9 : decode cX9_init 9 = .ok (.putfield 9, 3) := dk_181 0 9 (dk_at dksX9_init_0 9 rfl rfl)
theorem dX9_init_12 : decode cX9_init 12 = .ok (.aload_n 0, 1) := dk_42 (dk_at dksX9_init_0 12 rfl rfl)
theorem dX9_init_13 : decode cX9_init 13 = .ok (.iconst 1, 1) := dk_4 (dk_at dksX9_init_0 13 rfl rfl)
theorem dX9_init_14 : decode cX9_init 14 = .ok (.putfield 13, 3) := dk_181 0 13 (dk_at dksX9_init_0 14 rfl rfl)
theorem dX9_init_17 : decode cX9_init 17 = .ok (.aload_n 0, 1) := dk_42 (dk_at dksX9_init_0 17 rfl rfl)
theorem dX9_init_18 : decode cX9_init 18 = .ok (.bipush 20, 2) := dk_16 20 (dk_at dksX9_init_0 18 rfl rfl)
theorem dX9_init_20 : decode cX9_init 20 = .ok (.newarray .int, 2) := dk_188_10 (dk_at dksX9_init_0 20 rfl rfl)
theorem dX9_init_22 : decode cX9_init 22 = .ok (.putfield 17, 3) := dk_181 0 17 (dk_at dksX9_init_1 0 rfl rfl)
theorem dX9_init_25 : decode cX9_init 25 = .ok (.aload_n 0, 1) := dk_42 (dk_at dksX9_init_1 3 rfl rfl)
theorem dX9_init_26 : decode cX9_init 26 = .ok (.bipush 8, 2) := dk_16 8 (dk_at dksX9_init_1 4 rfl rfl)
theorem dX9_init_28 : decode cX9_init 28 = .ok (.newarray .int, 2) := dk_188_10 (dk_at dksX9_init_1 6 rfl rfl)
theorem dX9_init_30 : decode cX9_init 30 = .ok (.putfield 21, 3) := dk_181 0 21 (dk_at dksX9_init_1 8 rfl rfl)
theorem dX9_init_33 : decode cX9_init 33 = .ok (.aload_n 0, 1) := dk_42 (dk_at dksX9_init_1 11 rfl rfl)
theorem dX9_init_34 : decode cX9_init 34 = .ok (.bipush 8, 2) := dk_16 8 (dk_at dksX9_init_1 12 rfl rfl)
theorem dX9_init_36 : decode cX9_init 36 = .ok (.newarray .int, 2) := dk_188_10 (dk_at dksX9_init_1 14 rfl rfl)
theorem dX9_init_38 : decode cX9_init 38 = .ok (.putfield 24, 3) := dk_181 0 24 (dk_at dksX9_init_1 16 rfl rfl)
theorem dX9_init_41 : decode cX9_init 41 = .ok (.aload_n 0, 1) := dk_42 (dk_at dksX9_init_1 19 rfl rfl)
theorem dX9_init_42 : decode cX9_init 42 = .ok (.bipush 8, 2) := dk_16 8 (dk_at dksX9_init_1 20 rfl rfl)
theorem dX9_init_44 : decode cX9_init 44 = .ok (.newarray .int, 2) := dk_188_10 (dk_at dksX9_init_1 22 rfl rfl)
theorem dX9_init_46 : decode cX9_init 46 = .ok (.putfield 27, 3) := dk_181 0 27 (dk_at dksX9_init_2 0 rfl rfl)
theorem dX9_init_49 : decode cX9_init 49 = .ok (.aload_n 0, 1) := dk_42 (dk_at dksX9_init_2 3 rfl rfl)
theorem dX9_init_50 : decode cX9_init 50 = .ok (.bipush 6, 2) := dk_16 6 (dk_at dksX9_init_2 4 rfl rfl)
theorem dX9_init_52 : decode cX9_init 52 = .ok (.newarray .int, 2) := dk_188_10 (dk_at dksX9_init_2 6 rfl rfl)
theorem dX9_init_54 : decode cX9_init 54 = .ok (.putfield 30, 3) := dk_181 0 30 (dk_at dksX9_init_2 8 rfl rfl)
theorem dX9_init_57 : decode cX9_init 57 = .ok (.aload_n 0, 1) := dk_42 (dk_at dksX9_init_2 11 rfl rfl)
theorem dX9_init_58 : decode cX9_init 58 = .ok (.bipush 6, 2) := dk_16 6 (dk_at dksX9_init_2 12 rfl rfl)
theorem dX9_init_60 : decode cX9_init 60 = .ok (.newarray .int, 2) := dk_188_10 (dk_at dksX9_init_2 14 rfl rfl)
theorem dX9_init_62 : decode cX9_init 62 = .ok (.putfield 33, 3) := dk_181 0 33 (dk_at dksX9_init_2 16 rfl rfl)
theorem dX9_init_65 : decode cX9_init 65 = .ok (.aload_n 0, 1) := dk_42 (dk_at dksX9_init_2 19 rfl rfl)
theorem dX9_init_66 : decode cX9_init 66 = .ok (.bipush 6, 2) := dk_16 6 (dk_at dksX9_init_2 20 rfl rfl)
theorem dX9_init_68 : decode cX9_init 68 = .ok (.newarray .int, 2) := dk_188_10 (dk_at dksX9_init_2 22 rfl rfl)
theorem dX9_init_70 : decode cX9_init 70 = .ok (.putfield 36, 3) := dk_181 0 36 (dk_at dksX9_init_3 0 rfl rfl)
theorem dX9_init_73 : decode cX9_init 73 = .ok (.aload_n 0, 1) := dk_42 (dk_at dksX9_init_3 3 rfl rfl)
theorem dX9_init_74 : decode cX9_init 74 = .ok (.bipush 21, 2) := dk_16 21 (dk_at dksX9_init_3 4 rfl rfl)
theorem dX9_init_76 : decode cX9_init 76 = .ok (.newarray .int, 2) := dk_188_10 (dk_at dksX9_init_3 6 rfl rfl)
theorem dX9_init_78 : decode cX9_init 78 = .ok (.dup, 1) := dk_89 (dk_at dksX9_init_3 8 rfl rfl)
theorem dX9_init_79 : decode cX9_init 79 = .ok (.iconst 0, 1) := dk_3 (dk_at dksX9_init_3 9 rfl rfl)
theorem dX9_init_80 : decode cX9_init 80 = .ok (.iconst 0, 1) := dk_3 (dk_at dksX9_init_3 10 rfl rfl)
theorem dX9_init_81 : decode cX9_init 81 = .ok (.iastore, 1) := dk_79 (dk_at dksX9_init_3 11 rfl rfl)
theorem dX9_init_82 : decode cX9_init 82 = .ok (.dup, 1) := dk_89 (dk_at dksX9_init_3 12 rfl rfl)
theorem dX9_init_83 : decode cX9_init 83 = .ok (.iconst 1, 1) := dk_4 (dk_at dksX9_init_3 13 rfl rfl)
theorem dX9_init_84 : decode cX9_init 84 = .ok (.iconst 0, 1) := dk_3 (dk_at dksX9_init_3 14 rfl rfl)
theorem dX9_init_85 : decode cX9_init 85 = .ok (.iastore, 1) := dk_79 (dk_at dksX9_init_3 15 rfl rfl)
theorem dX9_init_86 : decode cX9_init 86 = .ok (.dup, 1) := dk_89 (dk_at dksX9_init_3 16 rfl rfl)
theorem dX9_init_87 : decode cX9_init 87 = .ok (.iconst 2, 1) := dk_5 (dk_at dksX9_init_3 17 rfl rfl)
theorem dX9_init_88 : decode cX9_init 88 = .ok (.iconst 0, 1) := dk_3 (dk_at dksX9_init_3 18 rfl rfl)
theorem dX9_init_89 : decode cX9_init 89 = .ok (.iastore, 1) := dk_79 (dk_at dksX9_init_3 19 rfl rfl)
theorem dX9_init_90 : decode cX9_init 90 = .ok (.dup, 1) := dk_89 (dk_at dksX9_init_3 20 rfl rfl)
theorem dX9_init_91 : decode cX9_init 91 = .ok (.iconst 3, 1) := dk_6 (dk_at dksX9_init_3 21 rfl rfl)
theorem dX9_init_92 : decode cX9_init 92 = .ok (.iconst 0, 1) := dk_3 (dk_at dksX9_init_3 22 rfl rfl)
theorem dX9_init_93 : decode cX9_init 93 = .ok (.iastore, 1) := dk_79 (dk_at dksX9_init_3 23 rfl rfl)
theorem dX9_init_94 : decode cX9_init 94 = .ok (.dup, 1) := dk_89 (dk_at dksX9_init_4 0 rfl rfl)
theorem dX9_init_95 : decode cX9_init 95 = .ok (.iconst 4, 1) := dk_7 (dk_at dksX9_init_4 1 rfl rfl)
theorem dX9_init_96 : decode cX9_init 96 = .ok (.iconst 0, 1) := dk_3 (dk_at dksX9_init_4 2 rfl rfl)
theorem dX9_init_97 : decode cX9_init 97 = .ok (.iastore, 1) := dk_79 (dk_at dksX9_init_4 3 rfl rfl)
theorem dX9_init_98 : decode cX9_init 98 = .ok (.dup, 1) := dk_89 (dk_at dksX9_init_4 4 rfl rfl)
theorem dX9_init_99 : decode cX9_init 99 = .ok (.iconst 5, 1) := dk_8 (dk_at dksX9_init_4 5 rfl rfl)
theorem dX9_init_100 : decode cX9_init 100 = .ok (.iconst 0, 1) := dk_3 (dk_at dksX9_init_4 6 rfl rfl)
theorem dX9_init_101 : decode cX9_init 101 = .ok (.iastore, 1) := dk_79 (dk_at dksX9_init_4 7 rfl rfl)
theorem dX9_init_102 : decode cX9_init 102 = .ok (.dup, 1) := dk_89 (dk_at dksX9_init_4 8 rfl rfl)
theorem dX9_init_103 : decode cX9_init 103 = .ok (.bipush 6, 2) := dk_16 6 (dk_at dksX9_init_4 9 rfl rfl)
theorem dX9_init_105 : decode cX9_init 105 = .ok (.iconst 0, 1) := dk_3 (dk_at dksX9_init_4 11 rfl rfl)
theorem dX9_init_106 : decode cX9_init 106 = .ok (.iastore, 1) := dk_79 (dk_at dksX9_init_4 12 rfl rfl)
theorem dX9_init_107 : decode cX9_init 107 = .ok (.dup, 1) := dk_89 (dk_at dksX9_init_4 13 rfl rfl)
theorem dX9_init_108 : decode cX9_init 108 = .ok (.bipush 7, 2) := dk_16 7 (dk_at dksX9_init_4 14 rfl rfl)
theorem dX9_init_110 : decode cX9_init 110 = .ok (.iconst 0, 1) := dk_3 (dk_at dksX9_init_4 16 rfl rfl)
theorem dX9_init_111 : decode cX9_init 111 = .ok (.iastore, 1) := dk_79 (dk_at dksX9_init_4 17 rfl rfl)
theorem dX9_init_112 : decode cX9_init 112 = .ok (.dup, 1) := dk_89 (dk_at dksX9_init_4 18 rfl rfl)
theorem dX9_init_113 : decode cX9_init 113 = .ok (.bipush 8, 2) := dk_16 8 (dk_at dksX9_init_4 19 rfl rfl)
theorem dX9_init_115 : decode cX9_init 115 = .ok (.iconst 0, 1) := dk_3 (dk_at dksX9_init_4 21 rfl rfl)
theorem dX9_init_116 : decode cX9_init 116 = .ok (.iastore, 1) := dk_79 (dk_at dksX9_init_4 22 rfl rfl)
theorem dX9_init_117 : decode cX9_init 117 = .ok (.dup, 1) := dk_89 (dk_at dksX9_init_4 23 rfl rfl)
theorem dX9_init_118 : decode cX9_init 118 = .ok (.bipush 9, 2) := dk_16 9 (dk_at dksX9_init_5 0 rfl rfl)
theorem dX9_init_120 : decode cX9_init 120 = .ok (.iconst 0, 1) := dk_3 (dk_at dksX9_init_5 2 rfl rfl)
theorem dX9_init_121 : decode cX9_init 121 = .ok (.iastore, 1) := dk_79 (dk_at dksX9_init_5 3 rfl rfl)
theorem dX9_init_122 : decode cX9_init 122 = .ok (.dup, 1) := dk_89 (dk_at dksX9_init_5 4 rfl rfl)
theorem dX9_init_123 : decode cX9_init 123 = .ok (.bipush 10, 2) := dk_16 10 (dk_at dksX9_init_5 5 rfl rfl)
theorem dX9_init_125 : decode cX9_init 125 = .ok (.iconst 0, 1) := dk_3 (dk_at dksX9_init_5 7 rfl rfl)
theorem dX9_init_126 : decode cX9_init 126 = .ok (.iastore, 1) := dk_79 (dk_at dksX9_init_5 8 rfl rfl)
theorem dX9_init_127 : decode cX9_init 127 = .ok (.dup, 1) := dk_89 (dk_at dksX9_init_5 9 rfl rfl)
theorem dX9_init_128 : decode cX9_init 128 = .ok (.bipush 11, 2) := dk_16 11 (dk_at dksX9_init_5 10 rfl rfl)
theorem dX9_init_130 : decode cX9_init 130 = .ok (.iconst 0, 1) := dk_3 (dk_at dksX9_init_5 12 rfl rfl)
theorem dX9_init_131 : decode cX9_init 131 = .ok (.iastore, 1) := dk_79 (dk_at dksX9_init_5 13 rfl rfl)
theorem dX9_init_132 : decode cX9_init 132 = .ok (.dup, 1) := dk_89 (dk_at dksX9_init_5 14 rfl rfl)
theorem dX9_init_133 : decode cX9_init 133 = .ok (.bipush 12, 2) := dk_16 12 (dk_at dksX9_init_5 15 rfl rfl)
theorem dX9_init_135 : decode cX9_init 135 = .ok (.iconst 0, 1) := dk_3 (dk_at dksX9_init_5 17 rfl rfl)
theorem dX9_init_136 : decode cX9_init 136 = .ok (.iastore, 1) := dk_79 (dk_at dksX9_init_5 18 rfl rfl)
theorem dX9_init_137 : decode cX9_init 137 = .ok (.dup, 1) := dk_89 (dk_at dksX9_init_5 19 rfl rfl)
theorem dX9_init_138 : decode cX9_init 138 = .ok (.bipush 13, 2) := dk_16 13 (dk_at dksX9_init_5 20 rfl rfl)
theorem dX9_init_140 : decode cX9_init 140 = .ok (.iconst 0, 1) := dk_3 (dk_at dksX9_init_5 22 rfl rfl)
theorem dX9_init_141 : decode cX9_init 141 = .ok (.iastore, 1) := dk_79 (dk_at dksX9_init_5 23 rfl rfl)
theorem dX9_init_142 : decode cX9_init 142 = .ok (.dup, 1) := dk_89 (dk_at dksX9_init_6 0 rfl rfl)
theorem dX9_init_143 : decode cX9_init 143 = .ok (.bipush 14, 2) := dk_16 14 (dk_at dksX9_init_6 1 rfl rfl)
theorem dX9_init_145 : decode cX9_init 145 = .ok (.iconst 0, 1) := dk_3 (dk_at dksX9_init_6 3 rfl rfl)
theorem dX9_init_146 : decode cX9_init 146 = .ok (.iastore, 1) := dk_79 (dk_at dksX9_init_6 4 rfl rfl)
theorem dX9_init_147 : decode cX9_init 147 = .ok (.dup, 1) := dk_89 (dk_at dksX9_init_6 5 rfl rfl)
theorem dX9_init_148 : decode cX9_init 148 = .ok (.bipush 15, 2) := dk_16 15 (dk_at dksX9_init_6 6 rfl rfl)
theorem dX9_init_150 : decode cX9_init 150 = .ok (.iconst 0, 1) := dk_3 (dk_at dksX9_init_6 8 rfl rfl)
theorem dX9_init_151 : decode cX9_init 151 = .ok (.iastore, 1) := dk_79 (dk_at dksX9_init_6 9 rfl rfl)
theorem dX9_init_152 : decode cX9_init 152 = .ok (.dup, 1) := dk_89 (dk_at dksX9_init_6 10 rfl rfl)
theorem dX9_init_153 : decode cX9_init 153 = .ok (.bipush 16, 2) := dk_16 16 (dk_at dksX9_init_6 11 rfl rfl)
theorem dX9_init_155 : decode cX9_init 155 = .ok (.sipush 200, 3) := dk_17 0 200 (dk_at dksX9_init_6 13 rfl rfl)
theorem dX9_init_158 : decode cX9_init 158 = .ok (.iastore, 1) := dk_79 (dk_at dksX9_init_6 16 rfl rfl)
theorem dX9_init_159 : decode cX9_init 159 = .ok (.dup, 1) := dk_89 (dk_at dksX9_init_6 17 rfl rfl)
theorem dX9_init_160 : decode cX9_init 160 = .ok (.bipush 17, 2) := dk_16 17 (dk_at dksX9_init_6 18 rfl rfl)
theorem dX9_init_162 : decode cX9_init 162 = .ok (.bipush 40, 2) := dk_16 40 (dk_at dksX9_init_6 20 rfl rfl)
theorem dX9_init_164 : decode cX9_init 164 = .ok (.iastore, 1) := dk_79 (dk_at dksX9_init_6 22 rfl rfl)
theorem dX9_init_165 : decode cX9_init 165 = .ok (.dup, 1) := dk_89 (dk_at dksX9_init_6 23 rfl rfl)
theorem dX9_init_166 : decode cX9_init 166 = .ok (.bipush 18, 2) := dk_16 18 (dk_at dksX9_init_7 0 rfl rfl)
theorem dX9_init_168 : decode cX9_init 168 = .ok (.iconst 3, 1) := dk_6 (dk_at dksX9_init_7 2 rfl rfl)
theorem dX9_init_169 : decode cX9_init 169 = .ok (.iastore, 1) := dk_79 (dk_at dksX9_init_7 3 rfl rfl)
theorem dX9_init_170 : decode cX9_init 170 = .ok (.dup, 1) := dk_89 (dk_at dksX9_init_7 4 rfl rfl)
theorem dX9_init_171 : decode cX9_init 171 = .ok (.bipush 19, 2) := dk_16 19 (dk_at dksX9_init_7 5 rfl rfl)
theorem dX9_init_173 : decode cX9_init 173 = .ok (.iconst 1, 1) := dk_4 (dk_at dksX9_init_7 7 rfl rfl)
theorem dX9_init_174 : decode cX9_init 174 = .ok (.iastore, 1) := dk_79 (dk_at dksX9_init_7 8 rfl rfl)
theorem dX9_init_175 : decode cX9_init 175 = .ok (.dup, 1) := dk_89 (dk_at dksX9_init_7 9 rfl rfl)
theorem dX9_init_176 : decode cX9_init 176 = .ok (.bipush 20, 2) := dk_16 20 (dk_at dksX9_init_7 10 rfl rfl)
theorem dX9_init_178 : decode cX9_init 178 = .ok (.iconst 0, 1) := dk_3 (dk_at dksX9_init_7 12 rfl rfl)
theorem dX9_init_179 : decode cX9_init 179 = .ok (.iastore, 1) := dk_79 (dk_at dksX9_init_7 13 rfl rfl)
theorem dX9_init_180 : decode cX9_init 180 = .ok (.putfield 39, 3) := dk_181 0 39 (dk_at dksX9_init_7 14 rfl rfl)
theorem dX9_init_183 : decode cX9_init 183 = .ok (.aload_n 0, 1) := dk_42 (dk_at dksX9_init_7 17 rfl rfl)
theorem dX9_init_184 : decode cX9_init 184 = .ok (.bipush 21, 2) := dk_16 21 (dk_at dksX9_init_7 18 rfl rfl)
theorem dX9_init_186 : decode cX9_init 186 = .ok (.newarray .int, 2) := dk_188_10 (dk_at dksX9_init_7 20 rfl rfl)
theorem dX9_init_188 : decode cX9_init 188 = .ok (.putfield 42, 3) := dk_181 0 42 (dk_at dksX9_init_8 0 rfl rfl)
theorem dX9_init_191 : decode cX9_init 191 = .ok (.aload_n 0, 1) := dk_42 (dk_at dksX9_init_8 3 rfl rfl)
theorem dX9_init_192 : decode cX9_init 192 = .ok (.bipush 80, 2) := dk_16 80 (dk_at dksX9_init_8 4 rfl rfl)
theorem dX9_init_194 : decode cX9_init 194 = .ok (.newarray .int, 2) := dk_188_10 (dk_at dksX9_init_8 6 rfl rfl)
theorem dX9_init_196 : decode cX9_init 196 = .ok (.putfield 45, 3) := dk_181 0 45 (dk_at dksX9_init_8 8 rfl rfl)
theorem dX9_init_199 : decode cX9_init 199 = .ok (.aload_n 0, 1) := dk_42 (dk_at dksX9_init_8 11 rfl rfl)
theorem dX9_init_200 : decode cX9_init 200 = .ok (.bipush 24, 2) := dk_16 24 (dk_at dksX9_init_8 12 rfl rfl)
theorem dX9_init_202 : decode cX9_init 202 = .ok (.newarray .int, 2) := dk_188_10 (dk_at dksX9_init_8 14 rfl rfl)
theorem dX9_init_204 : decode cX9_init 204 = .ok (.putfield 48, 3) := dk_181 0 48 (dk_at dksX9_init_8 16 rfl rfl)
theorem dX9_init_207 : decode cX9_init 207 = .ok (.aload_n 0, 1) := dk_42 (dk_at dksX9_init_8 19 rfl rfl)
theorem dX9_init_208 : decode cX9_init 208 = .ok (.bipush 20, 2) := dk_16 20 (dk_at dksX9_init_8 20 rfl rfl)
theorem dX9_init_210 : decode cX9_init 210 = .ok (.newarray .int, 2) := dk_188_10 (dk_at dksX9_init_8 22 rfl rfl)
theorem dX9_init_212 : decode cX9_init 212 = .ok (.putfield 51, 3) := dk_181 0 51 (dk_at dksX9_init_9 0 rfl rfl)
theorem dX9_init_215 : decode cX9_init 215 = .ok (.aload_n 0, 1) := dk_42 (dk_at dksX9_init_9 3 rfl rfl)
theorem dX9_init_216 : decode cX9_init 216 = .ok (.bipush 80, 2) := dk_16 80 (dk_at dksX9_init_9 4 rfl rfl)
theorem dX9_init_218 : decode cX9_init 218 = .ok (.newarray .int, 2) := dk_188_10 (dk_at dksX9_init_9 6 rfl rfl)
theorem dX9_init_220 : decode cX9_init 220 = .ok (.putfield 54, 3) := dk_181 0 54 (dk_at dksX9_init_9 8 rfl rfl)
theorem dX9_init_223 : decode cX9_init 223 = .ok (.aload_n 0, 1) := dk_42 (dk_at dksX9_init_9 11 rfl rfl)
theorem dX9_init_224 : decode cX9_init 224 = .ok (.bipush 80, 2) := dk_16 80 (dk_at dksX9_init_9 12 rfl rfl)
theorem dX9_init_226 : decode cX9_init 226 = .ok (.newarray .int, 2) := dk_188_10 (dk_at dksX9_init_9 14 rfl rfl)
theorem dX9_init_228 : decode cX9_init 228 = .ok (.putfield 57, 3) := dk_181 0 57 (dk_at dksX9_init_9 16 rfl rfl)
theorem dX9_init_231 : decode cX9_init 231 = .ok (.aload_n 0, 1) := dk_42 (dk_at dksX9_init_9 19 rfl rfl)
theorem dX9_init_232 : decode cX9_init 232 = .ok (.bipush 80, 2) := dk_16 80 (dk_at dksX9_init_9 20 rfl rfl)
theorem dX9_init_234 : decode cX9_init 234 = .ok (.newarray .int, 2) := dk_188_10 (dk_at dksX9_init_9 22 rfl rfl)
theorem dX9_init_236 : decode cX9_init 236 = .ok (.putfield 60, 3) := dk_181 0 60 (dk_at dksX9_init_10 0 rfl rfl)
theorem dX9_init_239 : decode cX9_init 239 = .ok (.aload_n 0, 1) := dk_42 (dk_at dksX9_init_10 3 rfl rfl)
theorem dX9_init_240 : decode cX9_init 240 = .ok (.iconst 5, 1) := dk_8 (dk_at dksX9_init_10 4 rfl rfl)
theorem dX9_init_241 : decode cX9_init 241 = .ok (.newarray .int, 2) := dk_188_10 (dk_at dksX9_init_10 5 rfl rfl)
theorem dX9_init_243 : decode cX9_init 243 = .ok (.putfield 63, 3) := dk_181 0 63 (dk_at dksX9_init_10 7 rfl rfl)
theorem dX9_init_246 : decode cX9_init 246 = .ok (.aload_n 0, 1) := dk_42 (dk_at dksX9_init_10 10 rfl rfl)
theorem dX9_init_247 : decode cX9_init 247 = .ok (.sipush 336, 3) := dk_17 1 80 (dk_at dksX9_init_10 11 rfl rfl)
theorem dX9_init_250 : decode cX9_init 250 = .ok (.newarray .int, 2) := dk_188_10 (dk_at dksX9_init_10 14 rfl rfl)
theorem dX9_init_252 : decode cX9_init 252 = .ok (.putfield 66, 3) := dk_181 0 66 (dk_at dksX9_init_10 16 rfl rfl)
theorem dX9_init_255 : decode cX9_init 255 = .ok (.aload_n 0, 1) := dk_42 (dk_at dksX9_init_10 19 rfl rfl)
theorem dX9_init_256 : decode cX9_init 256 = .ok (.bipush 60, 2) := dk_16 60 (dk_at dksX9_init_10 20 rfl rfl)
theorem dX9_init_258 : decode cX9_init 258 = .ok (.newarray .int, 2) := dk_188_10 (dk_at dksX9_init_10 22 rfl rfl)
theorem dX9_init_260 : decode cX9_init 260 = .ok (.putfield 69, 3) := dk_181 0 69 (dk_at dksX9_init_11 0 rfl rfl)
theorem dX9_init_263 : decode cX9_init 263 = .ok (.aload_n 0, 1) := dk_42 (dk_at dksX9_init_11 3 rfl rfl)
theorem dX9_init_264 : decode cX9_init 264 = .ok (.bipush 60, 2) := dk_16 60 (dk_at dksX9_init_11 4 rfl rfl)
theorem dX9_init_266 : decode cX9_init 266 = .ok (.newarray .int, 2) := dk_188_10 (dk_at dksX9_init_11 6 rfl rfl)
theorem dX9_init_268 : decode cX9_init 268 = .ok (.putfield 72, 3) := dk_181 0 72 (dk_at dksX9_init_11 8 rfl rfl)
theorem dX9_init_271 : decode cX9_init 271 = .ok (.aload_n 0, 1) := dk_42 (dk_at dksX9_init_11 11 rfl rfl)
theorem dX9_init_272 : decode cX9_init 272 = .ok (.bipush 60, 2) := dk_16 60 (dk_at dksX9_init_11 12 rfl rfl)
theorem dX9_init_274 : decode cX9_init 274 = .ok (.newarray .int, 2) := dk_188_10 (dk_at dksX9_init_11 14 rfl rfl)
theorem dX9_init_276 : decode cX9_init 276 = .ok (.putfield 75, 3) := dk_181 0 75 (dk_at dksX9_init_11 16 rfl rfl)
theorem dX9_init_279 : decode cX9_init 279 = .ok (.aload_n 0, 1) := dk_42 (dk_at dksX9_init_11 19 rfl rfl)
theorem dX9_init_280 : decode cX9_init 280 = .ok (.bipush 8, 2) := dk_16 8 (dk_at dksX9_init_11 20 rfl rfl)
theorem dX9_init_282 : decode cX9_init 282 = .ok (.newarray .int, 2) := dk_188_10 (dk_at dksX9_init_11 22 rfl rfl)
theorem dX9_init_284 : decode cX9_init 284 = .ok (.putfield 78, 3) := dk_181 0 78 (dk_at dksX9_init_12 0 rfl rfl)
theorem dX9_init_287 : decode cX9_init 287 = .ok (.aload_n 0, 1) := dk_42 (dk_at dksX9_init_12 3 rfl rfl)
theorem dX9_init_288 : decode cX9_init 288 = .ok (.sipush 147, 3) := dk_17 0 147 (dk_at dksX9_init_12 4 rfl rfl)
theorem dX9_init_291 : decode cX9_init 291 = .ok (.newarray .int, 2) := dk_188_10 (dk_at dksX9_init_12 7 rfl rfl)
theorem dX9_init_293 : decode cX9_init 293 = .ok (.putfield 81, 3) := dk_181 0 81 (dk_at dksX9_init_12 9 rfl rfl)
theorem dX9_init_296 : decode cX9_init 296 = .ok (.aload_n 0, 1) := dk_42 (dk_at dksX9_init_12 12 rfl rfl)
theorem dX9_init_297 : decode cX9_init 297 = .ok (.bipush 6, 2) := dk_16 6 (dk_at dksX9_init_12 13 rfl rfl)
theorem dX9_init_299 : decode cX9_init 299 = .ok (.newarray .int, 2) := dk_188_10 (dk_at dksX9_init_12 15 rfl rfl)
theorem dX9_init_301 : decode cX9_init 301 = .ok (.putfield 84, 3) := dk_181 0 84 (dk_at dksX9_init_12 17 rfl rfl)
theorem dX9_init_304 : decode cX9_init 304 = .ok (.aload_n 0, 1) := dk_42 (dk_at dksX9_init_12 20 rfl rfl)
theorem dX9_init_305 : decode cX9_init 305 = .ok (.bipush 6, 2) := dk_16 6 (dk_at dksX9_init_12 21 rfl rfl)
theorem dX9_init_307 : decode cX9_init 307 = .ok (.newarray .int, 2) := dk_188_10 (dk_at dksX9_init_13 0 rfl rfl)
theorem dX9_init_309 : decode cX9_init 309 = .ok (.putfield 87, 3) := dk_181 0 87 (dk_at dksX9_init_13 2 rfl rfl)
theorem dX9_init_312 : decode cX9_init 312 = .ok (.aload_n 0, 1) := dk_42 (dk_at dksX9_init_13 5 rfl rfl)
theorem dX9_init_313 : decode cX9_init 313 = .ok (.bipush 80, 2) := dk_16 80 (dk_at dksX9_init_13 6 rfl rfl)
theorem dX9_init_315 : decode cX9_init 315 = .ok (.newarray .int, 2) := dk_188_10 (dk_at dksX9_init_13 8 rfl rfl)
theorem dX9_init_317 : decode cX9_init 317 = .ok (.putfield 90, 3) := dk_181 0 90 (dk_at dksX9_init_13 10 rfl rfl)
theorem dX9_init_320 : decode cX9_init 320 = .ok (.aload_n 0, 1) := dk_42 (dk_at dksX9_init_13 13 rfl rfl)
theorem dX9_init_321 : decode cX9_init 321 = .ok (.bipush 12, 2) := dk_16 12 (dk_at dksX9_init_13 14 rfl rfl)
theorem dX9_init_323 : decode cX9_init 323 = .ok (.newarray .int, 2) := dk_188_10 (dk_at dksX9_init_13 16 rfl rfl)
theorem dX9_init_325 : decode cX9_init 325 = .ok (.putfield 93, 3) := dk_181 0 93 (dk_at dksX9_init_13 18 rfl rfl)
theorem dX9_init_328 : decode cX9_init 328 = .ok (.aload_n 0, 1) := dk_42 (dk_at dksX9_init_13 21 rfl rfl)
theorem dX9_init_329 : decode cX9_init 329 = .ok (.bipush 12, 2) := dk_16 12 (dk_at dksX9_init_13 22 rfl rfl)
theorem dX9_init_331 : decode cX9_init 331 = .ok (.newarray .int, 2) := dk_188_10 (dk_at dksX9_init_14 0 rfl rfl)
theorem dX9_init_333 : decode cX9_init 333 = .ok (.putfield 96, 3) := dk_181 0 96 (dk_at dksX9_init_14 2 rfl rfl)
theorem dX9_init_336 : decode cX9_init 336 = .ok (.aload_n 0, 1) := dk_42 (dk_at dksX9_init_14 5 rfl rfl)
theorem dX9_init_337 : decode cX9_init 337 = .ok (.bipush 12, 2) := dk_16 12 (dk_at dksX9_init_14 6 rfl rfl)
theorem dX9_init_339 : decode cX9_init 339 = .ok (.newarray .int, 2) := dk_188_10 (dk_at dksX9_init_14 8 rfl rfl)
theorem dX9_init_341 : decode cX9_init 341 = .ok (.putfield 99, 3) := dk_181 0 99 (dk_at dksX9_init_14 10 rfl rfl)
theorem dX9_init_344 : decode cX9_init 344 = .ok (.aload_n 0, 1) := dk_42 (dk_at dksX9_init_14 13 rfl rfl)
theorem dX9_init_345 : decode cX9_init 345 = .ok (.iconst 3, 1) := dk_6 (dk_at dksX9_init_14 14 rfl rfl)
theorem dX9_init_346 : decode cX9_init 346 = .ok (.newarray .boolean, 2) := dk_188_4 (dk_at dksX9_init_14 15 rfl rfl)
theorem dX9_init_348 : decode cX9_init 348 = .ok (.putfield 102, 3) := dk_181 0 102 (dk_at dksX9_init_14 17 rfl rfl)
theorem dX9_init_351 : decode cX9_init 351 = .ok (.aload_n 0, 1) := dk_42 (dk_at dksX9_init_14 20 rfl rfl)
theorem dX9_init_352 : decode cX9_init 352 = .ok (.iconst 3, 1) := dk_6 (dk_at dksX9_init_14 21 rfl rfl)
theorem dX9_init_353 : decode cX9_init 353 = .ok (.newarray .int, 2) := dk_188_10 (dk_at dksX9_init_14 22 rfl rfl)
theorem dX9_init_355 : decode cX9_init 355 = .ok (.putfield 106, 3) := dk_181 0 106 (dk_at dksX9_init_15 0 rfl rfl)
theorem dX9_init_358 : decode cX9_init 358 = .ok (.aload_n 0, 1) := dk_42 (dk_at dksX9_init_15 3 rfl rfl)
theorem dX9_init_359 : decode cX9_init 359 = .ok (.bipush 63, 2) := dk_16 63 (dk_at dksX9_init_15 4 rfl rfl)
theorem dX9_init_361 : decode cX9_init 361 = .ok (.newarray .int, 2) := dk_188_10 (dk_at dksX9_init_15 6 rfl rfl)
theorem dX9_init_363 : decode cX9_init 363 = .ok (.putfield 109, 3) := dk_181 0 109 (dk_at dksX9_init_15 8 rfl rfl)
theorem dX9_init_366 : decode cX9_init 366 = .ok (.return_, 1) := dk_177 (dk_at dksX9_init_15 11 rfl rfl)
abbrev cX9_thrown : ByteArray := prog_15_method_2_code
def yX9_thrown : MethodName := ⟨RX9, "thrown", "()I"⟩
theorem dX9_thrown_0 : decode cX9_thrown 0 = .ok (.aload_n 0, 1) := by decide +kernel
theorem dX9_thrown_1 : decode cX9_thrown 1 = .ok (.getfield 112, 3) := by decide +kernel
theorem dX9_thrown_4 : decode cX9_thrown 4 = .ok (.ireturn, 1) := by decide +kernel
abbrev cX9_sign : ByteArray := prog_15_method_13_code
def yX9_sign : MethodName := ⟨RX9, "sign", "(I)I"⟩
def dkwX9_sign_2 : List UInt8 := [132, 2, 1, 167, 255, 224, 42, 89, 180, 0, 136, 7, 96, 181, 0, 136, 42, 180, 0, 136, 172]
abbrev dktX9_sign_2 : List UInt8 := dkwX9_sign_2 ++ []
def dkwX9_sign_1 : List UInt8 := [180, 0, 45, 42, 180, 0, 136, 28, 96, 27, 16, 24, 16, 8, 28, 104, 100, 122, 17, 0, 255, 126, 79]
abbrev dktX9_sign_1 : List UInt8 := dkwX9_sign_1 ++ dktX9_sign_2
def dkwX9_sign_0 : List UInt8 := [42, 3, 181, 0, 112, 42, 180, 0, 136, 16, 76, 164, 0, 5, 2, 172, 3, 61, 28, 7, 162, 0, 33, 42]
abbrev dktX9_sign_0 : List UInt8 := dkwX9_sign_0 ++ dktX9_sign_1
theorem dksX9_sign_0 : cX9_sign.data.toList.drop 0 = dktX9_sign_0 := by decide +kernel
theorem dksX9_sign_1 : cX9_sign.data.toList.drop 24 = dktX9_sign_1 := dk_seg dksX9_sign_0 24 rfl rfl
theorem dksX9_sign_2 : cX9_sign.data.toList.drop 47 = dktX9_sign_2 := dk_seg dksX9_sign_1 23 rfl rfl
theorem dX9_sign_0 : decode cX9_sign 0 = .ok (.aload_n 0, 1) := dk_42 (dk_at dksX9_sign_0 0 rfl rfl)
theorem dX9_sign_1 : decode cX9_sign 1 = .ok (.iconst 0, 1) := dk_3 (dk_at dksX9_sign_0 1 rfl rfl)
theorem dX9_sign_2 : decode cX9_sign 2 = .ok (.putfield 112, 3) := dk_181 0 112 (dk_at dksX9_sign_0 2 rfl rfl)
theorem dX9_sign_5 : decode cX9_sign 5 = .ok (.aload_n 0, 1) := dk_42 (dk_at dksX9_sign_0 5 rfl rfl)
theorem dX9_sign_6 : decode cX9_sign 6 = .ok (.getfield 136, 3) := dk_180 0 136 (dk_at dksX9_sign_0 6 rfl rfl)
theorem dX9_sign_9 : decode cX9_sign 9 = .ok (.bipush 76, 2) := dk_16 76 (dk_at dksX9_sign_0 9 rfl rfl)
theorem dX9_sign_11 : decode cX9_sign 11 = .ok (.if_icmp .le 5, 3) := dk_164 0 5 (dk_at dksX9_sign_0 11 rfl rfl)
theorem dX9_sign_14 : decode cX9_sign 14 = .ok (.iconst (-1), 1) := dk_2 (dk_at dksX9_sign_0 14 rfl rfl)
theorem dX9_sign_15 : decode cX9_sign 15 = .ok (.ireturn, 1) := dk_172 (dk_at dksX9_sign_0 15 rfl rfl)
theorem dX9_sign_16 : decode cX9_sign 16 = .ok (.iconst 0, 1) := dk_3 (dk_at dksX9_sign_0 16 rfl rfl)
theorem dX9_sign_17 : decode cX9_sign 17 = .ok (.istore_n 2, 1) := dk_61 (dk_at dksX9_sign_0 17 rfl rfl)
theorem dX9_sign_18 : decode cX9_sign 18 = .ok (.iload_n 2, 1) := dk_28 (dk_at dksX9_sign_0 18 rfl rfl)
theorem dX9_sign_19 : decode cX9_sign 19 = .ok (.iconst 4, 1) := dk_7 (dk_at dksX9_sign_0 19 rfl rfl)
theorem dX9_sign_20 : decode cX9_sign 20 = .ok (.if_icmp .ge 33, 3) := dk_162 0 33 (dk_at dksX9_sign_0 20 rfl rfl)
theorem dX9_sign_23 : decode cX9_sign 23 = .ok (.aload_n 0, 1) := dk_42 (dk_at dksX9_sign_0 23 rfl rfl)
theorem dX9_sign_24 : decode cX9_sign 24 = .ok (.getfield 45, 3) := dk_180 0 45 (dk_at dksX9_sign_1 0 rfl rfl)
theorem dX9_sign_27 : decode cX9_sign 27 = .ok (.aload_n 0, 1) := dk_42 (dk_at dksX9_sign_1 3 rfl rfl)
theorem dX9_sign_28 : decode cX9_sign 28 = .ok (.getfield 136, 3) := dk_180 0 136 (dk_at dksX9_sign_1 4 rfl rfl)
theorem dX9_sign_31 : decode cX9_sign 31 = .ok (.iload_n 2, 1) := dk_28 (dk_at dksX9_sign_1 7 rfl rfl)
theorem dX9_sign_32 : decode cX9_sign 32 = .ok (.iadd, 1) := dk_96 (dk_at dksX9_sign_1 8 rfl rfl)
theorem dX9_sign_33 : decode cX9_sign 33 = .ok (.iload_n 1, 1) := dk_27 (dk_at dksX9_sign_1 9 rfl rfl)
theorem dX9_sign_34 : decode cX9_sign 34 = .ok (.bipush 24, 2) := dk_16 24 (dk_at dksX9_sign_1 10 rfl rfl)
theorem dX9_sign_36 : decode cX9_sign 36 = .ok (.bipush 8, 2) := dk_16 8 (dk_at dksX9_sign_1 12 rfl rfl)
theorem dX9_sign_38 : decode cX9_sign 38 = .ok (.iload_n 2, 1) := dk_28 (dk_at dksX9_sign_1 14 rfl rfl)
theorem dX9_sign_39 : decode cX9_sign 39 = .ok (.imul, 1) := dk_104 (dk_at dksX9_sign_1 15 rfl rfl)
theorem dX9_sign_40 : decode cX9_sign 40 = .ok (.isub, 1) := dk_100 (dk_at dksX9_sign_1 16 rfl rfl)
theorem dX9_sign_41 : decode cX9_sign 41 = .ok (.ishr, 1) := dk_122 (dk_at dksX9_sign_1 17 rfl rfl)
theorem dX9_sign_42 : decode cX9_sign 42 = .ok (.sipush 255, 3) := dk_17 0 255 (dk_at dksX9_sign_1 18 rfl rfl)
theorem dX9_sign_45 : decode cX9_sign 45 = .ok (.iand, 1) := dk_126 (dk_at dksX9_sign_1 21 rfl rfl)
theorem dX9_sign_46 : decode cX9_sign 46 = .ok (.iastore, 1) := dk_79 (dk_at dksX9_sign_1 22 rfl rfl)
theorem dX9_sign_47 : decode cX9_sign 47 = .ok (.iinc 2 1, 3) := dk_132 2 1 (dk_at dksX9_sign_2 0 rfl rfl)
theorem dX9_sign_50 : decode cX9_sign 50 = .ok (.goto (-32), 3) := dk_167 255 224 (dk_at dksX9_sign_2 3 rfl rfl)
theorem dX9_sign_53 : decode cX9_sign 53 = .ok (.aload_n 0, 1) := dk_42 (dk_at dksX9_sign_2 6 rfl rfl)
theorem dX9_sign_54 : decode cX9_sign 54 = .ok (.dup, 1) := dk_89 (dk_at dksX9_sign_2 7 rfl rfl)
theorem dX9_sign_55 : decode cX9_sign 55 = .ok (.getfield 136, 3) := dk_180 0 136 (dk_at dksX9_sign_2 8 rfl rfl)
theorem dX9_sign_58 : decode cX9_sign 58 = .ok (.iconst 4, 1) := dk_7 (dk_at dksX9_sign_2 11 rfl rfl)
theorem dX9_sign_59 : decode cX9_sign 59 = .ok (.iadd, 1) := dk_96 (dk_at dksX9_sign_2 12 rfl rfl)
theorem dX9_sign_60 : decode cX9_sign 60 = .ok (.putfield 136, 3) := dk_181 0 136 (dk_at dksX9_sign_2 13 rfl rfl)
theorem dX9_sign_63 : decode cX9_sign 63 = .ok (.aload_n 0, 1) := dk_42 (dk_at dksX9_sign_2 16 rfl rfl)
theorem dX9_sign_64 : decode cX9_sign 64 = .ok (.getfield 136, 3) := dk_180 0 136 (dk_at dksX9_sign_2 17 rfl rfl)
theorem dX9_sign_67 : decode cX9_sign 67 = .ok (.ireturn, 1) := dk_172 (dk_at dksX9_sign_2 20 rfl rfl)
abbrev cX9_end : ByteArray := prog_15_method_14_code
def yX9_end : MethodName := ⟨RX9, "end", "(I)Z"⟩
def dkwX9_end_1 : List UInt8 := [181, 0, 136, 4, 172]
abbrev dktX9_end_1 : List UInt8 := dkwX9_end_1 ++ []
def dkwX9_end_0 : List UInt8 := [42, 3, 181, 0, 112, 27, 133, 9, 42, 180, 0, 136, 133, 184, 0, 129, 154, 0, 5, 3, 172, 42, 27]
abbrev dktX9_end_0 : List UInt8 := dkwX9_end_0 ++ dktX9_end_1
theorem dksX9_end_0 : cX9_end.data.toList.drop 0 = dktX9_end_0 := by decide +kernel
theorem dksX9_end_1 : cX9_end.data.toList.drop 23 = dktX9_end_1 := dk_seg dksX9_end_0 23 rfl rfl
theorem dX9_end_0 : decode cX9_end 0 = .ok (.aload_n 0, 1) := dk_42 (dk_at dksX9_end_0 0 rfl rfl)
theorem dX9_end_1 : decode cX9_end 1 = .ok (.iconst 0, 1) := dk_3 (dk_at dksX9_end_0 1 rfl rfl)
theorem dX9_end_2 : decode cX9_end 2 = .ok (.putfield 112, 3) := dk_181 0 112 (dk_at dksX9_end_0 2 rfl rfl)
theorem dX9_end_5 : decode cX9_end 5 = .ok (.iload_n 1, 1) := dk_27 (dk_at dksX9_end_0 5 rfl rfl)
theorem dX9_end_6 : decode cX9_end 6 = .ok (.i2l, 1) := dk_133 (dk_at dksX9_end_0 6 rfl rfl)
theorem dX9_end_7 : decode cX9_end 7 = .ok (.lconst 0, 1) := dk_9 (dk_at dksX9_end_0 7 rfl rfl)
theorem dX9_end_8 : decode cX9_end 8 = .ok (.aload_n 0, 1) := dk_42 (dk_at dksX9_end_0 8 rfl rfl)
theorem dX9_end_9 : decode cX9_end 9 = .ok (.getfield 136, 3) := dk_180 0 136 (dk_at dksX9_end_0 9 rfl rfl)
theorem dX9_end_12 : decode cX9_end 12 = .ok (.i2l, 1) := dk_133 (dk_at dksX9_end_0 12 rfl rfl)
theorem dX9_end_13 : decode cX9_end 13 = .ok (.invokestatic 129, 3) := dk_184 0 129 (dk_at dksX9_end_0 13 rfl rfl)
theorem dX9_end_16 : decode cX9_end 16 = .ok (.ifCond .ne 5, 3) := dk_154 0 5 (dk_at dksX9_end_0 16 rfl rfl)
theorem dX9_end_19 : decode cX9_end 19 = .ok (.iconst 0, 1) := dk_3 (dk_at dksX9_end_0 19 rfl rfl)
theorem dX9_end_20 : decode cX9_end 20 = .ok (.ireturn, 1) := dk_172 (dk_at dksX9_end_0 20 rfl rfl)
theorem dX9_end_21 : decode cX9_end 21 = .ok (.aload_n 0, 1) := dk_42 (dk_at dksX9_end_0 21 rfl rfl)
theorem dX9_end_22 : decode cX9_end 22 = .ok (.iload_n 1, 1) := dk_27 (dk_at dksX9_end_0 22 rfl rfl)
theorem dX9_end_23 : decode cX9_end 23 = .ok (.putfield 136, 3) := dk_181 0 136 (dk_at dksX9_end_1 0 rfl rfl)
theorem dX9_end_26 : decode cX9_end 26 = .ok (.iconst 1, 1) := dk_4 (dk_at dksX9_end_1 3 rfl rfl)
theorem dX9_end_27 : decode cX9_end 27 = .ok (.ireturn, 1) := dk_172 (dk_at dksX9_end_1 4 rfl rfl)
abbrev cX9_in : ByteArray := prog_15_method_4_code
def yX9_in : MethodName := ⟨RX9, "in", "(JJJ)Z"⟩
def dkwX9_in_0 : List UInt8 := [30, 32, 148, 155, 0, 14, 30, 22, 4, 148, 157, 0, 7, 4, 167, 0, 4, 3, 172]
abbrev dktX9_in_0 : List UInt8 := dkwX9_in_0 ++ []
theorem dksX9_in_0 : cX9_in.data.toList.drop 0 = dktX9_in_0 := by decide +kernel
theorem dX9_in_0 : decode cX9_in 0 = .ok (.lload_n 0, 1) := dk_30 (dk_at dksX9_in_0 0 rfl rfl)
theorem dX9_in_1 : decode cX9_in 1 = .ok (.lload_n 2, 1) := dk_32 (dk_at dksX9_in_0 1 rfl rfl)
theorem dX9_in_2 : decode cX9_in 2 = .ok (.lcmp, 1) := dk_148 (dk_at dksX9_in_0 2 rfl rfl)
theorem dX9_in_3 : decode cX9_in 3 = .ok (.ifCond .lt 14, 3) := dk_155 0 14 (dk_at dksX9_in_0 3 rfl rfl)
theorem dX9_in_6 : decode cX9_in 6 = .ok (.lload_n 0, 1) := dk_30 (dk_at dksX9_in_0 6 rfl rfl)
theorem dX9_in_7 : decode cX9_in 7 = .ok (.lload 4, 2) := dk_22 4 (dk_at dksX9_in_0 7 rfl rfl)
theorem dX9_in_9 : decode cX9_in 9 = .ok (.lcmp, 1) := dk_148 (dk_at dksX9_in_0 9 rfl rfl)
theorem dX9_in_10 : decode cX9_in 10 = .ok (.ifCond .gt 7, 3) := dk_157 0 7 (dk_at dksX9_in_0 10 rfl rfl)
theorem dX9_in_13 : decode cX9_in 13 = .ok (.iconst 1, 1) := dk_4 (dk_at dksX9_in_0 13 rfl rfl)
theorem dX9_in_14 : decode cX9_in 14 = .ok (.goto 4, 3) := dk_167 0 4 (dk_at dksX9_in_0 14 rfl rfl)
theorem dX9_in_17 : decode cX9_in 17 = .ok (.iconst 0, 1) := dk_3 (dk_at dksX9_in_0 17 rfl rfl)
theorem dX9_in_18 : decode cX9_in 18 = .ok (.ireturn, 1) := dk_172 (dk_at dksX9_in_0 18 rfl rfl)
abbrev cX9_men : ByteArray := prog_15_method_24_code
def yX9_men : MethodName := ⟨RX9, "men", "()I"⟩
def dkwX9_men_9 : List UInt8 := [180, 0, 180, 172]
abbrev dktX9_men_9 : List UInt8 := dkwX9_men_9 ++ []
def dkwX9_men_8 : List UInt8 := [180, 0, 180, 158, 0, 18, 42, 3, 181, 0, 204, 42, 89, 180, 0, 207, 4, 96, 181, 0, 207, 42]
abbrev dktX9_men_8 : List UInt8 := dkwX9_men_8 ++ dktX9_men_9
def dkwX9_men_7 : List UInt8 := [180, 0, 126, 96, 3, 79, 42, 89, 180, 0, 126, 4, 96, 181, 0, 126, 132, 5, 1, 167, 255, 153, 42]
abbrev dktX9_men_7 : List UInt8 := dkwX9_men_7 ++ dktX9_men_8
def dkwX9_men_6 : List UInt8 := [21, 5, 104, 5, 96, 46, 79, 42, 180, 0, 39, 42, 180, 0, 126, 3, 79, 42, 180, 0, 39, 16, 8, 42]
abbrev dktX9_men_6 : List UInt8 := dkwX9_men_6 ++ dktX9_men_7
def dkwX9_men_5 : List UInt8 := [180, 0, 48, 6, 21, 5, 104, 4, 96, 46, 79, 42, 180, 0, 27, 42, 180, 0, 126, 42, 180, 0, 48, 6]
abbrev dktX9_men_5 : List UInt8 := dkwX9_men_5 ++ dktX9_men_6
def dkwX9_men_4 : List UInt8 := [180, 0, 126, 42, 180, 0, 48, 6, 21, 5, 104, 46, 79, 42, 180, 0, 24, 42, 180, 0, 126, 42]
abbrev dktX9_men_4 : List UInt8 := dkwX9_men_4 ++ dktX9_men_5
def dkwX9_men_3 : List UInt8 := [156, 0, 6, 21, 4, 172, 3, 54, 5, 21, 5, 42, 180, 0, 180, 162, 0, 100, 42, 180, 0, 21, 42]
abbrev dktX9_men_3 : List UInt8 := dkwX9_men_3 ++ dktX9_men_4
def dkwX9_men_2 : List UInt8 := [153, 0, 7, 4, 167, 0, 4, 3, 62, 167, 255, 228, 42, 27, 16, 31, 28, 182, 0, 200, 54, 4, 21, 4]
abbrev dktX9_men_2 : List UInt8 := dkwX9_men_2 ++ dktX9_men_3
def dkwX9_men_1 : List UInt8 := [167, 0, 4, 3, 62, 29, 153, 0, 30, 42, 182, 0, 193, 61, 28, 153, 0, 16, 42, 16, 59, 182, 0, 196]
abbrev dktX9_men_1 : List UInt8 := dkwX9_men_1 ++ dktX9_men_2
def dkwX9_men_0 : List UInt8 := [42, 3, 181, 0, 112, 42, 16, 31, 182, 0, 190, 60, 42, 3, 181, 0, 180, 4, 61, 27, 158, 0, 7, 4]
abbrev dktX9_men_0 : List UInt8 := dkwX9_men_0 ++ dktX9_men_1
theorem dksX9_men_0 : cX9_men.data.toList.drop 0 = dktX9_men_0 := by decide +kernel
theorem dksX9_men_1 : cX9_men.data.toList.drop 24 = dktX9_men_1 := dk_seg dksX9_men_0 24 rfl rfl
theorem dksX9_men_2 : cX9_men.data.toList.drop 48 = dktX9_men_2 := dk_seg dksX9_men_1 24 rfl rfl
theorem dksX9_men_3 : cX9_men.data.toList.drop 72 = dktX9_men_3 := dk_seg dksX9_men_2 24 rfl rfl
theorem dksX9_men_4 : cX9_men.data.toList.drop 95 = dktX9_men_4 := dk_seg dksX9_men_3 23 rfl rfl
theorem dksX9_men_5 : cX9_men.data.toList.drop 117 = dktX9_men_5 := dk_seg dksX9_men_4 22 rfl rfl
theorem dksX9_men_6 : cX9_men.data.toList.drop 141 = dktX9_men_6 := dk_seg dksX9_men_5 24 rfl rfl
theorem dksX9_men_7 : cX9_men.data.toList.drop 165 = dktX9_men_7 := dk_seg dksX9_men_6 24 rfl rfl
theorem dksX9_men_8 : cX9_men.data.toList.drop 188 = dktX9_men_8 := dk_seg dksX9_men_7 23 rfl rfl
theorem dksX9_men_9 : cX9_men.data.toList.drop 210 = dktX9_men_9 := dk_seg dksX9_men_8 22 rfl rfl
theorem dX9_men_0 : decode cX9_men 0 = .ok (.aload_n 0, 1) := dk_42 (dk_at dksX9_men_0 0 rfl rfl)
theorem dX9_men_1 : decode cX9_men 1 = .ok (.iconst 0, 1) := dk_3 (dk_at dksX9_men_0 1 rfl rfl)
theorem dX9_men_2 : decode cX9_men 2 = .ok (.putfield 112, 3) := dk_181 0 112 (dk_at dksX9_men_0 2 rfl rfl)
theorem dX9_men_5 : decode cX9_men 5 = .ok (.aload_n 0, 1) := dk_42 (dk_at dksX9_men_0 5 rfl rfl)
theorem dX9_men_6 : decode cX9_men 6 = .ok (.bipush 31, 2) := dk_16 31 (dk_at dksX9_men_0 6 rfl rfl)
theorem dX9_men_8 : decode cX9_men 8 = .ok (.invokevirtual 190, 3) := dk_182 0 190 (dk_at dksX9_men_0 8 rfl rfl)
theorem dX9_men_11 : decode cX9_men 11 = .ok (.istore_n 1, 1) := dk_60 (dk_at dksX9_men_0 11 rfl rfl)
theorem dX9_men_12 : decode cX9_men 12 = .ok (.aload_n 0, 1) := dk_42 (dk_at dksX9_men_0 12 rfl rfl)
theorem dX9_men_13 : decode cX9_men 13 = .ok (.iconst 0, 1) := dk_3 (dk_at dksX9_men_0 13 rfl rfl)
theorem dX9_men_14 : decode cX9_men 14 = .ok (.putfield 180, 3) := dk_181 0 180 (dk_at dksX9_men_0 14 rfl rfl)
theorem dX9_men_17 : decode cX9_men 17 = .ok (.iconst 1, 1) := dk_4 (dk_at dksX9_men_0 17 rfl rfl)
theorem dX9_men_18 : decode cX9_men 18 = .ok (.istore_n 2, 1) := dk_61 (dk_at dksX9_men_0 18 rfl rfl)
theorem dX9_men_19 : decode cX9_men 19 = .ok (.iload_n 1, 1) := dk_27 (dk_at dksX9_men_0 19 rfl rfl)
theorem dX9_men_20 : decode cX9_men 20 = .ok (.ifCond .le 7, 3) := dk_158 0 7 (dk_at dksX9_men_0 20 rfl rfl)
theorem dX9_men_23 : decode cX9_men 23 = .ok (.iconst 1, 1) := dk_4 (dk_at dksX9_men_0 23 rfl rfl)
theorem dX9_men_24 : decode cX9_men 24 = .ok (.goto 4, 3) := dk_167 0 4 (dk_at dksX9_men_1 0 rfl rfl)
theorem dX9_men_27 : decode cX9_men 27 = .ok (.iconst 0, 1) := dk_3 (dk_at dksX9_men_1 3 rfl rfl)
theorem dX9_men_28 : decode cX9_men 28 = .ok (.istore_n 3, 1) := dk_62 (dk_at dksX9_men_1 4 rfl rfl)
theorem dX9_men_29 : decode cX9_men 29 = .ok (.iload_n 3, 1) := dk_29 (dk_at dksX9_men_1 5 rfl rfl)
theorem dX9_men_30 : decode cX9_men 30 = .ok (.ifCond .eq 30, 3) := dk_153 0 30 (dk_at dksX9_men_1 6 rfl rfl)
theorem dX9_men_33 : decode cX9_men 33 = .ok (.aload_n 0, 1) := dk_42 (dk_at dksX9_men_1 9 rfl rfl)
theorem dX9_men_34 : decode cX9_men 34 = .ok (.invokevirtual 193, 3) := dk_182 0 193 (dk_at dksX9_men_1 10 rfl rfl)
theorem dX9_men_37 : decode cX9_men 37 = .ok (.istore_n 2, 1) := dk_61 (dk_at dksX9_men_1 13 rfl rfl)
theorem dX9_men_38 : decode cX9_men 38 = .ok (.iload_n 2, 1) := dk_28 (dk_at dksX9_men_1 14 rfl rfl)
theorem dX9_men_39 : decode cX9_men 39 = .ok (.ifCond .eq 16, 3) := dk_153 0 16 (dk_at dksX9_men_1 15 rfl rfl)
theorem dX9_men_42 : decode cX9_men 42 = .ok (.aload_n 0, 1) := dk_42 (dk_at dksX9_men_1 18 rfl rfl)
theorem dX9_men_43 : decode cX9_men 43 = .ok (.bipush 59, 2) := dk_16 59 (dk_at dksX9_men_1 19 rfl rfl)
theorem dX9_men_45 : decode cX9_men 45 = .ok (.invokevirtual 196, 3) := dk_182 0 196 (dk_at dksX9_men_1 21 rfl rfl)
theorem dX9_men_48 : decode cX9_men 48 = .ok (.ifCond .eq 7, 3) := dk_153 0 7 (dk_at dksX9_men_2 0 rfl rfl)
theorem dX9_men_51 : decode cX9_men 51 = .ok (.iconst 1, 1) := dk_4 (dk_at dksX9_men_2 3 rfl rfl)
theorem dX9_men_52 : decode cX9_men 52 = .ok (.goto 4, 3) := dk_167 0 4 (dk_at dksX9_men_2 4 rfl rfl)
theorem dX9_men_55 : decode cX9_men 55 = .ok (.iconst 0, 1) := dk_3 (dk_at dksX9_men_2 7 rfl rfl)
theorem dX9_men_56 : decode cX9_men 56 = .ok (.istore_n 3, 1) := dk_62 (dk_at dksX9_men_2 8 rfl rfl)
theorem dX9_men_57 : decode cX9_men 57 = .ok (.goto (-28), 3) := dk_167 255 228 (dk_at dksX9_men_2 9 rfl rfl)
theorem dX9_men_60 : decode cX9_men 60 = .ok (.aload_n 0, 1) := dk_42 (dk_at dksX9_men_2 12 rfl rfl)
theorem dX9_men_61 : decode cX9_men 61 = .ok (.iload_n 1, 1) := dk_27 (dk_at dksX9_men_2 13 rfl rfl)
theorem dX9_men_62 : decode cX9_men 62 = .ok (.bipush 31, 2) := dk_16 31 (dk_at dksX9_men_2 14 rfl rfl)
theorem dX9_men_64 : decode cX9_men 64 = .ok (.iload_n 2, 1) := dk_28 (dk_at dksX9_men_2 16 rfl rfl)
theorem dX9_men_65 : decode cX9_men 65 = .ok (.invokevirtual 200, 3) := dk_182 0 200 (dk_at dksX9_men_2 17 rfl rfl)
theorem dX9_men_68 : decode cX9_men 68 = .ok (.istore 4, 2) := dk_54 4 (dk_at dksX9_men_2 20 rfl rfl)
theorem dX9_men_70 : decode cX9_men 70 = .ok (.iload 4, 2) := dk_21 4 (dk_at dksX9_men_2 22 rfl rfl)
theorem dX9_men_72 : decode cX9_men 72 = .ok (.ifCond .ge 6, 3) := dk_156 0 6 (dk_at dksX9_men_3 0 rfl rfl)
theorem dX9_men_75 : decode cX9_men 75 = .ok (.iload 4, 2) := dk_21 4 (dk_at dksX9_men_3 3 rfl rfl)
theorem dX9_men_77 : decode cX9_men 77 = .ok (.ireturn, 1) := dk_172 (dk_at dksX9_men_3 5 rfl rfl)
theorem dX9_men_78 : decode cX9_men 78 = .ok (.iconst 0, 1) := dk_3 (dk_at dksX9_men_3 6 rfl rfl)
theorem dX9_men_79 : decode cX9_men 79 = .ok (.istore 5, 2) := dk_54 5 (dk_at dksX9_men_3 7 rfl rfl)
theorem dX9_men_81 : decode cX9_men 81 = .ok (.iload 5, 2) := dk_21 5 (dk_at dksX9_men_3 9 rfl rfl)
theorem dX9_men_83 : decode cX9_men 83 = .ok (.aload_n 0, 1) := dk_42 (dk_at dksX9_men_3 11 rfl rfl)
theorem dX9_men_84 : decode cX9_men 84 = .ok (.getfield 180, 3) := dk_180 0 180 (dk_at dksX9_men_3 12 rfl rfl)
theorem dX9_men_87 : decode cX9_men 87 = .ok (.if_icmp .ge 100, 3) := dk_162 0 100 (dk_at dksX9_men_3 15 rfl rfl)
theorem dX9_men_90 : decode cX9_men 90 = .ok (.aload_n 0, 1) := dk_42 (dk_at dksX9_men_3 18 rfl rfl)
theorem dX9_men_91 : decode cX9_men 91 = .ok (.getfield 21, 3) := dk_180 0 21 (dk_at dksX9_men_3 19 rfl rfl)
theorem dX9_men_94 : decode cX9_men 94 = .ok (.aload_n 0, 1) := dk_42 (dk_at dksX9_men_3 22 rfl rfl)
theorem dX9_men_95 : decode cX9_men 95 = .ok (.getfield 126, 3) := dk_180 0 126 (dk_at dksX9_men_4 0 rfl rfl)
theorem dX9_men_98 : decode cX9_men 98 = .ok (.aload_n 0, 1) := dk_42 (dk_at dksX9_men_4 3 rfl rfl)
theorem dX9_men_99 : decode cX9_men 99 = .ok (.getfield 48, 3) := dk_180 0 48 (dk_at dksX9_men_4 4 rfl rfl)
theorem dX9_men_102 : decode cX9_men 102 = .ok (.iconst 3, 1) := dk_6 (dk_at dksX9_men_4 7 rfl rfl)
theorem dX9_men_103 : decode cX9_men 103 = .ok (.iload 5, 2) := dk_21 5 (dk_at dksX9_men_4 8 rfl rfl)
theorem dX9_men_105 : decode cX9_men 105 = .ok (.imul, 1) := dk_104 (dk_at dksX9_men_4 10 rfl rfl)
theorem dX9_men_106 : decode cX9_men 106 = .ok (.iaload, 1) := dk_46 (dk_at dksX9_men_4 11 rfl rfl)
theorem dX9_men_107 : decode cX9_men 107 = .ok (.iastore, 1) := dk_79 (dk_at dksX9_men_4 12 rfl rfl)
theorem dX9_men_108 : decode cX9_men 108 = .ok (.aload_n 0, 1) := dk_42 (dk_at dksX9_men_4 13 rfl rfl)
theorem dX9_men_109 : decode cX9_men 109 = .ok (.getfield 24, 3) := dk_180 0 24 (dk_at dksX9_men_4 14 rfl rfl)
theorem dX9_men_112 : decode cX9_men 112 = .ok (.aload_n 0, 1) := dk_42 (dk_at dksX9_men_4 17 rfl rfl)
theorem dX9_men_113 : decode cX9_men 113 = .ok (.getfield 126, 3) := dk_180 0 126 (dk_at dksX9_men_4 18 rfl rfl)
theorem dX9_men_116 : decode cX9_men 116 = .ok (.aload_n 0, 1) := dk_42 (dk_at dksX9_men_4 21 rfl rfl)
theorem dX9_men_117 : decode cX9_men 117 = .ok (.getfield 48, 3) := dk_180 0 48 (dk_at dksX9_men_5 0 rfl rfl)
theorem dX9_men_120 : decode cX9_men 120 = .ok (.iconst 3, 1) := dk_6 (dk_at dksX9_men_5 3 rfl rfl)
theorem dX9_men_121 : decode cX9_men 121 = .ok (.iload 5, 2) := dk_21 5 (dk_at dksX9_men_5 4 rfl rfl)
theorem dX9_men_123 : decode cX9_men 123 = .ok (.imul, 1) := dk_104 (dk_at dksX9_men_5 6 rfl rfl)
theorem dX9_men_124 : decode cX9_men 124 = .ok (.iconst 1, 1) := dk_4 (dk_at dksX9_men_5 7 rfl rfl)
theorem dX9_men_125 : decode cX9_men 125 = .ok (.iadd, 1) := dk_96 (dk_at dksX9_men_5 8 rfl rfl)
theorem dX9_men_126 : decode cX9_men 126 = .ok (.iaload, 1) := dk_46 (dk_at dksX9_men_5 9 rfl rfl)
theorem dX9_men_127 : decode cX9_men 127 = .ok (.iastore, 1) := dk_79 (dk_at dksX9_men_5 10 rfl rfl)
theorem dX9_men_128 : decode cX9_men 128 = .ok (.aload_n 0, 1) := dk_42 (dk_at dksX9_men_5 11 rfl rfl)
theorem dX9_men_129 : decode cX9_men 129 = .ok (.getfield 27, 3) := dk_180 0 27 (dk_at dksX9_men_5 12 rfl rfl)
theorem dX9_men_132 : decode cX9_men 132 = .ok (.aload_n 0, 1) := dk_42 (dk_at dksX9_men_5 15 rfl rfl)
theorem dX9_men_133 : decode cX9_men 133 = .ok (.getfield 126, 3) := dk_180 0 126 (dk_at dksX9_men_5 16 rfl rfl)
theorem dX9_men_136 : decode cX9_men 136 = .ok (.aload_n 0, 1) := dk_42 (dk_at dksX9_men_5 19 rfl rfl)
theorem dX9_men_137 : decode cX9_men 137 = .ok (.getfield 48, 3) := dk_180 0 48 (dk_at dksX9_men_5 20 rfl rfl)
theorem dX9_men_140 : decode cX9_men 140 = .ok (.iconst 3, 1) := dk_6 (dk_at dksX9_men_5 23 rfl rfl)
theorem dX9_men_141 : decode cX9_men 141 = .ok (.iload 5, 2) := dk_21 5 (dk_at dksX9_men_6 0 rfl rfl)
theorem dX9_men_143 : decode cX9_men 143 = .ok (.imul, 1) := dk_104 (dk_at dksX9_men_6 2 rfl rfl)
theorem dX9_men_144 : decode cX9_men 144 = .ok (.iconst 2, 1) := dk_5 (dk_at dksX9_men_6 3 rfl rfl)
theorem dX9_men_145 : decode cX9_men 145 = .ok (.iadd, 1) := dk_96 (dk_at dksX9_men_6 4 rfl rfl)
theorem dX9_men_146 : decode cX9_men 146 = .ok (.iaload, 1) := dk_46 (dk_at dksX9_men_6 5 rfl rfl)
theorem dX9_men_147 : decode cX9_men 147 = .ok (.iastore, 1) := dk_79 (dk_at dksX9_men_6 6 rfl rfl)
theorem dX9_men_148 : decode cX9_men 148 = .ok (.aload_n 0, 1) := dk_42 (dk_at dksX9_men_6 7 rfl rfl)
theorem dX9_men_149 : decode cX9_men 149 = .ok (.getfield 39, 3) := dk_180 0 39 (dk_at dksX9_men_6 8 rfl rfl)
theorem dX9_men_152 : decode cX9_men 152 = .ok (.aload_n 0, 1) := dk_42 (dk_at dksX9_men_6 11 rfl rfl)
theorem dX9_men_153 : decode cX9_men 153 = .ok (.getfield 126, 3) := dk_180 0 126 (dk_at dksX9_men_6 12 rfl rfl)
theorem dX9_men_156 : decode cX9_men 156 = .ok (.iconst 0, 1) := dk_3 (dk_at dksX9_men_6 15 rfl rfl)
theorem dX9_men_157 : decode cX9_men 157 = .ok (.iastore, 1) := dk_79 (dk_at dksX9_men_6 16 rfl rfl)
theorem dX9_men_158 : decode cX9_men 158 = .ok (.aload_n 0, 1) := dk_42 (dk_at dksX9_men_6 17 rfl rfl)
theorem dX9_men_159 : decode cX9_men 159 = .ok (.getfield 39, 3) := dk_180 0 39 (dk_at dksX9_men_6 18 rfl rfl)
theorem dX9_men_162 : decode cX9_men 162 = .ok (.bipush 8, 2) := dk_16 8 (dk_at dksX9_men_6 21 rfl rfl)
theorem dX9_men_164 : decode cX9_men 164 = .ok (.aload_n 0, 1) := dk_42 (dk_at dksX9_men_6 23 rfl rfl)
theorem dX9_men_165 : decode cX9_men 165 = .ok (.getfield 126, 3) := dk_180 0 126 (dk_at dksX9_men_7 0 rfl rfl)
theorem dX9_men_168 : decode cX9_men 168 = .ok (.iadd, 1) := dk_96 (dk_at dksX9_men_7 3 rfl rfl)
theorem dX9_men_169 : decode cX9_men 169 = .ok (.iconst 0, 1) := dk_3 (dk_at dksX9_men_7 4 rfl rfl)
theorem dX9_men_170 : decode cX9_men 170 = .ok (.iastore, 1) := dk_79 (dk_at dksX9_men_7 5 rfl rfl)
theorem dX9_men_171 : decode cX9_men 171 = .ok (.aload_n 0, 1) := dk_42 (dk_at dksX9_men_7 6 rfl rfl)
theorem dX9_men_172 : decode cX9_men 172 = .ok (.dup, 1) := dk_89 (dk_at dksX9_men_7 7 rfl rfl)
theorem dX9_men_173 : decode cX9_men 173 = .ok (.getfield 126, 3) := dk_180 0 126 (dk_at dksX9_men_7 8 rfl rfl)
theorem dX9_men_176 : decode cX9_men 176 = .ok (.iconst 1, 1) := dk_4 (dk_at dksX9_men_7 11 rfl rfl)
theorem dX9_men_177 : decode cX9_men 177 = .ok (.iadd, 1) := dk_96 (dk_at dksX9_men_7 12 rfl rfl)
theorem dX9_men_178 : decode cX9_men 178 = .ok (.putfield 126, 3) := dk_181 0 126 (dk_at dksX9_men_7 13 rfl rfl)
theorem dX9_men_181 : decode cX9_men 181 = .ok (.iinc 5 1, 3) := dk_132 5 1 (dk_at dksX9_men_7 16 rfl rfl)
theorem dX9_men_184 : decode cX9_men 184 = .ok (.goto (-103), 3) := dk_167 255 153 (dk_at dksX9_men_7 19 rfl rfl)
theorem dX9_men_187 : decode cX9_men 187 = .ok (.aload_n 0, 1) := dk_42 (dk_at dksX9_men_7 22 rfl rfl)
theorem dX9_men_188 : decode cX9_men 188 = .ok (.getfield 180, 3) := dk_180 0 180 (dk_at dksX9_men_8 0 rfl rfl)
theorem dX9_men_191 : decode cX9_men 191 = .ok (.ifCond .le 18, 3) := dk_158 0 18 (dk_at dksX9_men_8 3 rfl rfl)
theorem dX9_men_194 : decode cX9_men 194 = .ok (.aload_n 0, 1) := dk_42 (dk_at dksX9_men_8 6 rfl rfl)
theorem dX9_men_195 : decode cX9_men 195 = .ok (.iconst 0, 1) := dk_3 (dk_at dksX9_men_8 7 rfl rfl)
theorem dX9_men_196 : decode cX9_men 196 = .ok (.putfield 204, 3) := dk_181 0 204 (dk_at dksX9_men_8 8 rfl rfl)
theorem dX9_men_199 : decode cX9_men 199 = .ok (.aload_n 0, 1) := dk_42 (dk_at dksX9_men_8 11 rfl rfl)
theorem dX9_men_200 : decode cX9_men 200 = .ok (.dup, 1) := dk_89 (dk_at dksX9_men_8 12 rfl rfl)
theorem dX9_men_201 : decode cX9_men 201 = .ok (.getfield 207, 3) := dk_180 0 207 (dk_at dksX9_men_8 13 rfl rfl)
theorem dX9_men_204 : decode cX9_men 204 = .ok (.iconst 1, 1) := dk_4 (dk_at dksX9_men_8 16 rfl rfl)
theorem dX9_men_205 : decode cX9_men 205 = .ok (.iadd, 1) := dk_96 (dk_at dksX9_men_8 17 rfl rfl)
theorem dX9_men_206 : decode cX9_men 206 = .ok (.putfield 207, 3) := dk_181 0 207 (dk_at dksX9_men_8 18 rfl rfl)
theorem dX9_men_209 : decode cX9_men 209 = .ok (.aload_n 0, 1) := dk_42 (dk_at dksX9_men_8 21 rfl rfl)
theorem dX9_men_210 : decode cX9_men 210 = .ok (.getfield 180, 3) := dk_180 0 180 (dk_at dksX9_men_9 0 rfl rfl)
theorem dX9_men_213 : decode cX9_men 213 = .ok (.ireturn, 1) := dk_172 (dk_at dksX9_men_9 3 rfl rfl)
abbrev cX9_begins : ByteArray := prog_15_method_15_code
def yX9_begins : MethodName := ⟨RX9, "begins", "(I)I"⟩
def dkwX9_begins_1 : List UInt8 := [184, 0, 145, 181, 0, 151, 28, 172]
abbrev dktX9_begins_1 : List UInt8 := dkwX9_begins_1 ++ []
def dkwX9_begins_0 : List UInt8 := [42, 180, 0, 136, 61, 42, 3, 181, 0, 136, 42, 3, 181, 0, 139, 42, 3, 181, 0, 142, 42, 28, 27]
abbrev dktX9_begins_0 : List UInt8 := dkwX9_begins_0 ++ dktX9_begins_1
theorem dksX9_begins_0 : cX9_begins.data.toList.drop 0 = dktX9_begins_0 := by decide +kernel
theorem dksX9_begins_1 : cX9_begins.data.toList.drop 23 = dktX9_begins_1 := dk_seg dksX9_begins_0 23 rfl rfl
theorem dX9_begins_0 : decode cX9_begins 0 = .ok (.aload_n 0, 1) := dk_42 (dk_at dksX9_begins_0 0 rfl rfl)
theorem dX9_begins_1 : decode cX9_begins 1 = .ok (.getfield 136, 3) := dk_180 0 136 (dk_at dksX9_begins_0 1 rfl rfl)
theorem dX9_begins_4 : decode cX9_begins 4 = .ok (.istore_n 2, 1) := dk_61 (dk_at dksX9_begins_0 4 rfl rfl)
theorem dX9_begins_5 : decode cX9_begins 5 = .ok (.aload_n 0, 1) := dk_42 (dk_at dksX9_begins_0 5 rfl rfl)
theorem dX9_begins_6 : decode cX9_begins 6 = .ok (.iconst 0, 1) := dk_3 (dk_at dksX9_begins_0 6 rfl rfl)
theorem dX9_begins_7 : decode cX9_begins 7 = .ok (.putfield 136, 3) := dk_181 0 136 (dk_at dksX9_begins_0 7 rfl rfl)
theorem dX9_begins_10 : decode cX9_begins 10 = .ok (.aload_n 0, 1) := dk_42 (dk_at dksX9_begins_0 10 rfl rfl)
theorem dX9_begins_11 : decode cX9_begins 11 = .ok (.iconst 0, 1) := dk_3 (dk_at dksX9_begins_0 11 rfl rfl)
theorem dX9_begins_12 : decode cX9_begins 12 = .ok (.putfield 139, 3) := dk_181 0 139 (dk_at dksX9_begins_0 12 rfl rfl)
theorem dX9_begins_15 : decode cX9_begins 15 = .ok (.aload_n 0, 1) := dk_42 (dk_at dksX9_begins_0 15 rfl rfl)
theorem dX9_begins_16 : decode cX9_begins 16 = .ok (.iconst 0, 1) := dk_3 (dk_at dksX9_begins_0 16 rfl rfl)
theorem dX9_begins_17 : decode cX9_begins 17 = .ok (.putfield 142, 3) := dk_181 0 142 (dk_at dksX9_begins_0 17 rfl rfl)
theorem dX9_begins_20 : decode cX9_begins 20 = .ok (.aload_n 0, 1) := dk_42 (dk_at dksX9_begins_0 20 rfl rfl)
theorem dX9_begins_21 : decode cX9_begins 21 = .ok (.iload_n 2, 1) := dk_28 (dk_at dksX9_begins_0 21 rfl rfl)
theorem dX9_begins_22 : decode cX9_begins 22 = .ok (.iload_n 1, 1) := dk_27 (dk_at dksX9_begins_0 22 rfl rfl)
theorem dX9_begins_23 : decode cX9_begins 23 = .ok (.invokestatic 145, 3) := dk_184 0 145 (dk_at dksX9_begins_1 0 rfl rfl)
theorem dX9_begins_26 : decode cX9_begins 26 = .ok (.putfield 151, 3) := dk_181 0 151 (dk_at dksX9_begins_1 3 rfl rfl)
theorem dX9_begins_29 : decode cX9_begins 29 = .ok (.iload_n 2, 1) := dk_28 (dk_at dksX9_begins_1 6 rfl rfl)
theorem dX9_begins_30 : decode cX9_begins 30 = .ok (.ireturn, 1) := dk_172 (dk_at dksX9_begins_1 7 rfl rfl)
abbrev cX9_readsMan : ByteArray := prog_15_method_23_code
def yX9_readsMan : MethodName := ⟨RX9, "readsMan", "()Z"⟩
def dkwX9_readsMan_4 : List UInt8 := [96, 181, 0, 180, 42, 180, 0, 48, 27, 5, 96, 46, 155, 0, 7, 4, 167, 0, 4, 3, 172]
abbrev dktX9_readsMan_4 : List UInt8 := dkwX9_readsMan_4 ++ []
def dkwX9_readsMan_3 : List UInt8 := [27, 4, 96, 46, 156, 0, 7, 2, 167, 0, 9, 42, 3, 7, 182, 0, 187, 79, 42, 89, 180, 0, 180, 4]
abbrev dktX9_readsMan_3 : List UInt8 := dkwX9_readsMan_3 ++ dktX9_readsMan_4
def dkwX9_readsMan_2 : List UInt8 := [156, 0, 7, 2, 167, 0, 8, 42, 4, 182, 0, 183, 79, 42, 180, 0, 48, 27, 5, 96, 42, 180, 0, 48]
abbrev dktX9_readsMan_2 : List UInt8 := dkwX9_readsMan_2 ++ dktX9_readsMan_3
def dkwX9_readsMan_1 : List UInt8 := [180, 0, 48, 27, 42, 4, 182, 0, 183, 79, 42, 180, 0, 48, 27, 4, 96, 42, 180, 0, 48, 27, 46]
abbrev dktX9_readsMan_1 : List UInt8 := dkwX9_readsMan_1 ++ dktX9_readsMan_2
def dkwX9_readsMan_0 : List UInt8 := [42, 180, 0, 126, 42, 180, 0, 180, 96, 16, 8, 160, 0, 5, 3, 172, 6, 42, 180, 0, 180, 104, 60, 42]
abbrev dktX9_readsMan_0 : List UInt8 := dkwX9_readsMan_0 ++ dktX9_readsMan_1
theorem dksX9_readsMan_0 : cX9_readsMan.data.toList.drop 0 = dktX9_readsMan_0 := by decide +kernel
theorem dksX9_readsMan_1 : cX9_readsMan.data.toList.drop 24 = dktX9_readsMan_1 := dk_seg dksX9_readsMan_0 24 rfl rfl
theorem dksX9_readsMan_2 : cX9_readsMan.data.toList.drop 47 = dktX9_readsMan_2 := dk_seg dksX9_readsMan_1 23 rfl rfl
theorem dksX9_readsMan_3 : cX9_readsMan.data.toList.drop 71 = dktX9_readsMan_3 := dk_seg dksX9_readsMan_2 24 rfl rfl
theorem dksX9_readsMan_4 : cX9_readsMan.data.toList.drop 95 = dktX9_readsMan_4 := dk_seg dksX9_readsMan_3 24 rfl rfl
theorem dX9_readsMan_0 : decode cX9_readsMan 0 = .ok (.aload_n 0, 1) := dk_42 (dk_at dksX9_readsMan_0 0 rfl rfl)
theorem dX9_readsMan_1 : decode cX9_readsMan 1 = .ok (.getfield 126, 3) := dk_180 0 126 (dk_at dksX9_readsMan_0 1 rfl rfl)
theorem dX9_readsMan_4 : decode cX9_readsMan 4 = .ok (.aload_n 0, 1) := dk_42 (dk_at dksX9_readsMan_0 4 rfl rfl)
theorem dX9_readsMan_5 : decode cX9_readsMan 5 = .ok (.getfield 180, 3) := dk_180 0 180 (dk_at dksX9_readsMan_0 5 rfl rfl)
theorem dX9_readsMan_8 : decode cX9_readsMan 8 = .ok (.iadd, 1) := dk_96 (dk_at dksX9_readsMan_0 8 rfl rfl)
theorem dX9_readsMan_9 : decode cX9_readsMan 9 = .ok (.bipush 8, 2) := dk_16 8 (dk_at dksX9_readsMan_0 9 rfl rfl)
theorem dX9_readsMan_11 : decode cX9_readsMan 11 = .ok (.if_icmp .ne 5, 3) := dk_160 0 5 (dk_at dksX9_readsMan_0 11 rfl rfl)
theorem dX9_readsMan_14 : decode cX9_readsMan 14 = .ok (.iconst 0, 1) := dk_3 (dk_at dksX9_readsMan_0 14 rfl rfl)
theorem dX9_readsMan_15 : decode cX9_readsMan 15 = .ok (.ireturn, 1) := dk_172 (dk_at dksX9_readsMan_0 15 rfl rfl)
theorem dX9_readsMan_16 : decode cX9_readsMan 16 = .ok (.iconst 3, 1) := dk_6 (dk_at dksX9_readsMan_0 16 rfl rfl)
theorem dX9_readsMan_17 : decode cX9_readsMan 17 = .ok (.aload_n 0, 1) := dk_42 (dk_at dksX9_readsMan_0 17 rfl rfl)
theorem dX9_readsMan_18 : decode cX9_readsMan 18 = .ok (.getfield 180, 3) := dk_180 0 180 (dk_at dksX9_readsMan_0 18 rfl rfl)
theorem dX9_readsMan_21 : decode cX9_readsMan 21 = .ok (.imul, 1) := dk_104 (dk_at dksX9_readsMan_0 21 rfl rfl)
theorem dX9_readsMan_22 : decode cX9_readsMan 22 = .ok (.istore_n 1, 1) := dk_60 (dk_at dksX9_readsMan_0 22 rfl rfl)
theorem dX9_readsMan_23 : decode cX9_readsMan 23 = .ok (.aload_n 0, 1) := dk_42 (dk_at dksX9_readsMan_0 23 rfl rfl)
theorem dX9_readsMan_24 : decode cX9_readsMan 24 = .ok (.getfield 48, 3) := dk_180 0 48 (dk_at dksX9_readsMan_1 0 rfl rfl)
theorem dX9_readsMan_27 : decode cX9_readsMan 27 = .ok (.iload_n 1, 1) := dk_27 (dk_at dksX9_readsMan_1 3 rfl rfl)
theorem dX9_readsMan_28 : decode cX9_readsMan 28 = .ok (.aload_n 0, 1) := dk_42 (dk_at dksX9_readsMan_1 4 rfl rfl)
theorem dX9_readsMan_29 : decode cX9_readsMan 29 = .ok (.iconst 1, 1) := dk_4 (dk_at dksX9_readsMan_1 5 rfl rfl)
theorem dX9_readsMan_30 : decode cX9_readsMan 30 = .ok (.invokevirtual 183, 3) := dk_182 0 183 (dk_at dksX9_readsMan_1 6 rfl rfl)
theorem dX9_readsMan_33 : decode cX9_readsMan 33 = .ok (.iastore, 1) := dk_79 (dk_at dksX9_readsMan_1 9 rfl rfl)
theorem dX9_readsMan_34 : decode cX9_readsMan 34 = .ok (.aload_n 0, 1) := dk_42 (dk_at dksX9_readsMan_1 10 rfl rfl)
theorem dX9_readsMan_35 : decode cX9_readsMan 35 = .ok (.getfield 48, 3) := dk_180 0 48 (dk_at dksX9_readsMan_1 11 rfl rfl)
theorem dX9_readsMan_38 : decode cX9_readsMan 38 = .ok (.iload_n 1, 1) := dk_27 (dk_at dksX9_readsMan_1 14 rfl rfl)
theorem dX9_readsMan_39 : decode cX9_readsMan 39 = .ok (.iconst 1, 1) := dk_4 (dk_at dksX9_readsMan_1 15 rfl rfl)
theorem dX9_readsMan_40 : decode cX9_readsMan 40 = .ok (.iadd, 1) := dk_96 (dk_at dksX9_readsMan_1 16 rfl rfl)
theorem dX9_readsMan_41 : decode cX9_readsMan 41 = .ok (.aload_n 0, 1) := dk_42 (dk_at dksX9_readsMan_1 17 rfl rfl)
theorem dX9_readsMan_42 : decode cX9_readsMan 42 = .ok (.getfield 48, 3) := dk_180 0 48 (dk_at dksX9_readsMan_1 18 rfl rfl)
theorem dX9_readsMan_45 : decode cX9_readsMan 45 = .ok (.iload_n 1, 1) := dk_27 (dk_at dksX9_readsMan_1 21 rfl rfl)
theorem dX9_readsMan_46 : decode cX9_readsMan 46 = .ok (.iaload, 1) := dk_46 (dk_at dksX9_readsMan_1 22 rfl rfl)
theorem dX9_readsMan_47 : decode cX9_readsMan 47 = .ok (.ifCond .ge 7, 3) := dk_156 0 7 (dk_at dksX9_readsMan_2 0 rfl rfl)
theorem dX9_readsMan_50 : decode cX9_readsMan 50 = .ok (.iconst (-1), 1) := dk_2 (dk_at dksX9_readsMan_2 3 rfl rfl)
theorem dX9_readsMan_51 : decode cX9_readsMan 51 = .ok (.goto 8, 3) := dk_167 0 8 (dk_at dksX9_readsMan_2 4 rfl rfl)
theorem dX9_readsMan_54 : decode cX9_readsMan 54 = .ok (.aload_n 0, 1) := dk_42 (dk_at dksX9_readsMan_2 7 rfl rfl)
theorem dX9_readsMan_55 : decode cX9_readsMan 55 = .ok (.iconst 1, 1) := dk_4 (dk_at dksX9_readsMan_2 8 rfl rfl)
theorem dX9_readsMan_56 : decode cX9_readsMan 56 = .ok (.invokevirtual 183, 3) := dk_182 0 183 (dk_at dksX9_readsMan_2 9 rfl rfl)
theorem dX9_readsMan_59 : decode cX9_readsMan 59 = .ok (.iastore, 1) := dk_79 (dk_at dksX9_readsMan_2 12 rfl rfl)
theorem dX9_readsMan_60 : decode cX9_readsMan 60 = .ok (.aload_n 0, 1) := dk_42 (dk_at dksX9_readsMan_2 13 rfl rfl)
theorem dX9_readsMan_61 : decode cX9_readsMan 61 = .ok (.getfield 48, 3) := dk_180 0 48 (dk_at dksX9_readsMan_2 14 rfl rfl)
theorem dX9_readsMan_64 : decode cX9_readsMan 64 = .ok (.iload_n 1, 1) := dk_27 (dk_at dksX9_readsMan_2 17 rfl rfl)
theorem dX9_readsMan_65 : decode cX9_readsMan 65 = .ok (.iconst 2, 1) := dk_5 (dk_at dksX9_readsMan_2 18 rfl rfl)
theorem dX9_readsMan_66 : decode cX9_readsMan 66 = .ok (.iadd, 1) := dk_96 (dk_at dksX9_readsMan_2 19 rfl rfl)
theorem dX9_readsMan_67 : decode cX9_readsMan 67 = .ok (.aload_n 0, 1) := dk_42 (dk_at dksX9_readsMan_2 20 rfl rfl)
theorem dX9_readsMan_68 : decode cX9_readsMan 68 = .ok (.getfield 48, 3) := dk_180 0 48 (dk_at dksX9_readsMan_2 21 rfl rfl)
theorem dX9_readsMan_71 : decode cX9_readsMan 71 = .ok (.iload_n 1, 1) := dk_27 (dk_at dksX9_readsMan_3 0 rfl rfl)
theorem dX9_readsMan_72 : decode cX9_readsMan 72 = .ok (.iconst 1, 1) := dk_4 (dk_at dksX9_readsMan_3 1 rfl rfl)
theorem dX9_readsMan_73 : decode cX9_readsMan 73 = .ok (.iadd, 1) := dk_96 (dk_at dksX9_readsMan_3 2 rfl rfl)
theorem dX9_readsMan_74 : decode cX9_readsMan 74 = .ok (.iaload, 1) := dk_46 (dk_at dksX9_readsMan_3 3 rfl rfl)
theorem dX9_readsMan_75 : decode cX9_readsMan 75 = .ok (.ifCond .ge 7, 3) := dk_156 0 7 (dk_at dksX9_readsMan_3 4 rfl rfl)
theorem dX9_readsMan_78 : decode cX9_readsMan 78 = .ok (.iconst (-1), 1) := dk_2 (dk_at dksX9_readsMan_3 7 rfl rfl)
theorem dX9_readsMan_79 : decode cX9_readsMan 79 = .ok (.goto 9, 3) := dk_167 0 9 (dk_at dksX9_readsMan_3 8 rfl rfl)
theorem dX9_readsMan_82 : decode cX9_readsMan 82 = .ok (.aload_n 0, 1) := dk_42 (dk_at dksX9_readsMan_3 11 rfl rfl)
theorem dX9_readsMan_83 : decode cX9_readsMan 83 = .ok (.iconst 0, 1) := dk_3 (dk_at dksX9_readsMan_3 12 rfl rfl)
theorem dX9_readsMan_84 : decode cX9_readsMan 84 = .ok (.iconst 4, 1) := dk_7 (dk_at dksX9_readsMan_3 13 rfl rfl)
theorem dX9_readsMan_85 : decode cX9_readsMan 85 = .ok (.invokevirtual 187, 3) := dk_182 0 187 (dk_at dksX9_readsMan_3 14 rfl rfl)
theorem dX9_readsMan_88 : decode cX9_readsMan 88 = .ok (.iastore, 1) := dk_79 (dk_at dksX9_readsMan_3 17 rfl rfl)
theorem dX9_readsMan_89 : decode cX9_readsMan 89 = .ok (.aload_n 0, 1) := dk_42 (dk_at dksX9_readsMan_3 18 rfl rfl)
theorem dX9_readsMan_90 : decode cX9_readsMan 90 = .ok (.dup, 1) := dk_89 (dk_at dksX9_readsMan_3 19 rfl rfl)
theorem dX9_readsMan_91 : decode cX9_readsMan 91 = .ok (.getfield 180, 3) := dk_180 0 180 (dk_at dksX9_readsMan_3 20 rfl rfl)
theorem dX9_readsMan_94 : decode cX9_readsMan 94 = .ok (.iconst 1, 1) := dk_4 (dk_at dksX9_readsMan_3 23 rfl rfl)
theorem dX9_readsMan_95 : decode cX9_readsMan 95 = .ok (.iadd, 1) := dk_96 (dk_at dksX9_readsMan_4 0 rfl rfl)
theorem dX9_readsMan_96 : decode cX9_readsMan 96 = .ok (.putfield 180, 3) := dk_181 0 180 (dk_at dksX9_readsMan_4 1 rfl rfl)
theorem dX9_readsMan_99 : decode cX9_readsMan 99 = .ok (.aload_n 0, 1) := dk_42 (dk_at dksX9_readsMan_4 4 rfl rfl)
theorem dX9_readsMan_100 : decode cX9_readsMan 100 = .ok (.getfield 48, 3) := dk_180 0 48 (dk_at dksX9_readsMan_4 5 rfl rfl)
theorem dX9_readsMan_103 : decode cX9_readsMan 103 = .ok (.iload_n 1, 1) := dk_27 (dk_at dksX9_readsMan_4 8 rfl rfl)
theorem dX9_readsMan_104 : decode cX9_readsMan 104 = .ok (.iconst 2, 1) := dk_5 (dk_at dksX9_readsMan_4 9 rfl rfl)
theorem dX9_readsMan_105 : decode cX9_readsMan 105 = .ok (.iadd, 1) := dk_96 (dk_at dksX9_readsMan_4 10 rfl rfl)
theorem dX9_readsMan_106 : decode cX9_readsMan 106 = .ok (.iaload, 1) := dk_46 (dk_at dksX9_readsMan_4 11 rfl rfl)
theorem dX9_readsMan_107 : decode cX9_readsMan 107 = .ok (.ifCond .lt 7, 3) := dk_155 0 7 (dk_at dksX9_readsMan_4 12 rfl rfl)
theorem dX9_readsMan_110 : decode cX9_readsMan 110 = .ok (.iconst 1, 1) := dk_4 (dk_at dksX9_readsMan_4 15 rfl rfl)
theorem dX9_readsMan_111 : decode cX9_readsMan 111 = .ok (.goto 4, 3) := dk_167 0 4 (dk_at dksX9_readsMan_4 16 rfl rfl)
theorem dX9_readsMan_114 : decode cX9_readsMan 114 = .ok (.iconst 0, 1) := dk_3 (dk_at dksX9_readsMan_4 19 rfl rfl)
theorem dX9_readsMan_115 : decode cX9_readsMan 115 = .ok (.ireturn, 1) := dk_172 (dk_at dksX9_readsMan_4 20 rfl rfl)
abbrev cX9_number : ByteArray := prog_15_method_20_code
def yX9_number : MethodName := ⟨RX9, "number", "(I)I"⟩
def dkwX9_number_2 : List UInt8 := [180, 0, 139, 4, 96, 181, 0, 139, 132, 3, 1, 167, 255, 213, 28, 172]
abbrev dktX9_number_2 : List UInt8 := dkwX9_number_2 ++ []
def dkwX9_number_1 : List UInt8 := [153, 0, 37, 16, 10, 28, 104, 42, 180, 0, 45, 42, 180, 0, 139, 46, 96, 16, 48, 100, 61, 42, 89]
abbrev dktX9_number_1 : List UInt8 := dkwX9_number_1 ++ dktX9_number_2
def dkwX9_number_0 : List UInt8 := [42, 182, 0, 176, 154, 0, 5, 2, 172, 3, 61, 3, 62, 29, 27, 162, 0, 44, 42, 182, 0, 176]
abbrev dktX9_number_0 : List UInt8 := dkwX9_number_0 ++ dktX9_number_1
theorem dksX9_number_0 : cX9_number.data.toList.drop 0 = dktX9_number_0 := by decide +kernel
theorem dksX9_number_1 : cX9_number.data.toList.drop 22 = dktX9_number_1 := dk_seg dksX9_number_0 22 rfl rfl
theorem dksX9_number_2 : cX9_number.data.toList.drop 45 = dktX9_number_2 := dk_seg dksX9_number_1 23 rfl rfl
theorem dX9_number_0 : decode cX9_number 0 = .ok (.aload_n 0, 1) := dk_42 (dk_at dksX9_number_0 0 rfl rfl)
theorem dX9_number_1 : decode cX9_number 1 = .ok (.invokevirtual 176, 3) := dk_182 0 176 (dk_at dksX9_number_0 1 rfl rfl)
theorem dX9_number_4 : decode cX9_number 4 = .ok (.ifCond .ne 5, 3) := dk_154 0 5 (dk_at dksX9_number_0 4 rfl rfl)
theorem dX9_number_7 : decode cX9_number 7 = .ok (.iconst (-1), 1) := dk_2 (dk_at dksX9_number_0 7 rfl rfl)
theorem dX9_number_8 : decode cX9_number 8 = .ok (.ireturn, 1) := dk_172 (dk_at dksX9_number_0 8 rfl rfl)
theorem dX9_number_9 : decode cX9_number 9 = .ok (.iconst 0, 1) := dk_3 (dk_at dksX9_number_0 9 rfl rfl)
theorem dX9_number_10 : decode cX9_number 10 = .ok (.istore_n 2, 1) := dk_61 (dk_at dksX9_number_0 10 rfl rfl)
theorem dX9_number_11 : decode cX9_number 11 = .ok (.iconst 0, 1) := dk_3 (dk_at dksX9_number_0 11 rfl rfl)
theorem dX9_number_12 : decode cX9_number 12 = .ok (.istore_n 3, 1) := dk_62 (dk_at dksX9_number_0 12 rfl rfl)
theorem dX9_number_13 : decode cX9_number 13 = .ok (.iload_n 3, 1) := dk_29 (dk_at dksX9_number_0 13 rfl rfl)
theorem dX9_number_14 : decode cX9_number 14 = .ok (.iload_n 1, 1) := dk_27 (dk_at dksX9_number_0 14 rfl rfl)
theorem dX9_number_15 : decode cX9_number 15 = .ok (.if_icmp .ge 44, 3) := dk_162 0 44 (dk_at dksX9_number_0 15 rfl rfl)
theorem dX9_number_18 : decode cX9_number 18 = .ok (.aload_n 0, 1) := dk_42 (dk_at dksX9_number_0 18 rfl rfl)
theorem dX9_number_19 : decode cX9_number 19 = .ok (.invokevirtual 176, 3) := dk_182 0 176 (dk_at dksX9_number_0 19 rfl rfl)
theorem dX9_number_22 : decode cX9_number 22 = .ok (.ifCond .eq 37, 3) := dk_153 0 37 (dk_at dksX9_number_1 0 rfl rfl)
theorem dX9_number_25 : decode cX9_number 25 = .ok (.bipush 10, 2) := dk_16 10 (dk_at dksX9_number_1 3 rfl rfl)
theorem dX9_number_27 : decode cX9_number 27 = .ok (.iload_n 2, 1) := dk_28 (dk_at dksX9_number_1 5 rfl rfl)
theorem dX9_number_28 : decode cX9_number 28 = .ok (.imul, 1) := dk_104 (dk_at dksX9_number_1 6 rfl rfl)
theorem dX9_number_29 : decode cX9_number 29 = .ok (.aload_n 0, 1) := dk_42 (dk_at dksX9_number_1 7 rfl rfl)
theorem dX9_number_30 : decode cX9_number 30 = .ok (.getfield 45, 3) := dk_180 0 45 (dk_at dksX9_number_1 8 rfl rfl)
theorem dX9_number_33 : decode cX9_number 33 = .ok (.aload_n 0, 1) := dk_42 (dk_at dksX9_number_1 11 rfl rfl)
theorem dX9_number_34 : decode cX9_number 34 = .ok (.getfield 139, 3) := dk_180 0 139 (dk_at dksX9_number_1 12 rfl rfl)
theorem dX9_number_37 : decode cX9_number 37 = .ok (.iaload, 1) := dk_46 (dk_at dksX9_number_1 15 rfl rfl)
theorem dX9_number_38 : decode cX9_number 38 = .ok (.iadd, 1) := dk_96 (dk_at dksX9_number_1 16 rfl rfl)
theorem dX9_number_39 : decode cX9_number 39 = .ok (.bipush 48, 2) := dk_16 48 (dk_at dksX9_number_1 17 rfl rfl)
theorem dX9_number_41 : decode cX9_number 41 = .ok (.isub, 1) := dk_100 (dk_at dksX9_number_1 19 rfl rfl)
theorem dX9_number_42 : decode cX9_number 42 = .ok (.istore_n 2, 1) := dk_61 (dk_at dksX9_number_1 20 rfl rfl)
theorem dX9_number_43 : decode cX9_number 43 = .ok (.aload_n 0, 1) := dk_42 (dk_at dksX9_number_1 21 rfl rfl)
theorem dX9_number_44 : decode cX9_number 44 = .ok (.dup, 1) := dk_89 (dk_at dksX9_number_1 22 rfl rfl)
theorem dX9_number_45 : decode cX9_number 45 = .ok (.getfield 139, 3) := dk_180 0 139 (dk_at dksX9_number_2 0 rfl rfl)
theorem dX9_number_48 : decode cX9_number 48 = .ok (.iconst 1, 1) := dk_4 (dk_at dksX9_number_2 3 rfl rfl)
theorem dX9_number_49 : decode cX9_number 49 = .ok (.iadd, 1) := dk_96 (dk_at dksX9_number_2 4 rfl rfl)
theorem dX9_number_50 : decode cX9_number 50 = .ok (.putfield 139, 3) := dk_181 0 139 (dk_at dksX9_number_2 5 rfl rfl)
theorem dX9_number_53 : decode cX9_number 53 = .ok (.iinc 3 1, 3) := dk_132 3 1 (dk_at dksX9_number_2 8 rfl rfl)
theorem dX9_number_56 : decode cX9_number 56 = .ok (.goto (-43), 3) := dk_167 255 213 (dk_at dksX9_number_2 11 rfl rfl)
theorem dX9_number_59 : decode cX9_number 59 = .ok (.iload_n 2, 1) := dk_28 (dk_at dksX9_number_2 14 rfl rfl)
theorem dX9_number_60 : decode cX9_number 60 = .ok (.ireturn, 1) := dk_172 (dk_at dksX9_number_2 15 rfl rfl)
abbrev cX9_isDigit : ByteArray := prog_15_method_17_code
def yX9_isDigit : MethodName := ⟨RX9, "isDigit", "()Z"⟩
def dkwX9_isDigit_1 : List UInt8 := [20, 0, 160, 184, 0, 129, 153, 0, 7, 4, 167, 0, 4, 3, 172]
abbrev dktX9_isDigit_1 : List UInt8 := dkwX9_isDigit_1 ++ []
def dkwX9_isDigit_0 : List UInt8 := [42, 180, 0, 139, 42, 180, 0, 151, 162, 0, 29, 42, 180, 0, 45, 42, 180, 0, 139, 46, 133, 20, 0, 158]
abbrev dktX9_isDigit_0 : List UInt8 := dkwX9_isDigit_0 ++ dktX9_isDigit_1
theorem dksX9_isDigit_0 : cX9_isDigit.data.toList.drop 0 = dktX9_isDigit_0 := by decide +kernel
theorem dksX9_isDigit_1 : cX9_isDigit.data.toList.drop 24 = dktX9_isDigit_1 := dk_seg dksX9_isDigit_0 24 rfl rfl
theorem dX9_isDigit_0 : decode cX9_isDigit 0 = .ok (.aload_n 0, 1) := dk_42 (dk_at dksX9_isDigit_0 0 rfl rfl)
theorem dX9_isDigit_1 : decode cX9_isDigit 1 = .ok (.getfield 139, 3) := dk_180 0 139 (dk_at dksX9_isDigit_0 1 rfl rfl)
theorem dX9_isDigit_4 : decode cX9_isDigit 4 = .ok (.aload_n 0, 1) := dk_42 (dk_at dksX9_isDigit_0 4 rfl rfl)
theorem dX9_isDigit_5 : decode cX9_isDigit 5 = .ok (.getfield 151, 3) := dk_180 0 151 (dk_at dksX9_isDigit_0 5 rfl rfl)
theorem dX9_isDigit_8 : decode cX9_isDigit 8 = .ok (.if_icmp .ge 29, 3) := dk_162 0 29 (dk_at dksX9_isDigit_0 8 rfl rfl)
theorem dX9_isDigit_11 : decode cX9_isDigit 11 = .ok (.aload_n 0, 1) := dk_42 (dk_at dksX9_isDigit_0 11 rfl rfl)
theorem dX9_isDigit_12 : decode cX9_isDigit 12 = .ok (.getfield 45, 3) := dk_180 0 45 (dk_at dksX9_isDigit_0 12 rfl rfl)
theorem dX9_isDigit_15 : decode cX9_isDigit 15 = .ok (.aload_n 0, 1) := dk_42 (dk_at dksX9_isDigit_0 15 rfl rfl)
theorem dX9_isDigit_16 : decode cX9_isDigit 16 = .ok (.getfield 139, 3) := dk_180 0 139 (dk_at dksX9_isDigit_0 16 rfl rfl)
theorem dX9_isDigit_19 : decode cX9_isDigit 19 = .ok (.iaload, 1) := dk_46 (dk_at dksX9_isDigit_0 19 rfl rfl)
theorem dX9_isDigit_20 : decode cX9_isDigit 20 = .ok (.i2l, 1) := dk_133 (dk_at dksX9_isDigit_0 20 rfl rfl)
theorem dX9_isDigit_21 : decode cX9_isDigit 21 = .ok (.ldc2_w 158, 3) := dk_20 0 158 (dk_at dksX9_isDigit_0 21 rfl rfl)
theorem dX9_isDigit_24 : decode cX9_isDigit 24 = .ok (.ldc2_w 160, 3) := dk_20 0 160 (dk_at dksX9_isDigit_1 0 rfl rfl)
theorem dX9_isDigit_27 : decode cX9_isDigit 27 = .ok (.invokestatic 129, 3) := dk_184 0 129 (dk_at dksX9_isDigit_1 3 rfl rfl)
theorem dX9_isDigit_30 : decode cX9_isDigit 30 = .ok (.ifCond .eq 7, 3) := dk_153 0 7 (dk_at dksX9_isDigit_1 6 rfl rfl)
theorem dX9_isDigit_33 : decode cX9_isDigit 33 = .ok (.iconst 1, 1) := dk_4 (dk_at dksX9_isDigit_1 9 rfl rfl)
theorem dX9_isDigit_34 : decode cX9_isDigit 34 = .ok (.goto 4, 3) := dk_167 0 4 (dk_at dksX9_isDigit_1 10 rfl rfl)
theorem dX9_isDigit_37 : decode cX9_isDigit 37 = .ok (.iconst 0, 1) := dk_3 (dk_at dksX9_isDigit_1 13 rfl rfl)
theorem dX9_isDigit_38 : decode cX9_isDigit 38 = .ok (.ireturn, 1) := dk_172 (dk_at dksX9_isDigit_1 14 rfl rfl)
abbrev cX9_digitIn : ByteArray := prog_15_method_21_code
def yX9_digitIn : MethodName := ⟨RX9, "digitIn", "(II)I"⟩
def dkwX9_digitIn_2 : List UInt8 := [180, 0, 45, 42, 180, 0, 139, 4, 100, 46, 16, 48, 100, 172]
abbrev dktX9_digitIn_2 : List UInt8 := dkwX9_digitIn_2 ++ []
def dkwX9_digitIn_1 : List UInt8 := [27, 133, 28, 133, 184, 0, 129, 154, 0, 5, 2, 172, 42, 89, 180, 0, 139, 4, 96, 181, 0, 139, 42]
abbrev dktX9_digitIn_1 : List UInt8 := dkwX9_digitIn_1 ++ dktX9_digitIn_2
def dkwX9_digitIn_0 : List UInt8 := [42, 180, 0, 139, 42, 180, 0, 151, 162, 0, 26, 42, 180, 0, 45, 42, 180, 0, 139, 46, 16, 48, 100, 133]
abbrev dktX9_digitIn_0 : List UInt8 := dkwX9_digitIn_0 ++ dktX9_digitIn_1
theorem dksX9_digitIn_0 : cX9_digitIn.data.toList.drop 0 = dktX9_digitIn_0 := by decide +kernel
theorem dksX9_digitIn_1 : cX9_digitIn.data.toList.drop 24 = dktX9_digitIn_1 := dk_seg dksX9_digitIn_0 24 rfl rfl
theorem dksX9_digitIn_2 : cX9_digitIn.data.toList.drop 47 = dktX9_digitIn_2 := dk_seg dksX9_digitIn_1 23 rfl rfl
theorem dX9_digitIn_0 : decode cX9_digitIn 0 = .ok (.aload_n 0, 1) := dk_42 (dk_at dksX9_digitIn_0 0 rfl rfl)
theorem dX9_digitIn_1 : decode cX9_digitIn 1 = .ok (.getfield 139, 3) := dk_180 0 139 (dk_at dksX9_digitIn_0 1 rfl rfl)
theorem dX9_digitIn_4 : decode cX9_digitIn 4 = .ok (.aload_n 0, 1) := dk_42 (dk_at dksX9_digitIn_0 4 rfl rfl)
theorem dX9_digitIn_5 : decode cX9_digitIn 5 = .ok (.getfield 151, 3) := dk_180 0 151 (dk_at dksX9_digitIn_0 5 rfl rfl)
theorem dX9_digitIn_8 : decode cX9_digitIn 8 = .ok (.if_icmp .ge 26, 3) := dk_162 0 26 (dk_at dksX9_digitIn_0 8 rfl rfl)
theorem dX9_digitIn_11 : decode cX9_digitIn 11 = .ok (.aload_n 0, 1) := dk_42 (dk_at dksX9_digitIn_0 11 rfl rfl)
theorem dX9_digitIn_12 : decode cX9_digitIn 12 = .ok (.getfield 45, 3) := dk_180 0 45 (dk_at dksX9_digitIn_0 12 rfl rfl)
theorem dX9_digitIn_15 : decode cX9_digitIn 15 = .ok (.aload_n 0, 1) := dk_42 (dk_at dksX9_digitIn_0 15 rfl rfl)
theorem dX9_digitIn_16 : decode cX9_digitIn 16 = .ok (.getfield 139, 3) := dk_180 0 139 (dk_at dksX9_digitIn_0 16 rfl rfl)
theorem dX9_digitIn_19 : decode cX9_digitIn 19 = .ok (.iaload, 1) := dk_46 (dk_at dksX9_digitIn_0 19 rfl rfl)
theorem dX9_digitIn_20 : decode cX9_digitIn 20 = .ok (.bipush 48, 2) := dk_16 48 (dk_at dksX9_digitIn_0 20 rfl rfl)
theorem dX9_digitIn_22 : decode cX9_digitIn 22 = .ok (.isub, 1) := dk_100 (dk_at dksX9_digitIn_0 22 rfl rfl)
theorem dX9_digitIn_23 : decode cX9_digitIn 23 = .ok (.i2l, 1) := dk_133 (dk_at dksX9_digitIn_0 23 rfl rfl)
theorem dX9_digitIn_24 : decode cX9_digitIn 24 = .ok (.iload_n 1, 1) := dk_27 (dk_at dksX9_digitIn_1 0 rfl rfl)
theorem dX9_digitIn_25 : decode cX9_digitIn 25 = .ok (.i2l, 1) := dk_133 (dk_at dksX9_digitIn_1 1 rfl rfl)
theorem dX9_digitIn_26 : decode cX9_digitIn 26 = .ok (.iload_n 2, 1) := dk_28 (dk_at dksX9_digitIn_1 2 rfl rfl)
theorem dX9_digitIn_27 : decode cX9_digitIn 27 = .ok (.i2l, 1) := dk_133 (dk_at dksX9_digitIn_1 3 rfl rfl)
theorem dX9_digitIn_28 : decode cX9_digitIn 28 = .ok (.invokestatic 129, 3) := dk_184 0 129 (dk_at dksX9_digitIn_1 4 rfl rfl)
theorem dX9_digitIn_31 : decode cX9_digitIn 31 = .ok (.ifCond .ne 5, 3) := dk_154 0 5 (dk_at dksX9_digitIn_1 7 rfl rfl)
theorem dX9_digitIn_34 : decode cX9_digitIn 34 = .ok (.iconst (-1), 1) := dk_2 (dk_at dksX9_digitIn_1 10 rfl rfl)
theorem dX9_digitIn_35 : decode cX9_digitIn 35 = .ok (.ireturn, 1) := dk_172 (dk_at dksX9_digitIn_1 11 rfl rfl)
theorem dX9_digitIn_36 : decode cX9_digitIn 36 = .ok (.aload_n 0, 1) := dk_42 (dk_at dksX9_digitIn_1 12 rfl rfl)
theorem dX9_digitIn_37 : decode cX9_digitIn 37 = .ok (.dup, 1) := dk_89 (dk_at dksX9_digitIn_1 13 rfl rfl)
theorem dX9_digitIn_38 : decode cX9_digitIn 38 = .ok (.getfield 139, 3) := dk_180 0 139 (dk_at dksX9_digitIn_1 14 rfl rfl)
theorem dX9_digitIn_41 : decode cX9_digitIn 41 = .ok (.iconst 1, 1) := dk_4 (dk_at dksX9_digitIn_1 17 rfl rfl)
theorem dX9_digitIn_42 : decode cX9_digitIn 42 = .ok (.iadd, 1) := dk_96 (dk_at dksX9_digitIn_1 18 rfl rfl)
theorem dX9_digitIn_43 : decode cX9_digitIn 43 = .ok (.putfield 139, 3) := dk_181 0 139 (dk_at dksX9_digitIn_1 19 rfl rfl)
theorem dX9_digitIn_46 : decode cX9_digitIn 46 = .ok (.aload_n 0, 1) := dk_42 (dk_at dksX9_digitIn_1 22 rfl rfl)
theorem dX9_digitIn_47 : decode cX9_digitIn 47 = .ok (.getfield 45, 3) := dk_180 0 45 (dk_at dksX9_digitIn_2 0 rfl rfl)
theorem dX9_digitIn_50 : decode cX9_digitIn 50 = .ok (.aload_n 0, 1) := dk_42 (dk_at dksX9_digitIn_2 3 rfl rfl)
theorem dX9_digitIn_51 : decode cX9_digitIn 51 = .ok (.getfield 139, 3) := dk_180 0 139 (dk_at dksX9_digitIn_2 4 rfl rfl)
theorem dX9_digitIn_54 : decode cX9_digitIn 54 = .ok (.iconst 1, 1) := dk_4 (dk_at dksX9_digitIn_2 7 rfl rfl)
theorem dX9_digitIn_55 : decode cX9_digitIn 55 = .ok (.isub, 1) := dk_100 (dk_at dksX9_digitIn_2 8 rfl rfl)
theorem dX9_digitIn_56 : decode cX9_digitIn 56 = .ok (.iaload, 1) := dk_46 (dk_at dksX9_digitIn_2 9 rfl rfl)
theorem dX9_digitIn_57 : decode cX9_digitIn 57 = .ok (.bipush 48, 2) := dk_16 48 (dk_at dksX9_digitIn_2 10 rfl rfl)
theorem dX9_digitIn_59 : decode cX9_digitIn 59 = .ok (.isub, 1) := dk_100 (dk_at dksX9_digitIn_2 12 rfl rfl)
theorem dX9_digitIn_60 : decode cX9_digitIn 60 = .ok (.ireturn, 1) := dk_172 (dk_at dksX9_digitIn_2 13 rfl rfl)
abbrev cX9_takes : ByteArray := prog_15_method_16_code
def yX9_takes : MethodName := ⟨RX9, "takes", "(I)Z"⟩
def dkwX9_takes_1 : List UInt8 := [4, 167, 0, 4, 3, 61, 42, 89, 180, 0, 139, 28, 184, 0, 154, 96, 181, 0, 139, 28, 172]
abbrev dktX9_takes_1 : List UInt8 := dkwX9_takes_1 ++ []
def dkwX9_takes_0 : List UInt8 := [42, 180, 0, 139, 42, 180, 0, 151, 162, 0, 20, 42, 180, 0, 45, 42, 180, 0, 139, 46, 27, 160, 0, 7]
abbrev dktX9_takes_0 : List UInt8 := dkwX9_takes_0 ++ dktX9_takes_1
theorem dksX9_takes_0 : cX9_takes.data.toList.drop 0 = dktX9_takes_0 := by decide +kernel
theorem dksX9_takes_1 : cX9_takes.data.toList.drop 24 = dktX9_takes_1 := dk_seg dksX9_takes_0 24 rfl rfl
theorem dX9_takes_0 : decode cX9_takes 0 = .ok (.aload_n 0, 1) := dk_42 (dk_at dksX9_takes_0 0 rfl rfl)
theorem dX9_takes_1 : decode cX9_takes 1 = .ok (.getfield 139, 3) := dk_180 0 139 (dk_at dksX9_takes_0 1 rfl rfl)
theorem dX9_takes_4 : decode cX9_takes 4 = .ok (.aload_n 0, 1) := dk_42 (dk_at dksX9_takes_0 4 rfl rfl)
theorem dX9_takes_5 : decode cX9_takes 5 = .ok (.getfield 151, 3) := dk_180 0 151 (dk_at dksX9_takes_0 5 rfl rfl)
theorem dX9_takes_8 : decode cX9_takes 8 = .ok (.if_icmp .ge 20, 3) := dk_162 0 20 (dk_at dksX9_takes_0 8 rfl rfl)
theorem dX9_takes_11 : decode cX9_takes 11 = .ok (.aload_n 0, 1) := dk_42 (dk_at dksX9_takes_0 11 rfl rfl)
theorem dX9_takes_12 : decode cX9_takes 12 = .ok (.getfield 45, 3) := dk_180 0 45 (dk_at dksX9_takes_0 12 rfl rfl)
theorem dX9_takes_15 : decode cX9_takes 15 = .ok (.aload_n 0, 1) := dk_42 (dk_at dksX9_takes_0 15 rfl rfl)
theorem dX9_takes_16 : decode cX9_takes 16 = .ok (.getfield 139, 3) := dk_180 0 139 (dk_at dksX9_takes_0 16 rfl rfl)
theorem dX9_takes_19 : decode cX9_takes 19 = .ok (.iaload, 1) := dk_46 (dk_at dksX9_takes_0 19 rfl rfl)
theorem dX9_takes_20 : decode cX9_takes 20 = .ok (.iload_n 1, 1) := dk_27 (dk_at dksX9_takes_0 20 rfl rfl)
theorem dX9_takes_21 : decode cX9_takes 21 = .ok (.if_icmp .ne 7, 3) := dk_160 0 7 (dk_at dksX9_takes_0 21 rfl rfl)
theorem dX9_takes_24 : decode cX9_takes 24 = .ok (.iconst 1, 1) := dk_4 (dk_at dksX9_takes_1 0 rfl rfl)
theorem dX9_takes_25 : decode cX9_takes 25 = .ok (.goto 4, 3) := dk_167 0 4 (dk_at dksX9_takes_1 1 rfl rfl)
theorem dX9_takes_28 : decode cX9_takes 28 = .ok (.iconst 0, 1) := dk_3 (dk_at dksX9_takes_1 4 rfl rfl)
theorem dX9_takes_29 : decode cX9_takes 29 = .ok (.istore_n 2, 1) := dk_61 (dk_at dksX9_takes_1 5 rfl rfl)
theorem dX9_takes_30 : decode cX9_takes 30 = .ok (.aload_n 0, 1) := dk_42 (dk_at dksX9_takes_1 6 rfl rfl)
theorem dX9_takes_31 : decode cX9_takes 31 = .ok (.dup, 1) := dk_89 (dk_at dksX9_takes_1 7 rfl rfl)
theorem dX9_takes_32 : decode cX9_takes 32 = .ok (.getfield 139, 3) := dk_180 0 139 (dk_at dksX9_takes_1 8 rfl rfl)
theorem dX9_takes_35 : decode cX9_takes 35 = .ok (.iload_n 2, 1) := dk_28 (dk_at dksX9_takes_1 11 rfl rfl)
theorem dX9_takes_36 : decode cX9_takes 36 = .ok (.invokestatic 154, 3) := dk_184 0 154 (dk_at dksX9_takes_1 12 rfl rfl)
theorem dX9_takes_39 : decode cX9_takes 39 = .ok (.iadd, 1) := dk_96 (dk_at dksX9_takes_1 15 rfl rfl)
theorem dX9_takes_40 : decode cX9_takes 40 = .ok (.putfield 139, 3) := dk_181 0 139 (dk_at dksX9_takes_1 16 rfl rfl)
theorem dX9_takes_43 : decode cX9_takes 43 = .ok (.iload_n 2, 1) := dk_28 (dk_at dksX9_takes_1 19 rfl rfl)
theorem dX9_takes_44 : decode cX9_takes 44 = .ok (.ireturn, 1) := dk_172 (dk_at dksX9_takes_1 20 rfl rfl)
abbrev cX9_flag : ByteArray := prog_15_method_6_code
def yX9_flag : MethodName := ⟨RX9, "flag", "(Z)I"⟩
def dkwX9_flag_0 : List UInt8 := [26, 153, 0, 7, 4, 167, 0, 4, 3, 172]
abbrev dktX9_flag_0 : List UInt8 := dkwX9_flag_0 ++ []
theorem dksX9_flag_0 : cX9_flag.data.toList.drop 0 = dktX9_flag_0 := by decide +kernel
theorem dX9_flag_0 : decode cX9_flag 0 = .ok (.iload_n 0, 1) := dk_26 (dk_at dksX9_flag_0 0 rfl rfl)
theorem dX9_flag_1 : decode cX9_flag 1 = .ok (.ifCond .eq 7, 3) := dk_153 0 7 (dk_at dksX9_flag_0 1 rfl rfl)
theorem dX9_flag_4 : decode cX9_flag 4 = .ok (.iconst 1, 1) := dk_4 (dk_at dksX9_flag_0 4 rfl rfl)
theorem dX9_flag_5 : decode cX9_flag 5 = .ok (.goto 4, 3) := dk_167 0 4 (dk_at dksX9_flag_0 5 rfl rfl)
theorem dX9_flag_8 : decode cX9_flag 8 = .ok (.iconst 0, 1) := dk_3 (dk_at dksX9_flag_0 8 rfl rfl)
theorem dX9_flag_9 : decode cX9_flag 9 = .ok (.ireturn, 1) := dk_172 (dk_at dksX9_flag_0 9 rfl rfl)
abbrev cX9_faultOf : ByteArray := prog_15_method_22_code
def yX9_faultOf : MethodName := ⟨RX9, "faultOf", "(IIZ)I"⟩
def dkwX9_faultOf_2 : List UInt8 := [153, 0, 7, 3, 167, 0, 9, 2, 42, 180, 0, 139, 100, 172]
abbrev dktX9_faultOf_2 : List UInt8 := dkwX9_faultOf_2 ++ []
def dkwX9_faultOf_1 : List UInt8 := [164, 0, 20, 21, 4, 154, 0, 11, 42, 180, 0, 139, 28, 161, 0, 7, 2, 28, 100, 172, 21, 4]
abbrev dktX9_faultOf_1 : List UInt8 := dkwX9_faultOf_1 ++ dktX9_faultOf_2
def dkwX9_faultOf_0 : List UInt8 := [29, 153, 0, 18, 42, 180, 0, 139, 42, 180, 0, 151, 160, 0, 7, 4, 167, 0, 4, 3, 54, 4, 27, 28]
abbrev dktX9_faultOf_0 : List UInt8 := dkwX9_faultOf_0 ++ dktX9_faultOf_1
theorem dksX9_faultOf_0 : cX9_faultOf.data.toList.drop 0 = dktX9_faultOf_0 := by decide +kernel
theorem dksX9_faultOf_1 : cX9_faultOf.data.toList.drop 24 = dktX9_faultOf_1 := dk_seg dksX9_faultOf_0 24 rfl rfl
theorem dksX9_faultOf_2 : cX9_faultOf.data.toList.drop 46 = dktX9_faultOf_2 := dk_seg dksX9_faultOf_1 22 rfl rfl
theorem dX9_faultOf_0 : decode cX9_faultOf 0 = .ok (.iload_n 3, 1) := dk_29 (dk_at dksX9_faultOf_0 0 rfl rfl)
theorem dX9_faultOf_1 : decode cX9_faultOf 1 = .ok (.ifCond .eq 18, 3) := dk_153 0 18 (dk_at dksX9_faultOf_0 1 rfl rfl)
theorem dX9_faultOf_4 : decode cX9_faultOf 4 = .ok (.aload_n 0, 1) := dk_42 (dk_at dksX9_faultOf_0 4 rfl rfl)
theorem dX9_faultOf_5 : decode cX9_faultOf 5 = .ok (.getfield 139, 3) := dk_180 0 139 (dk_at dksX9_faultOf_0 5 rfl rfl)
theorem dX9_faultOf_8 : decode cX9_faultOf 8 = .ok (.aload_n 0, 1) := dk_42 (dk_at dksX9_faultOf_0 8 rfl rfl)
theorem dX9_faultOf_9 : decode cX9_faultOf 9 = .ok (.getfield 151, 3) := dk_180 0 151 (dk_at dksX9_faultOf_0 9 rfl rfl)
theorem dX9_faultOf_12 : decode cX9_faultOf 12 = .ok (.if_icmp .ne 7, 3) := dk_160 0 7 (dk_at dksX9_faultOf_0 12 rfl rfl)
theorem dX9_faultOf_15 : decode cX9_faultOf 15 = .ok (.iconst 1, 1) := dk_4 (dk_at dksX9_faultOf_0 15 rfl rfl)
theorem dX9_faultOf_16 : decode cX9_faultOf 16 = .ok (.goto 4, 3) := dk_167 0 4 (dk_at dksX9_faultOf_0 16 rfl rfl)
theorem dX9_faultOf_19 : decode cX9_faultOf 19 = .ok (.iconst 0, 1) := dk_3 (dk_at dksX9_faultOf_0 19 rfl rfl)
theorem dX9_faultOf_20 : decode cX9_faultOf 20 = .ok (.istore 4, 2) := dk_54 4 (dk_at dksX9_faultOf_0 20 rfl rfl)
theorem dX9_faultOf_22 : decode cX9_faultOf 22 = .ok (.iload_n 1, 1) := dk_27 (dk_at dksX9_faultOf_0 22 rfl rfl)
theorem dX9_faultOf_23 : decode cX9_faultOf 23 = .ok (.iload_n 2, 1) := dk_28 (dk_at dksX9_faultOf_0 23 rfl rfl)
theorem dX9_faultOf_24 : decode cX9_faultOf 24 = .ok (.if_icmp .le 20, 3) := dk_164 0 20 (dk_at dksX9_faultOf_1 0 rfl rfl)
theorem dX9_faultOf_27 : decode cX9_faultOf 27 = .ok (.iload 4, 2) := dk_21 4 (dk_at dksX9_faultOf_1 3 rfl rfl)
theorem dX9_faultOf_29 : decode cX9_faultOf 29 = .ok (.ifCond .ne 11, 3) := dk_154 0 11 (dk_at dksX9_faultOf_1 5 rfl rfl)
theorem dX9_faultOf_32 : decode cX9_faultOf 32 = .ok (.aload_n 0, 1) := dk_42 (dk_at dksX9_faultOf_1 8 rfl rfl)
theorem dX9_faultOf_33 : decode cX9_faultOf 33 = .ok (.getfield 139, 3) := dk_180 0 139 (dk_at dksX9_faultOf_1 9 rfl rfl)
theorem dX9_faultOf_36 : decode cX9_faultOf 36 = .ok (.iload_n 2, 1) := dk_28 (dk_at dksX9_faultOf_1 12 rfl rfl)
theorem dX9_faultOf_37 : decode cX9_faultOf 37 = .ok (.if_icmp .lt 7, 3) := dk_161 0 7 (dk_at dksX9_faultOf_1 13 rfl rfl)
theorem dX9_faultOf_40 : decode cX9_faultOf 40 = .ok (.iconst (-1), 1) := dk_2 (dk_at dksX9_faultOf_1 16 rfl rfl)
theorem dX9_faultOf_41 : decode cX9_faultOf 41 = .ok (.iload_n 2, 1) := dk_28 (dk_at dksX9_faultOf_1 17 rfl rfl)
theorem dX9_faultOf_42 : decode cX9_faultOf 42 = .ok (.isub, 1) := dk_100 (dk_at dksX9_faultOf_1 18 rfl rfl)
theorem dX9_faultOf_43 : decode cX9_faultOf 43 = .ok (.ireturn, 1) := dk_172 (dk_at dksX9_faultOf_1 19 rfl rfl)
theorem dX9_faultOf_44 : decode cX9_faultOf 44 = .ok (.iload 4, 2) := dk_21 4 (dk_at dksX9_faultOf_1 20 rfl rfl)
theorem dX9_faultOf_46 : decode cX9_faultOf 46 = .ok (.ifCond .eq 7, 3) := dk_153 0 7 (dk_at dksX9_faultOf_2 0 rfl rfl)
theorem dX9_faultOf_49 : decode cX9_faultOf 49 = .ok (.iconst 0, 1) := dk_3 (dk_at dksX9_faultOf_2 3 rfl rfl)
theorem dX9_faultOf_50 : decode cX9_faultOf 50 = .ok (.goto 9, 3) := dk_167 0 9 (dk_at dksX9_faultOf_2 4 rfl rfl)
theorem dX9_faultOf_53 : decode cX9_faultOf 53 = .ok (.iconst (-1), 1) := dk_2 (dk_at dksX9_faultOf_2 7 rfl rfl)
theorem dX9_faultOf_54 : decode cX9_faultOf 54 = .ok (.aload_n 0, 1) := dk_42 (dk_at dksX9_faultOf_2 8 rfl rfl)
theorem dX9_faultOf_55 : decode cX9_faultOf 55 = .ok (.getfield 139, 3) := dk_180 0 139 (dk_at dksX9_faultOf_2 9 rfl rfl)
theorem dX9_faultOf_58 : decode cX9_faultOf 58 = .ok (.isub, 1) := dk_100 (dk_at dksX9_faultOf_2 12 rfl rfl)
theorem dX9_faultOf_59 : decode cX9_faultOf 59 = .ok (.ireturn, 1) := dk_172 (dk_at dksX9_faultOf_2 13 rfl rfl)
abbrev cX9_weather : ByteArray := prog_15_method_25_code
def yX9_weather : MethodName := ⟨RX9, "weather", "()I"⟩
def dkwX9_weather_4 : List UInt8 := [132, 2, 1, 167, 255, 236, 27, 172]
abbrev dktX9_weather_4 : List UInt8 := dkwX9_weather_4 ++ []
def dkwX9_weather_3 : List UInt8 := [181, 0, 13, 3, 61, 28, 27, 162, 0, 21, 42, 180, 0, 17, 28, 42, 180, 0, 51, 28, 46, 79]
abbrev dktX9_weather_3 : List UInt8 := dkwX9_weather_3 ++ dktX9_weather_4
def dkwX9_weather_2 : List UInt8 := [27, 153, 0, 14, 42, 180, 0, 139, 42, 180, 0, 151, 162, 0, 10, 2, 42, 180, 0, 139, 100, 172, 42, 27]
abbrev dktX9_weather_2 : List UInt8 := dkwX9_weather_2 ++ dktX9_weather_3
def dkwX9_weather_1 : List UInt8 := [182, 0, 172, 155, 0, 21, 42, 180, 0, 51, 27, 42, 18, 210, 182, 0, 212, 79, 132, 1, 1, 167, 255, 226]
abbrev dktX9_weather_1 : List UInt8 := dkwX9_weather_1 ++ dktX9_weather_2
def dkwX9_weather_0 : List UInt8 := [42, 3, 181, 0, 112, 42, 16, 80, 182, 0, 190, 87, 3, 60, 27, 16, 20, 162, 0, 30, 42, 18, 210]
abbrev dktX9_weather_0 : List UInt8 := dkwX9_weather_0 ++ dktX9_weather_1
theorem dksX9_weather_0 : cX9_weather.data.toList.drop 0 = dktX9_weather_0 := by decide +kernel
theorem dksX9_weather_1 : cX9_weather.data.toList.drop 23 = dktX9_weather_1 := dk_seg dksX9_weather_0 23 rfl rfl
theorem dksX9_weather_2 : cX9_weather.data.toList.drop 47 = dktX9_weather_2 := dk_seg dksX9_weather_1 24 rfl rfl
theorem dksX9_weather_3 : cX9_weather.data.toList.drop 71 = dktX9_weather_3 := dk_seg dksX9_weather_2 24 rfl rfl
theorem dksX9_weather_4 : cX9_weather.data.toList.drop 93 = dktX9_weather_4 := dk_seg dksX9_weather_3 22 rfl rfl
theorem dX9_weather_0 : decode cX9_weather 0 = .ok (.aload_n 0, 1) := dk_42 (dk_at dksX9_weather_0 0 rfl rfl)
theorem dX9_weather_1 : decode cX9_weather 1 = .ok (.iconst 0, 1) := dk_3 (dk_at dksX9_weather_0 1 rfl rfl)
theorem dX9_weather_2 : decode cX9_weather 2 = .ok (.putfield 112, 3) := dk_181 0 112 (dk_at dksX9_weather_0 2 rfl rfl)
theorem dX9_weather_5 : decode cX9_weather 5 = .ok (.aload_n 0, 1) := dk_42 (dk_at dksX9_weather_0 5 rfl rfl)
theorem dX9_weather_6 : decode cX9_weather 6 = .ok (.bipush 80, 2) := dk_16 80 (dk_at dksX9_weather_0 6 rfl rfl)
theorem dX9_weather_8 : decode cX9_weather 8 = .ok (.invokevirtual 190, 3) := dk_182 0 190 (dk_at dksX9_weather_0 8 rfl rfl)
theorem dX9_weather_11 : decode cX9_weather 11 = .ok (.pop, 1) := dk_87 (dk_at dksX9_weather_0 11 rfl rfl)
theorem dX9_weather_12 : decode cX9_weather 12 = .ok (.iconst 0, 1) := dk_3 (dk_at dksX9_weather_0 12 rfl rfl)
theorem dX9_weather_13 : decode cX9_weather 13 = .ok (.istore_n 1, 1) := dk_60 (dk_at dksX9_weather_0 13 rfl rfl)
theorem dX9_weather_14 : decode cX9_weather 14 = .ok (.iload_n 1, 1) := dk_27 (dk_at dksX9_weather_0 14 rfl rfl)
theorem dX9_weather_15 : decode cX9_weather 15 = .ok (.bipush 20, 2) := dk_16 20 (dk_at dksX9_weather_0 15 rfl rfl)
theorem dX9_weather_17 : decode cX9_weather 17 = .ok (.if_icmp .ge 30, 3) := dk_162 0 30 (dk_at dksX9_weather_0 17 rfl rfl)
theorem dX9_weather_20 : decode cX9_weather 20 = .ok (.aload_n 0, 1) := dk_42 (dk_at dksX9_weather_0 20 rfl rfl)
theorem dX9_weather_21 : decode cX9_weather 21 = .ok (.ldc 210, 2) := dk_18 210 (dk_at dksX9_weather_0 21 rfl rfl)
theorem dX9_weather_23 : decode cX9_weather 23 = .ok (.invokevirtual 172, 3) := dk_182 0 172 (dk_at dksX9_weather_1 0 rfl rfl)
theorem dX9_weather_26 : decode cX9_weather 26 = .ok (.ifCond .lt 21, 3) := dk_155 0 21 (dk_at dksX9_weather_1 3 rfl rfl)
theorem dX9_weather_29 : decode cX9_weather 29 = .ok (.aload_n 0, 1) := dk_42 (dk_at dksX9_weather_1 6 rfl rfl)
theorem dX9_weather_30 : decode cX9_weather 30 = .ok (.getfield 51, 3) := dk_180 0 51 (dk_at dksX9_weather_1 7 rfl rfl)
theorem dX9_weather_33 : decode cX9_weather 33 = .ok (.iload_n 1, 1) := dk_27 (dk_at dksX9_weather_1 10 rfl rfl)
theorem dX9_weather_34 : decode cX9_weather 34 = .ok (.aload_n 0, 1) := dk_42 (dk_at dksX9_weather_1 11 rfl rfl)
theorem dX9_weather_35 : decode cX9_weather 35 = .ok (.ldc 210, 2) := dk_18 210 (dk_at dksX9_weather_1 12 rfl rfl)
theorem dX9_weather_37 : decode cX9_weather 37 = .ok (.invokevirtual 212, 3) := dk_182 0 212 (dk_at dksX9_weather_1 14 rfl rfl)
theorem dX9_weather_40 : decode cX9_weather 40 = .ok (.iastore, 1) := dk_79 (dk_at dksX9_weather_1 17 rfl rfl)
theorem dX9_weather_41 : decode cX9_weather 41 = .ok (.iinc 1 1, 3) := dk_132 1 1 (dk_at dksX9_weather_1 18 rfl rfl)
theorem dX9_weather_44 : decode cX9_weather 44 = .ok (.goto (-30), 3) := dk_167 255 226 (dk_at dksX9_weather_1 21 rfl rfl)
theorem dX9_weather_47 : decode cX9_weather 47 = .ok (.iload_n 1, 1) := dk_27 (dk_at dksX9_weather_2 0 rfl rfl)
theorem dX9_weather_48 : decode cX9_weather 48 = .ok (.ifCond .eq 14, 3) := dk_153 0 14 (dk_at dksX9_weather_2 1 rfl rfl)
theorem dX9_weather_51 : decode cX9_weather 51 = .ok (.aload_n 0, 1) := dk_42 (dk_at dksX9_weather_2 4 rfl rfl)
theorem dX9_weather_52 : decode cX9_weather 52 = .ok (.getfield 139, 3) := dk_180 0 139 (dk_at dksX9_weather_2 5 rfl rfl)
theorem dX9_weather_55 : decode cX9_weather 55 = .ok (.aload_n 0, 1) := dk_42 (dk_at dksX9_weather_2 8 rfl rfl)
theorem dX9_weather_56 : decode cX9_weather 56 = .ok (.getfield 151, 3) := dk_180 0 151 (dk_at dksX9_weather_2 9 rfl rfl)
theorem dX9_weather_59 : decode cX9_weather 59 = .ok (.if_icmp .ge 10, 3) := dk_162 0 10 (dk_at dksX9_weather_2 12 rfl rfl)
theorem dX9_weather_62 : decode cX9_weather 62 = .ok (.iconst (-1), 1) := dk_2 (dk_at dksX9_weather_2 15 rfl rfl)
theorem dX9_weather_63 : decode cX9_weather 63 = .ok (.aload_n 0, 1) := dk_42 (dk_at dksX9_weather_2 16 rfl rfl)
theorem dX9_weather_64 : decode cX9_weather 64 = .ok (.getfield 139, 3) := dk_180 0 139 (dk_at dksX9_weather_2 17 rfl rfl)
theorem dX9_weather_67 : decode cX9_weather 67 = .ok (.isub, 1) := dk_100 (dk_at dksX9_weather_2 20 rfl rfl)
theorem dX9_weather_68 : decode cX9_weather 68 = .ok (.ireturn, 1) := dk_172 (dk_at dksX9_weather_2 21 rfl rfl)
theorem dX9_weather_69 : decode cX9_weather 69 = .ok (.aload_n 0, 1) := dk_42 (dk_at dksX9_weather_2 22 rfl rfl)
theorem dX9_weather_70 : decode cX9_weather 70 = .ok (.iload_n 1, 1) := dk_27 (dk_at dksX9_weather_2 23 rfl rfl)
theorem dX9_weather_71 : decode cX9_weather 71 = .ok (.putfield 13, 3) := dk_181 0 13 (dk_at dksX9_weather_3 0 rfl rfl)
theorem dX9_weather_74 : decode cX9_weather 74 = .ok (.iconst 0, 1) := dk_3 (dk_at dksX9_weather_3 3 rfl rfl)
theorem dX9_weather_75 : decode cX9_weather 75 = .ok (.istore_n 2, 1) := dk_61 (dk_at dksX9_weather_3 4 rfl rfl)
theorem dX9_weather_76 : decode cX9_weather 76 = .ok (.iload_n 2, 1) := dk_28 (dk_at dksX9_weather_3 5 rfl rfl)
theorem dX9_weather_77 : decode cX9_weather 77 = .ok (.iload_n 1, 1) := dk_27 (dk_at dksX9_weather_3 6 rfl rfl)
theorem dX9_weather_78 : decode cX9_weather 78 = .ok (.if_icmp .ge 21, 3) := dk_162 0 21 (dk_at dksX9_weather_3 7 rfl rfl)
theorem dX9_weather_81 : decode cX9_weather 81 = .ok (.aload_n 0, 1) := dk_42 (dk_at dksX9_weather_3 10 rfl rfl)
theorem dX9_weather_82 : decode cX9_weather 82 = .ok (.getfield 17, 3) := dk_180 0 17 (dk_at dksX9_weather_3 11 rfl rfl)
theorem dX9_weather_85 : decode cX9_weather 85 = .ok (.iload_n 2, 1) := dk_28 (dk_at dksX9_weather_3 14 rfl rfl)
theorem dX9_weather_86 : decode cX9_weather 86 = .ok (.aload_n 0, 1) := dk_42 (dk_at dksX9_weather_3 15 rfl rfl)
theorem dX9_weather_87 : decode cX9_weather 87 = .ok (.getfield 51, 3) := dk_180 0 51 (dk_at dksX9_weather_3 16 rfl rfl)
theorem dX9_weather_90 : decode cX9_weather 90 = .ok (.iload_n 2, 1) := dk_28 (dk_at dksX9_weather_3 19 rfl rfl)
theorem dX9_weather_91 : decode cX9_weather 91 = .ok (.iaload, 1) := dk_46 (dk_at dksX9_weather_3 20 rfl rfl)
theorem dX9_weather_92 : decode cX9_weather 92 = .ok (.iastore, 1) := dk_79 (dk_at dksX9_weather_3 21 rfl rfl)
theorem dX9_weather_93 : decode cX9_weather 93 = .ok (.iinc 2 1, 3) := dk_132 2 1 (dk_at dksX9_weather_4 0 rfl rfl)
theorem dX9_weather_96 : decode cX9_weather 96 = .ok (.goto (-20), 3) := dk_167 255 236 (dk_at dksX9_weather_4 3 rfl rfl)
theorem dX9_weather_99 : decode cX9_weather 99 = .ok (.iload_n 1, 1) := dk_27 (dk_at dksX9_weather_4 6 rfl rfl)
theorem dX9_weather_100 : decode cX9_weather 100 = .ok (.ireturn, 1) := dk_172 (dk_at dksX9_weather_4 7 rfl rfl)
abbrev cX9_among : ByteArray := prog_15_method_18_code
def yX9_among : MethodName := ⟨RX9, "among", "(Ljava/lang/String;)I"⟩
def dkwX9_among_2 : List UInt8 := [172]
abbrev dktX9_among_2 : List UInt8 := dkwX9_among_2 ++ []
def dkwX9_among_1 : List UInt8 := [182, 0, 168, 42, 180, 0, 45, 42, 180, 0, 139, 46, 160, 0, 5, 28, 172, 132, 2, 1, 167, 255, 215, 2]
abbrev dktX9_among_1 : List UInt8 := dkwX9_among_1 ++ dktX9_among_2
def dkwX9_among_0 : List UInt8 := [3, 61, 28, 43, 182, 0, 162, 162, 0, 39, 42, 180, 0, 139, 42, 180, 0, 151, 162, 0, 28, 43, 28]
abbrev dktX9_among_0 : List UInt8 := dkwX9_among_0 ++ dktX9_among_1
theorem dksX9_among_0 : cX9_among.data.toList.drop 0 = dktX9_among_0 := by decide +kernel
theorem dksX9_among_1 : cX9_among.data.toList.drop 23 = dktX9_among_1 := dk_seg dksX9_among_0 23 rfl rfl
theorem dksX9_among_2 : cX9_among.data.toList.drop 47 = dktX9_among_2 := dk_seg dksX9_among_1 24 rfl rfl
theorem dX9_among_0 : decode cX9_among 0 = .ok (.iconst 0, 1) := dk_3 (dk_at dksX9_among_0 0 rfl rfl)
theorem dX9_among_1 : decode cX9_among 1 = .ok (.istore_n 2, 1) := dk_61 (dk_at dksX9_among_0 1 rfl rfl)
theorem dX9_among_2 : decode cX9_among 2 = .ok (.iload_n 2, 1) := dk_28 (dk_at dksX9_among_0 2 rfl rfl)
theorem dX9_among_3 : decode cX9_among 3 = .ok (.aload_n 1, 1) := dk_43 (dk_at dksX9_among_0 3 rfl rfl)
theorem dX9_among_4 : decode cX9_among 4 = .ok (.invokevirtual 162, 3) := dk_182 0 162 (dk_at dksX9_among_0 4 rfl rfl)
theorem dX9_among_7 : decode cX9_among 7 = .ok (.if_icmp .ge 39, 3) := dk_162 0 39 (dk_at dksX9_among_0 7 rfl rfl)
theorem dX9_among_10 : decode cX9_among 10 = .ok (.aload_n 0, 1) := dk_42 (dk_at dksX9_among_0 10 rfl rfl)
theorem dX9_among_11 : decode cX9_among 11 = .ok (.getfield 139, 3) := dk_180 0 139 (dk_at dksX9_among_0 11 rfl rfl)
theorem dX9_among_14 : decode cX9_among 14 = .ok (.aload_n 0, 1) := dk_42 (dk_at dksX9_among_0 14 rfl rfl)
theorem dX9_among_15 : decode cX9_among 15 = .ok (.getfield 151, 3) := dk_180 0 151 (dk_at dksX9_among_0 15 rfl rfl)
theorem dX9_among_18 : decode cX9_among 18 = .ok (.if_icmp .ge 28, 3) := dk_162 0 28 (dk_at dksX9_among_0 18 rfl rfl)
theorem dX9_among_21 : decode cX9_among 21 = .ok (.aload_n 1, 1) := dk_43 (dk_at dksX9_among_0 21 rfl rfl)
theorem dX9_among_22 : decode cX9_among 22 = .ok (.iload_n 2, 1) := dk_28 (dk_at dksX9_among_0 22 rfl rfl)
theorem dX9_among_23 : decode cX9_among 23 = .ok (.invokevirtual 168, 3) := dk_182 0 168 (dk_at dksX9_among_1 0 rfl rfl)
theorem dX9_among_26 : decode cX9_among 26 = .ok (.aload_n 0, 1) := dk_42 (dk_at dksX9_among_1 3 rfl rfl)
theorem dX9_among_27 : decode cX9_among 27 = .ok (.getfield 45, 3) := dk_180 0 45 (dk_at dksX9_among_1 4 rfl rfl)
theorem dX9_among_30 : decode cX9_among 30 = .ok (.aload_n 0, 1) := dk_42 (dk_at dksX9_among_1 7 rfl rfl)
theorem dX9_among_31 : decode cX9_among 31 = .ok (.getfield 139, 3) := dk_180 0 139 (dk_at dksX9_among_1 8 rfl rfl)
theorem dX9_among_34 : decode cX9_among 34 = .ok (.iaload, 1) := dk_46 (dk_at dksX9_among_1 11 rfl rfl)
theorem dX9_among_35 : decode cX9_among 35 = .ok (.if_icmp .ne 5, 3) := dk_160 0 5 (dk_at dksX9_among_1 12 rfl rfl)
theorem dX9_among_38 : decode cX9_among 38 = .ok (.iload_n 2, 1) := dk_28 (dk_at dksX9_among_1 15 rfl rfl)
theorem dX9_among_39 : decode cX9_among 39 = .ok (.ireturn, 1) := dk_172 (dk_at dksX9_among_1 16 rfl rfl)
theorem dX9_among_40 : decode cX9_among 40 = .ok (.iinc 2 1, 3) := dk_132 2 1 (dk_at dksX9_among_1 17 rfl rfl)
theorem dX9_among_43 : decode cX9_among 43 = .ok (.goto (-41), 3) := dk_167 255 215 (dk_at dksX9_among_1 20 rfl rfl)
theorem dX9_among_46 : decode cX9_among 46 = .ok (.iconst (-1), 1) := dk_2 (dk_at dksX9_among_1 23 rfl rfl)
theorem dX9_among_47 : decode cX9_among 47 = .ok (.ireturn, 1) := dk_172 (dk_at dksX9_among_2 0 rfl rfl)
abbrev cX9_takesOf : ByteArray := prog_15_method_19_code
def yX9_takesOf : MethodName := ⟨RX9, "takesOf", "(Ljava/lang/String;)I"⟩
def dkwX9_takesOf_1 : List UInt8 := [181, 0, 139, 28, 172]
abbrev dktX9_takesOf_1 : List UInt8 := dkwX9_takesOf_1 ++ []
def dkwX9_takesOf_0 : List UInt8 := [42, 43, 182, 0, 172, 61, 42, 89, 180, 0, 139, 28, 155, 0, 7, 4, 167, 0, 4, 3, 184, 0, 154, 96]
abbrev dktX9_takesOf_0 : List UInt8 := dkwX9_takesOf_0 ++ dktX9_takesOf_1
theorem dksX9_takesOf_0 : cX9_takesOf.data.toList.drop 0 = dktX9_takesOf_0 := by decide +kernel
theorem dksX9_takesOf_1 : cX9_takesOf.data.toList.drop 24 = dktX9_takesOf_1 := dk_seg dksX9_takesOf_0 24 rfl rfl
theorem dX9_takesOf_0 : decode cX9_takesOf 0 = .ok (.aload_n 0, 1) := dk_42 (dk_at dksX9_takesOf_0 0 rfl rfl)
theorem dX9_takesOf_1 : decode cX9_takesOf 1 = .ok (.aload_n 1, 1) := dk_43 (dk_at dksX9_takesOf_0 1 rfl rfl)
theorem dX9_takesOf_2 : decode cX9_takesOf 2 = .ok (.invokevirtual 172, 3) := dk_182 0 172 (dk_at dksX9_takesOf_0 2 rfl rfl)
theorem dX9_takesOf_5 : decode cX9_takesOf 5 = .ok (.istore_n 2, 1) := dk_61 (dk_at dksX9_takesOf_0 5 rfl rfl)
theorem dX9_takesOf_6 : decode cX9_takesOf 6 = .ok (.aload_n 0, 1) := dk_42 (dk_at dksX9_takesOf_0 6 rfl rfl)
theorem dX9_takesOf_7 : decode cX9_takesOf 7 = .ok (.dup, 1) := dk_89 (dk_at dksX9_takesOf_0 7 rfl rfl)
theorem dX9_takesOf_8 : decode cX9_takesOf 8 = .ok (.getfield 139, 3) := dk_180 0 139 (dk_at dksX9_takesOf_0 8 rfl rfl)
theorem dX9_takesOf_11 : decode cX9_takesOf 11 = .ok (.iload_n 2, 1) := dk_28 (dk_at dksX9_takesOf_0 11 rfl rfl)
theorem dX9_takesOf_12 : decode cX9_takesOf 12 = .ok (.ifCond .lt 7, 3) := dk_155 0 7 (dk_at dksX9_takesOf_0 12 rfl rfl)
theorem dX9_takesOf_15 : decode cX9_takesOf 15 = .ok (.iconst 1, 1) := dk_4 (dk_at dksX9_takesOf_0 15 rfl rfl)
theorem dX9_takesOf_16 : decode cX9_takesOf 16 = .ok (.goto 4, 3) := dk_167 0 4 (dk_at dksX9_takesOf_0 16 rfl rfl)
theorem dX9_takesOf_19 : decode cX9_takesOf 19 = .ok (.iconst 0, 1) := dk_3 (dk_at dksX9_takesOf_0 19 rfl rfl)
theorem dX9_takesOf_20 : decode cX9_takesOf 20 = .ok (.invokestatic 154, 3) := dk_184 0 154 (dk_at dksX9_takesOf_0 20 rfl rfl)
theorem dX9_takesOf_23 : decode cX9_takesOf 23 = .ok (.iadd, 1) := dk_96 (dk_at dksX9_takesOf_0 23 rfl rfl)
theorem dX9_takesOf_24 : decode cX9_takesOf 24 = .ok (.putfield 139, 3) := dk_181 0 139 (dk_at dksX9_takesOf_1 0 rfl rfl)
theorem dX9_takesOf_27 : decode cX9_takesOf 27 = .ok (.iload_n 2, 1) := dk_28 (dk_at dksX9_takesOf_1 3 rfl rfl)
theorem dX9_takesOf_28 : decode cX9_takesOf 28 = .ok (.ireturn, 1) := dk_172 (dk_at dksX9_takesOf_1 4 rfl rfl)
abbrev cX9_islands : ByteArray := prog_15_method_27_code
def yX9_islands : MethodName := ⟨RX9, "islands", "()I"⟩
def dkwX9_islands_7 : List UInt8 := [180, 0, 180, 172]
abbrev dktX9_islands_7 : List UInt8 := dkwX9_islands_7 ++ []
def dkwX9_islands_6 : List UInt8 := [21, 5, 104, 5, 96, 46, 79, 42, 89, 180, 0, 133, 4, 96, 181, 0, 133, 132, 5, 1, 167, 255, 176, 42]
abbrev dktX9_islands_6 : List UInt8 := dkwX9_islands_6 ++ dktX9_islands_7
def dkwX9_islands_5 : List UInt8 := [180, 0, 48, 6, 21, 5, 104, 4, 96, 46, 79, 42, 180, 0, 36, 42, 180, 0, 133, 42, 180, 0, 48, 6]
abbrev dktX9_islands_5 : List UInt8 := dkwX9_islands_5 ++ dktX9_islands_6
def dkwX9_islands_4 : List UInt8 := [180, 0, 133, 42, 180, 0, 48, 6, 21, 5, 104, 46, 79, 42, 180, 0, 33, 42, 180, 0, 133, 42]
abbrev dktX9_islands_4 : List UInt8 := dkwX9_islands_4 ++ dktX9_islands_5
def dkwX9_islands_3 : List UInt8 := [156, 0, 6, 21, 4, 172, 3, 54, 5, 21, 5, 42, 180, 0, 180, 162, 0, 77, 42, 180, 0, 30, 42]
abbrev dktX9_islands_3 : List UInt8 := dkwX9_islands_3 ++ dktX9_islands_4
def dkwX9_islands_2 : List UInt8 := [153, 0, 7, 4, 167, 0, 4, 3, 62, 167, 255, 228, 42, 27, 16, 41, 28, 182, 0, 200, 54, 4, 21, 4]
abbrev dktX9_islands_2 : List UInt8 := dkwX9_islands_2 ++ dktX9_islands_3
def dkwX9_islands_1 : List UInt8 := [167, 0, 4, 3, 62, 29, 153, 0, 30, 42, 182, 0, 215, 61, 28, 153, 0, 16, 42, 16, 59, 182, 0, 196]
abbrev dktX9_islands_1 : List UInt8 := dkwX9_islands_1 ++ dktX9_islands_2
def dkwX9_islands_0 : List UInt8 := [42, 3, 181, 0, 112, 42, 16, 41, 182, 0, 190, 60, 42, 3, 181, 0, 180, 4, 61, 27, 158, 0, 7, 4]
abbrev dktX9_islands_0 : List UInt8 := dkwX9_islands_0 ++ dktX9_islands_1
theorem dksX9_islands_0 : cX9_islands.data.toList.drop 0 = dktX9_islands_0 := by decide +kernel
theorem dksX9_islands_1 : cX9_islands.data.toList.drop 24 = dktX9_islands_1 := dk_seg dksX9_islands_0 24 rfl rfl
theorem dksX9_islands_2 : cX9_islands.data.toList.drop 48 = dktX9_islands_2 := dk_seg dksX9_islands_1 24 rfl rfl
theorem dksX9_islands_3 : cX9_islands.data.toList.drop 72 = dktX9_islands_3 := dk_seg dksX9_islands_2 24 rfl rfl
theorem dksX9_islands_4 : cX9_islands.data.toList.drop 95 = dktX9_islands_4 := dk_seg dksX9_islands_3 23 rfl rfl
theorem dksX9_islands_5 : cX9_islands.data.toList.drop 117 = dktX9_islands_5 := dk_seg dksX9_islands_4 22 rfl rfl
theorem dksX9_islands_6 : cX9_islands.data.toList.drop 141 = dktX9_islands_6 := dk_seg dksX9_islands_5 24 rfl rfl
theorem dksX9_islands_7 : cX9_islands.data.toList.drop 165 = dktX9_islands_7 := dk_seg dksX9_islands_6 24 rfl rfl
theorem dX9_islands_0 : decode cX9_islands 0 = .ok (.aload_n 0, 1) := dk_42 (dk_at dksX9_islands_0 0 rfl rfl)
theorem dX9_islands_1 : decode cX9_islands 1 = .ok (.iconst 0, 1) := dk_3 (dk_at dksX9_islands_0 1 rfl rfl)
theorem dX9_islands_2 : decode cX9_islands 2 = .ok (.putfield 112, 3) := dk_181 0 112 (dk_at dksX9_islands_0 2 rfl rfl)
theorem dX9_islands_5 : decode cX9_islands 5 = .ok (.aload_n 0, 1) := dk_42 (dk_at dksX9_islands_0 5 rfl rfl)
theorem dX9_islands_6 : decode cX9_islands 6 = .ok (.bipush 41, 2) := dk_16 41 (dk_at dksX9_islands_0 6 rfl rfl)
theorem dX9_islands_8 : decode cX9_islands 8 = .ok (.invokevirtual 190, 3) := dk_182 0 190 (dk_at dksX9_islands_0 8 rfl rfl)
theorem dX9_islands_11 : decode cX9_islands 11 = .ok (.istore_n 1, 1) := dk_60 (dk_at dksX9_islands_0 11 rfl rfl)
theorem dX9_islands_12 : decode cX9_islands 12 = .ok (.aload_n 0, 1) := dk_42 (dk_at dksX9_islands_0 12 rfl rfl)
theorem dX9_islands_13 : decode cX9_islands 13 = .ok (.iconst 0, 1) := dk_3 (dk_at dksX9_islands_0 13 rfl rfl)
theorem dX9_islands_14 : decode cX9_islands 14 = .ok (.putfield 180, 3) := dk_181 0 180 (dk_at dksX9_islands_0 14 rfl rfl)
theorem dX9_islands_17 : decode cX9_islands 17 = .ok (.iconst 1, 1) := dk_4 (dk_at dksX9_islands_0 17 rfl rfl)
theorem dX9_islands_18 : decode cX9_islands 18 = .ok (.istore_n 2, 1) := dk_61 (dk_at dksX9_islands_0 18 rfl rfl)
theorem dX9_islands_19 : decode cX9_islands 19 = .ok (.iload_n 1, 1) := dk_27 (dk_at dksX9_islands_0 19 rfl rfl)
theorem dX9_islands_20 : decode cX9_islands 20 = .ok (.ifCond .le 7, 3) := dk_158 0 7 (dk_at dksX9_islands_0 20 rfl rfl)
theorem dX9_islands_23 : decode cX9_islands 23 = .ok (.iconst 1, 1) := dk_4 (dk_at dksX9_islands_0 23 rfl rfl)
theorem dX9_islands_24 : decode cX9_islands 24 = .ok (.goto 4, 3) := dk_167 0 4 (dk_at dksX9_islands_1 0 rfl rfl)
theorem dX9_islands_27 : decode cX9_islands 27 = .ok (.iconst 0, 1) := dk_3 (dk_at dksX9_islands_1 3 rfl rfl)
theorem dX9_islands_28 : decode cX9_islands 28 = .ok (.istore_n 3, 1) := dk_62 (dk_at dksX9_islands_1 4 rfl rfl)
theorem dX9_islands_29 : decode cX9_islands 29 = .ok (.iload_n 3, 1) := dk_29 (dk_at dksX9_islands_1 5 rfl rfl)
theorem dX9_islands_30 : decode cX9_islands 30 = .ok (.ifCond .eq 30, 3) := dk_153 0 30 (dk_at dksX9_islands_1 6 rfl rfl)
theorem dX9_islands_33 : decode cX9_islands 33 = .ok (.aload_n 0, 1) := dk_42 (dk_at dksX9_islands_1 9 rfl rfl)
theorem dX9_islands_34 : decode cX9_islands 34 = .ok (.invokevirtual 215, 3) := dk_182 0 215 (dk_at dksX9_islands_1 10 rfl rfl)
theorem dX9_islands_37 : decode cX9_islands 37 = .ok (.istore_n 2, 1) := dk_61 (dk_at dksX9_islands_1 13 rfl rfl)
theorem dX9_islands_38 : decode cX9_islands 38 = .ok (.iload_n 2, 1) := dk_28 (dk_at dksX9_islands_1 14 rfl rfl)
theorem dX9_islands_39 : decode cX9_islands 39 = .ok (.ifCond .eq 16, 3) := dk_153 0 16 (dk_at dksX9_islands_1 15 rfl rfl)
theorem dX9_islands_42 : decode cX9_islands 42 = .ok (.aload_n 0, 1) := dk_42 (dk_at dksX9_islands_1 18 rfl rfl)
theorem dX9_islands_43 : decode cX9_islands 43 = .ok (.bipush 59, 2) := dk_16 59 (dk_at dksX9_islands_1 19 rfl rfl)
theorem dX9_islands_45 : decode cX9_islands 45 = .ok (.invokevirtual 196, 3) := dk_182 0 196 (dk_at dksX9_islands_1 21 rfl rfl)
theorem dX9_islands_48 : decode cX9_islands 48 = .ok (.ifCond .eq 7, 3) := dk_153 0 7 (dk_at dksX9_islands_2 0 rfl rfl)
theorem dX9_islands_51 : decode cX9_islands 51 = .ok (.iconst 1, 1) := dk_4 (dk_at dksX9_islands_2 3 rfl rfl)
theorem dX9_islands_52 : decode cX9_islands 52 = .ok (.goto 4, 3) := dk_167 0 4 (dk_at dksX9_islands_2 4 rfl rfl)
theorem dX9_islands_55 : decode cX9_islands 55 = .ok (.iconst 0, 1) := dk_3 (dk_at dksX9_islands_2 7 rfl rfl)
theorem dX9_islands_56 : decode cX9_islands 56 = .ok (.istore_n 3, 1) := dk_62 (dk_at dksX9_islands_2 8 rfl rfl)
theorem dX9_islands_57 : decode cX9_islands 57 = .ok (.goto (-28), 3) := dk_167 255 228 (dk_at dksX9_islands_2 9 rfl rfl)
theorem dX9_islands_60 : decode cX9_islands 60 = .ok (.aload_n 0, 1) := dk_42 (dk_at dksX9_islands_2 12 rfl rfl)
theorem dX9_islands_61 : decode cX9_islands 61 = .ok (.iload_n 1, 1) := dk_27 (dk_at dksX9_islands_2 13 rfl rfl)
theorem dX9_islands_62 : decode cX9_islands 62 = .ok (.bipush 41, 2) := dk_16 41 (dk_at dksX9_islands_2 14 rfl rfl)
theorem dX9_islands_64 : decode cX9_islands 64 = .ok (.iload_n 2, 1) := dk_28 (dk_at dksX9_islands_2 16 rfl rfl)
theorem dX9_islands_65 : decode cX9_islands 65 = .ok (.invokevirtual 200, 3) := dk_182 0 200 (dk_at dksX9_islands_2 17 rfl rfl)
theorem dX9_islands_68 : decode cX9_islands 68 = .ok (.istore 4, 2) := dk_54 4 (dk_at dksX9_islands_2 20 rfl rfl)
theorem dX9_islands_70 : decode cX9_islands 70 = .ok (.iload 4, 2) := dk_21 4 (dk_at dksX9_islands_2 22 rfl rfl)
theorem dX9_islands_72 : decode cX9_islands 72 = .ok (.ifCond .ge 6, 3) := dk_156 0 6 (dk_at dksX9_islands_3 0 rfl rfl)
theorem dX9_islands_75 : decode cX9_islands 75 = .ok (.iload 4, 2) := dk_21 4 (dk_at dksX9_islands_3 3 rfl rfl)
theorem dX9_islands_77 : decode cX9_islands 77 = .ok (.ireturn, 1) := dk_172 (dk_at dksX9_islands_3 5 rfl rfl)
theorem dX9_islands_78 : decode cX9_islands 78 = .ok (.iconst 0, 1) := dk_3 (dk_at dksX9_islands_3 6 rfl rfl)
theorem dX9_islands_79 : decode cX9_islands 79 = .ok (.istore 5, 2) := dk_54 5 (dk_at dksX9_islands_3 7 rfl rfl)
theorem dX9_islands_81 : decode cX9_islands 81 = .ok (.iload 5, 2) := dk_21 5 (dk_at dksX9_islands_3 9 rfl rfl)
theorem dX9_islands_83 : decode cX9_islands 83 = .ok (.aload_n 0, 1) := dk_42 (dk_at dksX9_islands_3 11 rfl rfl)
theorem dX9_islands_84 : decode cX9_islands 84 = .ok (.getfield 180, 3) := dk_180 0 180 (dk_at dksX9_islands_3 12 rfl rfl)
theorem dX9_islands_87 : decode cX9_islands 87 = .ok (.if_icmp .ge 77, 3) := dk_162 0 77 (dk_at dksX9_islands_3 15 rfl rfl)
theorem dX9_islands_90 : decode cX9_islands 90 = .ok (.aload_n 0, 1) := dk_42 (dk_at dksX9_islands_3 18 rfl rfl)
theorem dX9_islands_91 : decode cX9_islands 91 = .ok (.getfield 30, 3) := dk_180 0 30 (dk_at dksX9_islands_3 19 rfl rfl)
theorem dX9_islands_94 : decode cX9_islands 94 = .ok (.aload_n 0, 1) := dk_42 (dk_at dksX9_islands_3 22 rfl rfl)
theorem dX9_islands_95 : decode cX9_islands 95 = .ok (.getfield 133, 3) := dk_180 0 133 (dk_at dksX9_islands_4 0 rfl rfl)
theorem dX9_islands_98 : decode cX9_islands 98 = .ok (.aload_n 0, 1) := dk_42 (dk_at dksX9_islands_4 3 rfl rfl)
theorem dX9_islands_99 : decode cX9_islands 99 = .ok (.getfield 48, 3) := dk_180 0 48 (dk_at dksX9_islands_4 4 rfl rfl)
theorem dX9_islands_102 : decode cX9_islands 102 = .ok (.iconst 3, 1) := dk_6 (dk_at dksX9_islands_4 7 rfl rfl)
theorem dX9_islands_103 : decode cX9_islands 103 = .ok (.iload 5, 2) := dk_21 5 (dk_at dksX9_islands_4 8 rfl rfl)
theorem dX9_islands_105 : decode cX9_islands 105 = .ok (.imul, 1) := dk_104 (dk_at dksX9_islands_4 10 rfl rfl)
theorem dX9_islands_106 : decode cX9_islands 106 = .ok (.iaload, 1) := dk_46 (dk_at dksX9_islands_4 11 rfl rfl)
theorem dX9_islands_107 : decode cX9_islands 107 = .ok (.iastore, 1) := dk_79 (dk_at dksX9_islands_4 12 rfl rfl)
theorem dX9_islands_108 : decode cX9_islands 108 = .ok (.aload_n 0, 1) := dk_42 (dk_at dksX9_islands_4 13 rfl rfl)
theorem dX9_islands_109 : decode cX9_islands 109 = .ok (.getfield 33, 3) := dk_180 0 33 (dk_at dksX9_islands_4 14 rfl rfl)
theorem dX9_islands_112 : decode cX9_islands 112 = .ok (.aload_n 0, 1) := dk_42 (dk_at dksX9_islands_4 17 rfl rfl)
theorem dX9_islands_113 : decode cX9_islands 113 = .ok (.getfield 133, 3) := dk_180 0 133 (dk_at dksX9_islands_4 18 rfl rfl)
theorem dX9_islands_116 : decode cX9_islands 116 = .ok (.aload_n 0, 1) := dk_42 (dk_at dksX9_islands_4 21 rfl rfl)
theorem dX9_islands_117 : decode cX9_islands 117 = .ok (.getfield 48, 3) := dk_180 0 48 (dk_at dksX9_islands_5 0 rfl rfl)
theorem dX9_islands_120 : decode cX9_islands 120 = .ok (.iconst 3, 1) := dk_6 (dk_at dksX9_islands_5 3 rfl rfl)
theorem dX9_islands_121 : decode cX9_islands 121 = .ok (.iload 5, 2) := dk_21 5 (dk_at dksX9_islands_5 4 rfl rfl)
theorem dX9_islands_123 : decode cX9_islands 123 = .ok (.imul, 1) := dk_104 (dk_at dksX9_islands_5 6 rfl rfl)
theorem dX9_islands_124 : decode cX9_islands 124 = .ok (.iconst 1, 1) := dk_4 (dk_at dksX9_islands_5 7 rfl rfl)
theorem dX9_islands_125 : decode cX9_islands 125 = .ok (.iadd, 1) := dk_96 (dk_at dksX9_islands_5 8 rfl rfl)
theorem dX9_islands_126 : decode cX9_islands 126 = .ok (.iaload, 1) := dk_46 (dk_at dksX9_islands_5 9 rfl rfl)
theorem dX9_islands_127 : decode cX9_islands 127 = .ok (.iastore, 1) := dk_79 (dk_at dksX9_islands_5 10 rfl rfl)
theorem dX9_islands_128 : decode cX9_islands 128 = .ok (.aload_n 0, 1) := dk_42 (dk_at dksX9_islands_5 11 rfl rfl)
theorem dX9_islands_129 : decode cX9_islands 129 = .ok (.getfield 36, 3) := dk_180 0 36 (dk_at dksX9_islands_5 12 rfl rfl)
theorem dX9_islands_132 : decode cX9_islands 132 = .ok (.aload_n 0, 1) := dk_42 (dk_at dksX9_islands_5 15 rfl rfl)
theorem dX9_islands_133 : decode cX9_islands 133 = .ok (.getfield 133, 3) := dk_180 0 133 (dk_at dksX9_islands_5 16 rfl rfl)
theorem dX9_islands_136 : decode cX9_islands 136 = .ok (.aload_n 0, 1) := dk_42 (dk_at dksX9_islands_5 19 rfl rfl)
theorem dX9_islands_137 : decode cX9_islands 137 = .ok (.getfield 48, 3) := dk_180 0 48 (dk_at dksX9_islands_5 20 rfl rfl)
theorem dX9_islands_140 : decode cX9_islands 140 = .ok (.iconst 3, 1) := dk_6 (dk_at dksX9_islands_5 23 rfl rfl)
theorem dX9_islands_141 : decode cX9_islands 141 = .ok (.iload 5, 2) := dk_21 5 (dk_at dksX9_islands_6 0 rfl rfl)
theorem dX9_islands_143 : decode cX9_islands 143 = .ok (.imul, 1) := dk_104 (dk_at dksX9_islands_6 2 rfl rfl)
theorem dX9_islands_144 : decode cX9_islands 144 = .ok (.iconst 2, 1) := dk_5 (dk_at dksX9_islands_6 3 rfl rfl)
theorem dX9_islands_145 : decode cX9_islands 145 = .ok (.iadd, 1) := dk_96 (dk_at dksX9_islands_6 4 rfl rfl)
theorem dX9_islands_146 : decode cX9_islands 146 = .ok (.iaload, 1) := dk_46 (dk_at dksX9_islands_6 5 rfl rfl)
theorem dX9_islands_147 : decode cX9_islands 147 = .ok (.iastore, 1) := dk_79 (dk_at dksX9_islands_6 6 rfl rfl)
theorem dX9_islands_148 : decode cX9_islands 148 = .ok (.aload_n 0, 1) := dk_42 (dk_at dksX9_islands_6 7 rfl rfl)
theorem dX9_islands_149 : decode cX9_islands 149 = .ok (.dup, 1) := dk_89 (dk_at dksX9_islands_6 8 rfl rfl)
theorem dX9_islands_150 : decode cX9_islands 150 = .ok (.getfield 133, 3) := dk_180 0 133 (dk_at dksX9_islands_6 9 rfl rfl)
theorem dX9_islands_153 : decode cX9_islands 153 = .ok (.iconst 1, 1) := dk_4 (dk_at dksX9_islands_6 12 rfl rfl)
theorem dX9_islands_154 : decode cX9_islands 154 = .ok (.iadd, 1) := dk_96 (dk_at dksX9_islands_6 13 rfl rfl)
theorem dX9_islands_155 : decode cX9_islands 155 = .ok (.putfield 133, 3) := dk_181 0 133 (dk_at dksX9_islands_6 14 rfl rfl)
theorem dX9_islands_158 : decode cX9_islands 158 = .ok (.iinc 5 1, 3) := dk_132 5 1 (dk_at dksX9_islands_6 17 rfl rfl)
theorem dX9_islands_161 : decode cX9_islands 161 = .ok (.goto (-80), 3) := dk_167 255 176 (dk_at dksX9_islands_6 20 rfl rfl)
theorem dX9_islands_164 : decode cX9_islands 164 = .ok (.aload_n 0, 1) := dk_42 (dk_at dksX9_islands_6 23 rfl rfl)
theorem dX9_islands_165 : decode cX9_islands 165 = .ok (.getfield 180, 3) := dk_180 0 180 (dk_at dksX9_islands_7 0 rfl rfl)
theorem dX9_islands_168 : decode cX9_islands 168 = .ok (.ireturn, 1) := dk_172 (dk_at dksX9_islands_7 3 rfl rfl)
abbrev cX9_readsIsland : ByteArray := prog_15_method_26_code
def yX9_readsIsland : MethodName := ⟨RX9, "readsIsland", "()Z"⟩
def dkwX9_readsIsland_5 : List UInt8 := [180, 0, 48, 27, 5, 96, 46, 155, 0, 7, 4, 167, 0, 4, 3, 172]
abbrev dktX9_readsIsland_5 : List UInt8 := dkwX9_readsIsland_5 ++ []
def dkwX9_readsIsland_4 : List UInt8 := [180, 0, 48, 27, 5, 96, 42, 3, 6, 182, 0, 187, 79, 42, 89, 180, 0, 180, 4, 96, 181, 0, 180, 42]
abbrev dktX9_readsIsland_4 : List UInt8 := dkwX9_readsIsland_4 ++ dktX9_readsIsland_5
def dkwX9_readsIsland_3 : List UInt8 := [180, 0, 48, 27, 4, 96, 46, 155, 0, 12, 42, 16, 44, 182, 0, 196, 154, 0, 5, 3, 172, 42]
abbrev dktX9_readsIsland_3 : List UInt8 := dkwX9_readsIsland_3 ++ dktX9_readsIsland_4
def dkwX9_readsIsland_2 : List UInt8 := [182, 0, 196, 154, 0, 5, 3, 172, 42, 180, 0, 48, 27, 4, 96, 42, 5, 182, 0, 183, 79, 42]
abbrev dktX9_readsIsland_2 : List UInt8 := dkwX9_readsIsland_2 ++ dktX9_readsIsland_3
def dkwX9_readsIsland_1 : List UInt8 := [180, 0, 48, 27, 42, 4, 16, 9, 182, 0, 187, 79, 42, 180, 0, 48, 27, 46, 155, 0, 12, 42, 16, 44]
abbrev dktX9_readsIsland_1 : List UInt8 := dkwX9_readsIsland_1 ++ dktX9_readsIsland_2
def dkwX9_readsIsland_0 : List UInt8 := [42, 180, 0, 133, 42, 180, 0, 180, 96, 16, 6, 160, 0, 5, 3, 172, 6, 42, 180, 0, 180, 104, 60, 42]
abbrev dktX9_readsIsland_0 : List UInt8 := dkwX9_readsIsland_0 ++ dktX9_readsIsland_1
theorem dksX9_readsIsland_0 : cX9_readsIsland.data.toList.drop 0 = dktX9_readsIsland_0 := by decide +kernel
theorem dksX9_readsIsland_1 : cX9_readsIsland.data.toList.drop 24 = dktX9_readsIsland_1 := dk_seg dksX9_readsIsland_0 24 rfl rfl
theorem dksX9_readsIsland_2 : cX9_readsIsland.data.toList.drop 48 = dktX9_readsIsland_2 := dk_seg dksX9_readsIsland_1 24 rfl rfl
theorem dksX9_readsIsland_3 : cX9_readsIsland.data.toList.drop 70 = dktX9_readsIsland_3 := dk_seg dksX9_readsIsland_2 22 rfl rfl
theorem dksX9_readsIsland_4 : cX9_readsIsland.data.toList.drop 92 = dktX9_readsIsland_4 := dk_seg dksX9_readsIsland_3 22 rfl rfl
theorem dksX9_readsIsland_5 : cX9_readsIsland.data.toList.drop 116 = dktX9_readsIsland_5 := dk_seg dksX9_readsIsland_4 24 rfl rfl
theorem dX9_readsIsland_0 : decode cX9_readsIsland 0 = .ok (.aload_n 0, 1) := dk_42 (dk_at dksX9_readsIsland_0 0 rfl rfl)
theorem dX9_readsIsland_1 : decode cX9_readsIsland 1 = .ok (.getfield 133, 3) := dk_180 0 133 (dk_at dksX9_readsIsland_0 1 rfl rfl)
theorem dX9_readsIsland_4 : decode cX9_readsIsland 4 = .ok (.aload_n 0, 1) := dk_42 (dk_at dksX9_readsIsland_0 4 rfl rfl)
theorem dX9_readsIsland_5 : decode cX9_readsIsland 5 = .ok (.getfield 180, 3) := dk_180 0 180 (dk_at dksX9_readsIsland_0 5 rfl rfl)
theorem dX9_readsIsland_8 : decode cX9_readsIsland 8 = .ok (.iadd, 1) := dk_96 (dk_at dksX9_readsIsland_0 8 rfl rfl)
theorem dX9_readsIsland_9 : decode cX9_readsIsland 9 = .ok (.bipush 6, 2) := dk_16 6 (dk_at dksX9_readsIsland_0 9 rfl rfl)
theorem dX9_readsIsland_11 : decode cX9_readsIsland 11 = .ok (.if_icmp .ne 5, 3) := dk_160 0 5 (dk_at dksX9_readsIsland_0 11 rfl rfl)
theorem dX9_readsIsland_14 : decode cX9_readsIsland 14 = .ok (.iconst 0, 1) := dk_3 (dk_at dksX9_readsIsland_0 14 rfl rfl)
theorem dX9_readsIsland_15 : decode cX9_readsIsland 15 = .ok (.ireturn, 1) := dk_172 (dk_at dksX9_readsIsland_0 15 rfl rfl)
theorem dX9_readsIsland_16 : decode cX9_readsIsland 16 = .ok (.iconst 3, 1) := dk_6 (dk_at dksX9_readsIsland_0 16 rfl rfl)
theorem dX9_readsIsland_17 : decode cX9_readsIsland 17 = .ok (.aload_n 0, 1) := dk_42 (dk_at dksX9_readsIsland_0 17 rfl rfl)
theorem dX9_readsIsland_18 : decode cX9_readsIsland 18 = .ok (.getfield 180, 3) := dk_180 0 180 (dk_at dksX9_readsIsland_0 18 rfl rfl)
theorem dX9_readsIsland_21 : decode cX9_readsIsland 21 = .ok (.imul, 1) := dk_104 (dk_at dksX9_readsIsland_0 21 rfl rfl)
theorem dX9_readsIsland_22 : decode cX9_readsIsland 22 = .ok (.istore_n 1, 1) := dk_60 (dk_at dksX9_readsIsland_0 22 rfl rfl)
theorem dX9_readsIsland_23 : decode cX9_readsIsland 23 = .ok (.aload_n 0, 1) := dk_42 (dk_at dksX9_readsIsland_0 23 rfl rfl)
theorem dX9_readsIsland_24 : decode cX9_readsIsland 24 = .ok (.getfield 48, 3) := dk_180 0 48 (dk_at dksX9_readsIsland_1 0 rfl rfl)
theorem dX9_readsIsland_27 : decode cX9_readsIsland 27 = .ok (.iload_n 1, 1) := dk_27 (dk_at dksX9_readsIsland_1 3 rfl rfl)
theorem dX9_readsIsland_28 : decode cX9_readsIsland 28 = .ok (.aload_n 0, 1) := dk_42 (dk_at dksX9_readsIsland_1 4 rfl rfl)
theorem dX9_readsIsland_29 : decode cX9_readsIsland 29 = .ok (.iconst 1, 1) := dk_4 (dk_at dksX9_readsIsland_1 5 rfl rfl)
theorem dX9_readsIsland_30 : decode cX9_readsIsland 30 = .ok (.bipush 9, 2) := dk_16 9 (dk_at dksX9_readsIsland_1 6 rfl rfl)
theorem dX9_readsIsland_32 : decode cX9_readsIsland 32 = .ok (.invokevirtual 187, 3) := dk_182 0 187 (dk_at dksX9_readsIsland_1 8 rfl rfl)
theorem dX9_readsIsland_35 : decode cX9_readsIsland 35 = .ok (.iastore, 1) := dk_79 (dk_at dksX9_readsIsland_1 11 rfl rfl)
theorem dX9_readsIsland_36 : decode cX9_readsIsland 36 = .ok (.aload_n 0, 1) := dk_42 (dk_at dksX9_readsIsland_1 12 rfl rfl)
theorem dX9_readsIsland_37 : decode cX9_readsIsland 37 = .ok (.getfield 48, 3) := dk_180 0 48 (dk_at dksX9_readsIsland_1 13 rfl rfl)
theorem dX9_readsIsland_40 : decode cX9_readsIsland 40 = .ok (.iload_n 1, 1) := dk_27 (dk_at dksX9_readsIsland_1 16 rfl rfl)
theorem dX9_readsIsland_41 : decode cX9_readsIsland 41 = .ok (.iaload, 1) := dk_46 (dk_at dksX9_readsIsland_1 17 rfl rfl)
theorem dX9_readsIsland_42 : decode cX9_readsIsland 42 = .ok (.ifCond .lt 12, 3) := dk_155 0 12 (dk_at dksX9_readsIsland_1 18 rfl rfl)
theorem dX9_readsIsland_45 : decode cX9_readsIsland 45 = .ok (.aload_n 0, 1) := dk_42 (dk_at dksX9_readsIsland_1 21 rfl rfl)
theorem dX9_readsIsland_46 : decode cX9_readsIsland 46 = .ok (.bipush 44, 2) := dk_16 44 (dk_at dksX9_readsIsland_1 22 rfl rfl)
theorem dX9_readsIsland_48 : decode cX9_readsIsland 48 = .ok (.invokevirtual 196, 3) := dk_182 0 196 (dk_at dksX9_readsIsland_2 0 rfl rfl)
theorem dX9_readsIsland_51 : decode cX9_readsIsland 51 = .ok (.ifCond .ne 5, 3) := dk_154 0 5 (dk_at dksX9_readsIsland_2 3 rfl rfl)
theorem dX9_readsIsland_54 : decode cX9_readsIsland 54 = .ok (.iconst 0, 1) := dk_3 (dk_at dksX9_readsIsland_2 6 rfl rfl)
theorem dX9_readsIsland_55 : decode cX9_readsIsland 55 = .ok (.ireturn, 1) := dk_172 (dk_at dksX9_readsIsland_2 7 rfl rfl)
theorem dX9_readsIsland_56 : decode cX9_readsIsland 56 = .ok (.aload_n 0, 1) := dk_42 (dk_at dksX9_readsIsland_2 8 rfl rfl)
theorem dX9_readsIsland_57 : decode cX9_readsIsland 57 = .ok (.getfield 48, 3) := dk_180 0 48 (dk_at dksX9_readsIsland_2 9 rfl rfl)
theorem dX9_readsIsland_60 : decode cX9_readsIsland 60 = .ok (.iload_n 1, 1) := dk_27 (dk_at dksX9_readsIsland_2 12 rfl rfl)
theorem dX9_readsIsland_61 : decode cX9_readsIsland 61 = .ok (.iconst 1, 1) := dk_4 (dk_at dksX9_readsIsland_2 13 rfl rfl)
theorem dX9_readsIsland_62 : decode cX9_readsIsland 62 = .ok (.iadd, 1) := dk_96 (dk_at dksX9_readsIsland_2 14 rfl rfl)
theorem dX9_readsIsland_63 : decode cX9_readsIsland 63 = .ok (.aload_n 0, 1) := dk_42 (dk_at dksX9_readsIsland_2 15 rfl rfl)
theorem dX9_readsIsland_64 : decode cX9_readsIsland 64 = .ok (.iconst 2, 1) := dk_5 (dk_at dksX9_readsIsland_2 16 rfl rfl)
theorem dX9_readsIsland_65 : decode cX9_readsIsland 65 = .ok (.invokevirtual 183, 3) := dk_182 0 183 (dk_at dksX9_readsIsland_2 17 rfl rfl)
theorem dX9_readsIsland_68 : decode cX9_readsIsland 68 = .ok (.iastore, 1) := dk_79 (dk_at dksX9_readsIsland_2 20 rfl rfl)
theorem dX9_readsIsland_69 : decode cX9_readsIsland 69 = .ok (.aload_n 0, 1) := dk_42 (dk_at dksX9_readsIsland_2 21 rfl rfl)
theorem dX9_readsIsland_70 : decode cX9_readsIsland 70 = .ok (.getfield 48, 3) := dk_180 0 48 (dk_at dksX9_readsIsland_3 0 rfl rfl)
theorem dX9_readsIsland_73 : decode cX9_readsIsland 73 = .ok (.iload_n 1, 1) := dk_27 (dk_at dksX9_readsIsland_3 3 rfl rfl)
theorem dX9_readsIsland_74 : decode cX9_readsIsland 74 = .ok (.iconst 1, 1) := dk_4 (dk_at dksX9_readsIsland_3 4 rfl rfl)
theorem dX9_readsIsland_75 : decode cX9_readsIsland 75 = .ok (.iadd, 1) := dk_96 (dk_at dksX9_readsIsland_3 5 rfl rfl)
theorem dX9_readsIsland_76 : decode cX9_readsIsland 76 = .ok (.iaload, 1) := dk_46 (dk_at dksX9_readsIsland_3 6 rfl rfl)
theorem dX9_readsIsland_77 : decode cX9_readsIsland 77 = .ok (.ifCond .lt 12, 3) := dk_155 0 12 (dk_at dksX9_readsIsland_3 7 rfl rfl)
theorem dX9_readsIsland_80 : decode cX9_readsIsland 80 = .ok (.aload_n 0, 1) := dk_42 (dk_at dksX9_readsIsland_3 10 rfl rfl)
theorem dX9_readsIsland_81 : decode cX9_readsIsland 81 = .ok (.bipush 44, 2) := dk_16 44 (dk_at dksX9_readsIsland_3 11 rfl rfl)
theorem dX9_readsIsland_83 : decode cX9_readsIsland 83 = .ok (.invokevirtual 196, 3) := dk_182 0 196 (dk_at dksX9_readsIsland_3 13 rfl rfl)
theorem dX9_readsIsland_86 : decode cX9_readsIsland 86 = .ok (.ifCond .ne 5, 3) := dk_154 0 5 (dk_at dksX9_readsIsland_3 16 rfl rfl)
theorem dX9_readsIsland_89 : decode cX9_readsIsland 89 = .ok (.iconst 0, 1) := dk_3 (dk_at dksX9_readsIsland_3 19 rfl rfl)
theorem dX9_readsIsland_90 : decode cX9_readsIsland 90 = .ok (.ireturn, 1) := dk_172 (dk_at dksX9_readsIsland_3 20 rfl rfl)
theorem dX9_readsIsland_91 : decode cX9_readsIsland 91 = .ok (.aload_n 0, 1) := dk_42 (dk_at dksX9_readsIsland_3 21 rfl rfl)
theorem dX9_readsIsland_92 : decode cX9_readsIsland 92 = .ok (.getfield 48, 3) := dk_180 0 48 (dk_at dksX9_readsIsland_4 0 rfl rfl)
theorem dX9_readsIsland_95 : decode cX9_readsIsland 95 = .ok (.iload_n 1, 1) := dk_27 (dk_at dksX9_readsIsland_4 3 rfl rfl)
theorem dX9_readsIsland_96 : decode cX9_readsIsland 96 = .ok (.iconst 2, 1) := dk_5 (dk_at dksX9_readsIsland_4 4 rfl rfl)
theorem dX9_readsIsland_97 : decode cX9_readsIsland 97 = .ok (.iadd, 1) := dk_96 (dk_at dksX9_readsIsland_4 5 rfl rfl)
theorem dX9_readsIsland_98 : decode cX9_readsIsland 98 = .ok (.aload_n 0, 1) := dk_42 (dk_at dksX9_readsIsland_4 6 rfl rfl)
theorem dX9_readsIsland_99 : decode cX9_readsIsland 99 = .ok (.iconst 0, 1) := dk_3 (dk_at dksX9_readsIsland_4 7 rfl rfl)
theorem dX9_readsIsland_100 : decode cX9_readsIsland 100 = .ok (.iconst 3, 1) := dk_6 (dk_at dksX9_readsIsland_4 8 rfl rfl)
theorem dX9_readsIsland_101 : decode cX9_readsIsland 101 = .ok (.invokevirtual 187, 3) := dk_182 0 187 (dk_at dksX9_readsIsland_4 9 rfl rfl)
theorem dX9_readsIsland_104 : decode cX9_readsIsland 104 = .ok (.iastore, 1) := dk_79 (dk_at dksX9_readsIsland_4 12 rfl rfl)
theorem dX9_readsIsland_105 : decode cX9_readsIsland 105 = .ok (.aload_n 0, 1) := dk_42 (dk_at dksX9_readsIsland_4 13 rfl rfl)
theorem dX9_readsIsland_106 : decode cX9_readsIsland 106 = .ok (.dup, 1) := dk_89 (dk_at dksX9_readsIsland_4 14 rfl rfl)
theorem dX9_readsIsland_107 : decode cX9_readsIsland 107 = .ok (.getfield 180, 3) := dk_180 0 180 (dk_at dksX9_readsIsland_4 15 rfl rfl)
theorem dX9_readsIsland_110 : decode cX9_readsIsland 110 = .ok (.iconst 1, 1) := dk_4 (dk_at dksX9_readsIsland_4 18 rfl rfl)
theorem dX9_readsIsland_111 : decode cX9_readsIsland 111 = .ok (.iadd, 1) := dk_96 (dk_at dksX9_readsIsland_4 19 rfl rfl)
theorem dX9_readsIsland_112 : decode cX9_readsIsland 112 = .ok (.putfield 180, 3) := dk_181 0 180 (dk_at dksX9_readsIsland_4 20 rfl rfl)
theorem dX9_readsIsland_115 : decode cX9_readsIsland 115 = .ok (.aload_n 0, 1) := dk_42 (dk_at dksX9_readsIsland_4 23 rfl rfl)
theorem dX9_readsIsland_116 : decode cX9_readsIsland 116 = .ok (.getfield 48, 3) := dk_180 0 48 (dk_at dksX9_readsIsland_5 0 rfl rfl)
theorem dX9_readsIsland_119 : decode cX9_readsIsland 119 = .ok (.iload_n 1, 1) := dk_27 (dk_at dksX9_readsIsland_5 3 rfl rfl)
theorem dX9_readsIsland_120 : decode cX9_readsIsland 120 = .ok (.iconst 2, 1) := dk_5 (dk_at dksX9_readsIsland_5 4 rfl rfl)
theorem dX9_readsIsland_121 : decode cX9_readsIsland 121 = .ok (.iadd, 1) := dk_96 (dk_at dksX9_readsIsland_5 5 rfl rfl)
theorem dX9_readsIsland_122 : decode cX9_readsIsland 122 = .ok (.iaload, 1) := dk_46 (dk_at dksX9_readsIsland_5 6 rfl rfl)
theorem dX9_readsIsland_123 : decode cX9_readsIsland 123 = .ok (.ifCond .lt 7, 3) := dk_155 0 7 (dk_at dksX9_readsIsland_5 7 rfl rfl)
theorem dX9_readsIsland_126 : decode cX9_readsIsland 126 = .ok (.iconst 1, 1) := dk_4 (dk_at dksX9_readsIsland_5 10 rfl rfl)
theorem dX9_readsIsland_127 : decode cX9_readsIsland 127 = .ok (.goto 4, 3) := dk_167 0 4 (dk_at dksX9_readsIsland_5 11 rfl rfl)
theorem dX9_readsIsland_130 : decode cX9_readsIsland 130 = .ok (.iconst 0, 1) := dk_3 (dk_at dksX9_readsIsland_5 14 rfl rfl)
theorem dX9_readsIsland_131 : decode cX9_readsIsland 131 = .ok (.ireturn, 1) := dk_172 (dk_at dksX9_readsIsland_5 15 rfl rfl)
abbrev cX9_rule : ByteArray := prog_15_method_33_code
def yX9_rule : MethodName := ⟨RX9, "rule", "()I"⟩
def dkwX9_rule_1 : List UInt8 := [182, 0, 245, 27, 172]
abbrev dktX9_rule_1 : List UInt8 := dkwX9_rule_1 ++ []
def dkwX9_rule_0 : List UInt8 := [42, 3, 181, 0, 112, 42, 182, 0, 242, 60, 27, 154, 0, 15, 42, 42, 180, 0, 57, 42, 180, 0, 218]
abbrev dktX9_rule_0 : List UInt8 := dkwX9_rule_0 ++ dktX9_rule_1
theorem dksX9_rule_0 : cX9_rule.data.toList.drop 0 = dktX9_rule_0 := by decide +kernel
theorem dksX9_rule_1 : cX9_rule.data.toList.drop 23 = dktX9_rule_1 := dk_seg dksX9_rule_0 23 rfl rfl
theorem dX9_rule_0 : decode cX9_rule 0 = .ok (.aload_n 0, 1) := dk_42 (dk_at dksX9_rule_0 0 rfl rfl)
theorem dX9_rule_1 : decode cX9_rule 1 = .ok (.iconst 0, 1) := dk_3 (dk_at dksX9_rule_0 1 rfl rfl)
theorem dX9_rule_2 : decode cX9_rule 2 = .ok (.putfield 112, 3) := dk_181 0 112 (dk_at dksX9_rule_0 2 rfl rfl)
theorem dX9_rule_5 : decode cX9_rule 5 = .ok (.aload_n 0, 1) := dk_42 (dk_at dksX9_rule_0 5 rfl rfl)
theorem dX9_rule_6 : decode cX9_rule 6 = .ok (.invokevirtual 242, 3) := dk_182 0 242 (dk_at dksX9_rule_0 6 rfl rfl)
theorem dX9_rule_9 : decode cX9_rule 9 = .ok (.istore_n 1, 1) := dk_60 (dk_at dksX9_rule_0 9 rfl rfl)
theorem dX9_rule_10 : decode cX9_rule 10 = .ok (.iload_n 1, 1) := dk_27 (dk_at dksX9_rule_0 10 rfl rfl)
theorem dX9_rule_11 : decode cX9_rule 11 = .ok (.ifCond .ne 15, 3) := dk_154 0 15 (dk_at dksX9_rule_0 11 rfl rfl)
theorem dX9_rule_14 : decode cX9_rule 14 = .ok (.aload_n 0, 1) := dk_42 (dk_at dksX9_rule_0 14 rfl rfl)
theorem dX9_rule_15 : decode cX9_rule 15 = .ok (.aload_n 0, 1) := dk_42 (dk_at dksX9_rule_0 15 rfl rfl)
theorem dX9_rule_16 : decode cX9_rule 16 = .ok (.getfield 57, 3) := dk_180 0 57 (dk_at dksX9_rule_0 16 rfl rfl)
theorem dX9_rule_19 : decode cX9_rule 19 = .ok (.aload_n 0, 1) := dk_42 (dk_at dksX9_rule_0 19 rfl rfl)
theorem dX9_rule_20 : decode cX9_rule 20 = .ok (.getfield 218, 3) := dk_180 0 218 (dk_at dksX9_rule_0 20 rfl rfl)
theorem dX9_rule_23 : decode cX9_rule 23 = .ok (.invokevirtual 245, 3) := dk_182 0 245 (dk_at dksX9_rule_1 0 rfl rfl)
theorem dX9_rule_26 : decode cX9_rule 26 = .ok (.iload_n 1, 1) := dk_27 (dk_at dksX9_rule_1 3 rfl rfl)
theorem dX9_rule_27 : decode cX9_rule 27 = .ok (.ireturn, 1) := dk_172 (dk_at dksX9_rule_1 4 rfl rfl)
abbrev cX9_readsRule : ByteArray := prog_15_method_31_code
def yX9_readsRule : MethodName := ⟨RX9, "readsRule", "()I"⟩
def dkwX9_readsRule_1 : List UInt8 := [4, 167, 0, 4, 3, 61, 42, 27, 16, 40, 28, 182, 0, 200, 172]
abbrev dktX9_readsRule_1 : List UInt8 := dkwX9_readsRule_1 ++ []
def dkwX9_readsRule_0 : List UInt8 := [42, 16, 40, 182, 0, 190, 60, 42, 3, 181, 0, 218, 27, 153, 0, 11, 42, 3, 182, 0, 230, 153, 0, 7]
abbrev dktX9_readsRule_0 : List UInt8 := dkwX9_readsRule_0 ++ dktX9_readsRule_1
theorem dksX9_readsRule_0 : cX9_readsRule.data.toList.drop 0 = dktX9_readsRule_0 := by decide +kernel
theorem dksX9_readsRule_1 : cX9_readsRule.data.toList.drop 24 = dktX9_readsRule_1 := dk_seg dksX9_readsRule_0 24 rfl rfl
theorem dX9_readsRule_0 : decode cX9_readsRule 0 = .ok (.aload_n 0, 1) := dk_42 (dk_at dksX9_readsRule_0 0 rfl rfl)
theorem dX9_readsRule_1 : decode cX9_readsRule 1 = .ok (.bipush 40, 2) := dk_16 40 (dk_at dksX9_readsRule_0 1 rfl rfl)
theorem dX9_readsRule_3 : decode cX9_readsRule 3 = .ok (.invokevirtual 190, 3) := dk_182 0 190 (dk_at dksX9_readsRule_0 3 rfl rfl)
theorem dX9_readsRule_6 : decode cX9_readsRule 6 = .ok (.istore_n 1, 1) := dk_60 (dk_at dksX9_readsRule_0 6 rfl rfl)
theorem dX9_readsRule_7 : decode cX9_readsRule 7 = .ok (.aload_n 0, 1) := dk_42 (dk_at dksX9_readsRule_0 7 rfl rfl)
theorem dX9_readsRule_8 : decode cX9_readsRule 8 = .ok (.iconst 0, 1) := dk_3 (dk_at dksX9_readsRule_0 8 rfl rfl)
theorem dX9_readsRule_9 : decode cX9_readsRule 9 = .ok (.putfield 218, 3) := dk_181 0 218 (dk_at dksX9_readsRule_0 9 rfl rfl)
theorem dX9_readsRule_12 : decode cX9_readsRule 12 = .ok (.iload_n 1, 1) := dk_27 (dk_at dksX9_readsRule_0 12 rfl rfl)
theorem dX9_readsRule_13 : decode cX9_readsRule 13 = .ok (.ifCond .eq 11, 3) := dk_153 0 11 (dk_at dksX9_readsRule_0 13 rfl rfl)
theorem dX9_readsRule_16 : decode cX9_readsRule 16 = .ok (.aload_n 0, 1) := dk_42 (dk_at dksX9_readsRule_0 16 rfl rfl)
theorem dX9_readsRule_17 : decode cX9_readsRule 17 = .ok (.iconst 0, 1) := dk_3 (dk_at dksX9_readsRule_0 17 rfl rfl)
theorem dX9_readsRule_18 : decode cX9_readsRule 18 = .ok (.invokevirtual 230, 3) := dk_182 0 230 (dk_at dksX9_readsRule_0 18 rfl rfl)
theorem dX9_readsRule_21 : decode cX9_readsRule 21 = .ok (.ifCond .eq 7, 3) := dk_153 0 7 (dk_at dksX9_readsRule_0 21 rfl rfl)
theorem dX9_readsRule_24 : decode cX9_readsRule 24 = .ok (.iconst 1, 1) := dk_4 (dk_at dksX9_readsRule_1 0 rfl rfl)
theorem dX9_readsRule_25 : decode cX9_readsRule 25 = .ok (.goto 4, 3) := dk_167 0 4 (dk_at dksX9_readsRule_1 1 rfl rfl)
theorem dX9_readsRule_28 : decode cX9_readsRule 28 = .ok (.iconst 0, 1) := dk_3 (dk_at dksX9_readsRule_1 4 rfl rfl)
theorem dX9_readsRule_29 : decode cX9_readsRule 29 = .ok (.istore_n 2, 1) := dk_61 (dk_at dksX9_readsRule_1 5 rfl rfl)
theorem dX9_readsRule_30 : decode cX9_readsRule 30 = .ok (.aload_n 0, 1) := dk_42 (dk_at dksX9_readsRule_1 6 rfl rfl)
theorem dX9_readsRule_31 : decode cX9_readsRule 31 = .ok (.iload_n 1, 1) := dk_27 (dk_at dksX9_readsRule_1 7 rfl rfl)
theorem dX9_readsRule_32 : decode cX9_readsRule 32 = .ok (.bipush 40, 2) := dk_16 40 (dk_at dksX9_readsRule_1 8 rfl rfl)
theorem dX9_readsRule_34 : decode cX9_readsRule 34 = .ok (.iload_n 2, 1) := dk_28 (dk_at dksX9_readsRule_1 10 rfl rfl)
theorem dX9_readsRule_35 : decode cX9_readsRule 35 = .ok (.invokevirtual 200, 3) := dk_182 0 200 (dk_at dksX9_readsRule_1 11 rfl rfl)
theorem dX9_readsRule_38 : decode cX9_readsRule 38 = .ok (.ireturn, 1) := dk_172 (dk_at dksX9_readsRule_1 14 rfl rfl)
abbrev cX9_readsRank : ByteArray := prog_15_method_30_code
def yX9_readsRank : MethodName := ⟨RX9, "readsRank", "(I)Z"⟩
def dkwX9_readsRank_4 : List UInt8 := [96, 182, 0, 224, 27, 158, 0, 7, 4, 167, 0, 4, 3, 61, 167, 255, 170, 4, 172]
abbrev dktX9_readsRank_4 : List UInt8 := dkwX9_readsRank_4 ++ []
def dkwX9_readsRank_3 : List UInt8 := [42, 17, 7, 208, 29, 96, 27, 154, 0, 7, 3, 167, 0, 13, 27, 4, 160, 0, 7, 6, 167, 0, 4, 8]
abbrev dktX9_readsRank_3 : List UInt8 := dkwX9_readsRank_3 ++ dktX9_readsRank_4
def dkwX9_readsRank_2 : List UInt8 := [18, 237, 182, 0, 212, 62, 29, 156, 0, 5, 4, 172, 42, 27, 4, 96, 182, 0, 230, 154, 0, 5, 3, 172]
abbrev dktX9_readsRank_2 : List UInt8 := dkwX9_readsRank_2 ++ dktX9_readsRank_3
def dkwX9_readsRank_1 : List UInt8 := [28, 153, 0, 88, 42, 27, 154, 0, 8, 18, 233, 167, 0, 15, 27, 4, 160, 0, 8, 18, 235, 167, 0, 5]
abbrev dktX9_readsRank_1 : List UInt8 := dkwX9_readsRank_1 ++ dktX9_readsRank_2
def dkwX9_readsRank_0 : List UInt8 := [27, 6, 160, 0, 8, 42, 182, 0, 221, 172, 42, 27, 4, 96, 182, 0, 230, 154, 0, 5, 3, 172, 4, 61]
abbrev dktX9_readsRank_0 : List UInt8 := dkwX9_readsRank_0 ++ dktX9_readsRank_1
theorem dksX9_readsRank_0 : cX9_readsRank.data.toList.drop 0 = dktX9_readsRank_0 := by decide +kernel
theorem dksX9_readsRank_1 : cX9_readsRank.data.toList.drop 24 = dktX9_readsRank_1 := dk_seg dksX9_readsRank_0 24 rfl rfl
theorem dksX9_readsRank_2 : cX9_readsRank.data.toList.drop 48 = dktX9_readsRank_2 := dk_seg dksX9_readsRank_1 24 rfl rfl
theorem dksX9_readsRank_3 : cX9_readsRank.data.toList.drop 72 = dktX9_readsRank_3 := dk_seg dksX9_readsRank_2 24 rfl rfl
theorem dksX9_readsRank_4 : cX9_readsRank.data.toList.drop 96 = dktX9_readsRank_4 := dk_seg dksX9_readsRank_3 24 rfl rfl
theorem dX9_readsRank_0 : decode cX9_readsRank 0 = .ok (.iload_n 1, 1) := dk_27 (dk_at dksX9_readsRank_0 0 rfl rfl)
theorem dX9_readsRank_1 : decode cX9_readsRank 1 = .ok (.iconst 3, 1) := dk_6 (dk_at dksX9_readsRank_0 1 rfl rfl)
theorem dX9_readsRank_2 : decode cX9_readsRank 2 = .ok (.if_icmp .ne 8, 3) := dk_160 0 8 (dk_at dksX9_readsRank_0 2 rfl rfl)
theorem dX9_readsRank_5 : decode cX9_readsRank 5 = .ok (.aload_n 0, 1) := dk_42 (dk_at dksX9_readsRank_0 5 rfl rfl)
theorem dX9_readsRank_6 : decode cX9_readsRank 6 = .ok (.invokevirtual 221, 3) := dk_182 0 221 (dk_at dksX9_readsRank_0 6 rfl rfl)
theorem dX9_readsRank_9 : decode cX9_readsRank 9 = .ok (.ireturn, 1) := dk_172 (dk_at dksX9_readsRank_0 9 rfl rfl)
theorem dX9_readsRank_10 : decode cX9_readsRank 10 = .ok (.aload_n 0, 1) := dk_42 (dk_at dksX9_readsRank_0 10 rfl rfl)
theorem dX9_readsRank_11 : decode cX9_readsRank 11 = .ok (.iload_n 1, 1) := dk_27 (dk_at dksX9_readsRank_0 11 rfl rfl)
theorem dX9_readsRank_12 : decode cX9_readsRank 12 = .ok (.iconst 1, 1) := dk_4 (dk_at dksX9_readsRank_0 12 rfl rfl)
theorem dX9_readsRank_13 : decode cX9_readsRank 13 = .ok (.iadd, 1) := dk_96 (dk_at dksX9_readsRank_0 13 rfl rfl)
theorem dX9_readsRank_14 : decode cX9_readsRank 14 = .ok (.invokevirtual 230, 3) := dk_182 0 230 (dk_at dksX9_readsRank_0 14 rfl rfl)
theorem dX9_readsRank_17 : decode cX9_readsRank 17 = .ok (.ifCond .ne 5, 3) := dk_154 0 5 (dk_at dksX9_readsRank_0 17 rfl rfl)
theorem dX9_readsRank_20 : decode cX9_readsRank 20 = .ok (.iconst 0, 1) := dk_3 (dk_at dksX9_readsRank_0 20 rfl rfl)
theorem dX9_readsRank_21 : decode cX9_readsRank 21 = .ok (.ireturn, 1) := dk_172 (dk_at dksX9_readsRank_0 21 rfl rfl)
theorem dX9_readsRank_22 : decode cX9_readsRank 22 = .ok (.iconst 1, 1) := dk_4 (dk_at dksX9_readsRank_0 22 rfl rfl)
theorem dX9_readsRank_23 : decode cX9_readsRank 23 = .ok (.istore_n 2, 1) := dk_61 (dk_at dksX9_readsRank_0 23 rfl rfl)
theorem dX9_readsRank_24 : decode cX9_readsRank 24 = .ok (.iload_n 2, 1) := dk_28 (dk_at dksX9_readsRank_1 0 rfl rfl)
theorem dX9_readsRank_25 : decode cX9_readsRank 25 = .ok (.ifCond .eq 88, 3) := dk_153 0 88 (dk_at dksX9_readsRank_1 1 rfl rfl)
theorem dX9_readsRank_28 : decode cX9_readsRank 28 = .ok (.aload_n 0, 1) := dk_42 (dk_at dksX9_readsRank_1 4 rfl rfl)
theorem dX9_readsRank_29 : decode cX9_readsRank 29 = .ok (.iload_n 1, 1) := dk_27 (dk_at dksX9_readsRank_1 5 rfl rfl)
theorem dX9_readsRank_30 : decode cX9_readsRank 30 = .ok (.ifCond .ne 8, 3) := dk_154 0 8 (dk_at dksX9_readsRank_1 6 rfl rfl)
theorem dX9_readsRank_33 : decode cX9_readsRank 33 = .ok (.ldc 233, 2) := dk_18 233 (dk_at dksX9_readsRank_1 9 rfl rfl)
theorem dX9_readsRank_35 : decode cX9_readsRank 35 = .ok (.goto 15, 3) := dk_167 0 15 (dk_at dksX9_readsRank_1 11 rfl rfl)
theorem dX9_readsRank_38 : decode cX9_readsRank 38 = .ok (.iload_n 1, 1) := dk_27 (dk_at dksX9_readsRank_1 14 rfl rfl)
theorem dX9_readsRank_39 : decode cX9_readsRank 39 = .ok (.iconst 1, 1) := dk_4 (dk_at dksX9_readsRank_1 15 rfl rfl)
theorem dX9_readsRank_40 : decode cX9_readsRank 40 = .ok (.if_icmp .ne 8, 3) := dk_160 0 8 (dk_at dksX9_readsRank_1 16 rfl rfl)
theorem dX9_readsRank_43 : decode cX9_readsRank 43 = .ok (.ldc 235, 2) := dk_18 235 (dk_at dksX9_readsRank_1 19 rfl rfl)
theorem dX9_readsRank_45 : decode cX9_readsRank 45 = .ok (.goto 5, 3) := dk_167 0 5 (dk_at dksX9_readsRank_1 21 rfl rfl)
theorem dX9_readsRank_48 : decode cX9_readsRank 48 = .ok (.ldc 237, 2) := dk_18 237 (dk_at dksX9_readsRank_2 0 rfl rfl)
theorem dX9_readsRank_50 : decode cX9_readsRank 50 = .ok (.invokevirtual 212, 3) := dk_182 0 212 (dk_at dksX9_readsRank_2 2 rfl rfl)
theorem dX9_readsRank_53 : decode cX9_readsRank 53 = .ok (.istore_n 3, 1) := dk_62 (dk_at dksX9_readsRank_2 5 rfl rfl)
theorem dX9_readsRank_54 : decode cX9_readsRank 54 = .ok (.iload_n 3, 1) := dk_29 (dk_at dksX9_readsRank_2 6 rfl rfl)
theorem dX9_readsRank_55 : decode cX9_readsRank 55 = .ok (.ifCond .ge 5, 3) := dk_156 0 5 (dk_at dksX9_readsRank_2 7 rfl rfl)
theorem dX9_readsRank_58 : decode cX9_readsRank 58 = .ok (.iconst 1, 1) := dk_4 (dk_at dksX9_readsRank_2 10 rfl rfl)
theorem dX9_readsRank_59 : decode cX9_readsRank 59 = .ok (.ireturn, 1) := dk_172 (dk_at dksX9_readsRank_2 11 rfl rfl)
theorem dX9_readsRank_60 : decode cX9_readsRank 60 = .ok (.aload_n 0, 1) := dk_42 (dk_at dksX9_readsRank_2 12 rfl rfl)
theorem dX9_readsRank_61 : decode cX9_readsRank 61 = .ok (.iload_n 1, 1) := dk_27 (dk_at dksX9_readsRank_2 13 rfl rfl)
theorem dX9_readsRank_62 : decode cX9_readsRank 62 = .ok (.iconst 1, 1) := dk_4 (dk_at dksX9_readsRank_2 14 rfl rfl)
theorem dX9_readsRank_63 : decode cX9_readsRank 63 = .ok (.iadd, 1) := dk_96 (dk_at dksX9_readsRank_2 15 rfl rfl)
theorem dX9_readsRank_64 : decode cX9_readsRank 64 = .ok (.invokevirtual 230, 3) := dk_182 0 230 (dk_at dksX9_readsRank_2 16 rfl rfl)
theorem dX9_readsRank_67 : decode cX9_readsRank 67 = .ok (.ifCond .ne 5, 3) := dk_154 0 5 (dk_at dksX9_readsRank_2 19 rfl rfl)
theorem dX9_readsRank_70 : decode cX9_readsRank 70 = .ok (.iconst 0, 1) := dk_3 (dk_at dksX9_readsRank_2 22 rfl rfl)
theorem dX9_readsRank_71 : decode cX9_readsRank 71 = .ok (.ireturn, 1) := dk_172 (dk_at dksX9_readsRank_2 23 rfl rfl)
theorem dX9_readsRank_72 : decode cX9_readsRank 72 = .ok (.aload_n 0, 1) := dk_42 (dk_at dksX9_readsRank_3 0 rfl rfl)
theorem dX9_readsRank_73 : decode cX9_readsRank 73 = .ok (.sipush 2000, 3) := dk_17 7 208 (dk_at dksX9_readsRank_3 1 rfl rfl)
theorem dX9_readsRank_76 : decode cX9_readsRank 76 = .ok (.iload_n 3, 1) := dk_29 (dk_at dksX9_readsRank_3 4 rfl rfl)
theorem dX9_readsRank_77 : decode cX9_readsRank 77 = .ok (.iadd, 1) := dk_96 (dk_at dksX9_readsRank_3 5 rfl rfl)
theorem dX9_readsRank_78 : decode cX9_readsRank 78 = .ok (.iload_n 1, 1) := dk_27 (dk_at dksX9_readsRank_3 6 rfl rfl)
theorem dX9_readsRank_79 : decode cX9_readsRank 79 = .ok (.ifCond .ne 7, 3) := dk_154 0 7 (dk_at dksX9_readsRank_3 7 rfl rfl)
theorem dX9_readsRank_82 : decode cX9_readsRank 82 = .ok (.iconst 0, 1) := dk_3 (dk_at dksX9_readsRank_3 10 rfl rfl)
theorem dX9_readsRank_83 : decode cX9_readsRank 83 = .ok (.goto 13, 3) := dk_167 0 13 (dk_at dksX9_readsRank_3 11 rfl rfl)
theorem dX9_readsRank_86 : decode cX9_readsRank 86 = .ok (.iload_n 1, 1) := dk_27 (dk_at dksX9_readsRank_3 14 rfl rfl)
theorem dX9_readsRank_87 : decode cX9_readsRank 87 = .ok (.iconst 1, 1) := dk_4 (dk_at dksX9_readsRank_3 15 rfl rfl)
theorem dX9_readsRank_88 : decode cX9_readsRank 88 = .ok (.if_icmp .ne 7, 3) := dk_160 0 7 (dk_at dksX9_readsRank_3 16 rfl rfl)
theorem dX9_readsRank_91 : decode cX9_readsRank 91 = .ok (.iconst 3, 1) := dk_6 (dk_at dksX9_readsRank_3 19 rfl rfl)
theorem dX9_readsRank_92 : decode cX9_readsRank 92 = .ok (.goto 4, 3) := dk_167 0 4 (dk_at dksX9_readsRank_3 20 rfl rfl)
theorem dX9_readsRank_95 : decode cX9_readsRank 95 = .ok (.iconst 5, 1) := dk_8 (dk_at dksX9_readsRank_3 23 rfl rfl)
theorem dX9_readsRank_96 : decode cX9_readsRank 96 = .ok (.iadd, 1) := dk_96 (dk_at dksX9_readsRank_4 0 rfl rfl)
theorem dX9_readsRank_97 : decode cX9_readsRank 97 = .ok (.invokevirtual 224, 3) := dk_182 0 224 (dk_at dksX9_readsRank_4 1 rfl rfl)
theorem dX9_readsRank_100 : decode cX9_readsRank 100 = .ok (.iload_n 1, 1) := dk_27 (dk_at dksX9_readsRank_4 4 rfl rfl)
theorem dX9_readsRank_101 : decode cX9_readsRank 101 = .ok (.ifCond .le 7, 3) := dk_158 0 7 (dk_at dksX9_readsRank_4 5 rfl rfl)
theorem dX9_readsRank_104 : decode cX9_readsRank 104 = .ok (.iconst 1, 1) := dk_4 (dk_at dksX9_readsRank_4 8 rfl rfl)
theorem dX9_readsRank_105 : decode cX9_readsRank 105 = .ok (.goto 4, 3) := dk_167 0 4 (dk_at dksX9_readsRank_4 9 rfl rfl)
theorem dX9_readsRank_108 : decode cX9_readsRank 108 = .ok (.iconst 0, 1) := dk_3 (dk_at dksX9_readsRank_4 12 rfl rfl)
theorem dX9_readsRank_109 : decode cX9_readsRank 109 = .ok (.istore_n 2, 1) := dk_61 (dk_at dksX9_readsRank_4 13 rfl rfl)
theorem dX9_readsRank_110 : decode cX9_readsRank 110 = .ok (.goto (-86), 3) := dk_167 255 170 (dk_at dksX9_readsRank_4 14 rfl rfl)
theorem dX9_readsRank_113 : decode cX9_readsRank 113 = .ok (.iconst 1, 1) := dk_4 (dk_at dksX9_readsRank_4 17 rfl rfl)
theorem dX9_readsRank_114 : decode cX9_readsRank 114 = .ok (.ireturn, 1) := dk_172 (dk_at dksX9_readsRank_4 18 rfl rfl)
abbrev cX9_readsThing : ByteArray := prog_15_method_29_code
def yX9_readsThing : MethodName := ⟨RX9, "readsThing", "()Z"⟩
def dkwX9_readsThing_5 : List UInt8 := [181, 0, 142, 4, 172]
abbrev dktX9_readsThing_5 : List UInt8 := dkwX9_readsThing_5 ++ []
def dkwX9_readsThing_4 : List UInt8 := [182, 0, 230, 153, 0, 12, 42, 16, 41, 182, 0, 196, 154, 0, 5, 3, 172, 42, 89, 180, 0, 142, 4, 100]
abbrev dktX9_readsThing_4 : List UInt8 := dkwX9_readsThing_4 ++ dktX9_readsThing_5
def dkwX9_readsThing_3 : List UInt8 := [16, 40, 182, 0, 196, 154, 0, 5, 3, 172, 42, 89, 180, 0, 142, 4, 96, 181, 0, 142, 42, 3]
abbrev dktX9_readsThing_3 : List UInt8 := dkwX9_readsThing_3 ++ dktX9_readsThing_4
def dkwX9_readsThing_2 : List UInt8 := [27, 155, 0, 14, 42, 17, 3, 232, 27, 96, 182, 0, 224, 4, 172, 42, 180, 0, 142, 7, 159, 0, 12, 42]
abbrev dktX9_readsThing_2 : List UInt8 := dkwX9_readsThing_2 ++ dktX9_readsThing_3
def dkwX9_readsThing_1 : List UInt8 := [182, 0, 176, 153, 0, 14, 42, 42, 6, 182, 0, 183, 182, 0, 224, 4, 172, 42, 18, 228, 182, 0, 212, 60]
abbrev dktX9_readsThing_1 : List UInt8 := dkwX9_readsThing_1 ++ dktX9_readsThing_2
def dkwX9_readsThing_0 : List UInt8 := [42, 16, 45, 182, 0, 196, 153, 0, 17, 42, 182, 0, 221, 60, 42, 17, 11, 184, 182, 0, 224, 27, 172, 42]
abbrev dktX9_readsThing_0 : List UInt8 := dkwX9_readsThing_0 ++ dktX9_readsThing_1
theorem dksX9_readsThing_0 : cX9_readsThing.data.toList.drop 0 = dktX9_readsThing_0 := by decide +kernel
theorem dksX9_readsThing_1 : cX9_readsThing.data.toList.drop 24 = dktX9_readsThing_1 := dk_seg dksX9_readsThing_0 24 rfl rfl
theorem dksX9_readsThing_2 : cX9_readsThing.data.toList.drop 48 = dktX9_readsThing_2 := dk_seg dksX9_readsThing_1 24 rfl rfl
theorem dksX9_readsThing_3 : cX9_readsThing.data.toList.drop 72 = dktX9_readsThing_3 := dk_seg dksX9_readsThing_2 24 rfl rfl
theorem dksX9_readsThing_4 : cX9_readsThing.data.toList.drop 94 = dktX9_readsThing_4 := dk_seg dksX9_readsThing_3 22 rfl rfl
theorem dksX9_readsThing_5 : cX9_readsThing.data.toList.drop 118 = dktX9_readsThing_5 := dk_seg dksX9_readsThing_4 24 rfl rfl
theorem dX9_readsThing_0 : decode cX9_readsThing 0 = .ok (.aload_n 0, 1) := dk_42 (dk_at dksX9_readsThing_0 0 rfl rfl)
theorem dX9_readsThing_1 : decode cX9_readsThing 1 = .ok (.bipush 45, 2) := dk_16 45 (dk_at dksX9_readsThing_0 1 rfl rfl)
theorem dX9_readsThing_3 : decode cX9_readsThing 3 = .ok (.invokevirtual 196, 3) := dk_182 0 196 (dk_at dksX9_readsThing_0 3 rfl rfl)
theorem dX9_readsThing_6 : decode cX9_readsThing 6 = .ok (.ifCond .eq 17, 3) := dk_153 0 17 (dk_at dksX9_readsThing_0 6 rfl rfl)
theorem dX9_readsThing_9 : decode cX9_readsThing 9 = .ok (.aload_n 0, 1) := dk_42 (dk_at dksX9_readsThing_0 9 rfl rfl)
theorem dX9_readsThing_10 : decode cX9_readsThing 10 = .ok (.invokevirtual 221, 3) := dk_182 0 221 (dk_at dksX9_readsThing_0 10 rfl rfl)
theorem dX9_readsThing_13 : decode cX9_readsThing 13 = .ok (.istore_n 1, 1) := dk_60 (dk_at dksX9_readsThing_0 13 rfl rfl)
theorem dX9_readsThing_14 : decode cX9_readsThing 14 = .ok (.aload_n 0, 1) := dk_42 (dk_at dksX9_readsThing_0 14 rfl rfl)
theorem dX9_readsThing_15 : decode cX9_readsThing 15 = .ok (.sipush 3000, 3) := dk_17 11 184 (dk_at dksX9_readsThing_0 15 rfl rfl)
theorem dX9_readsThing_18 : decode cX9_readsThing 18 = .ok (.invokevirtual 224, 3) := dk_182 0 224 (dk_at dksX9_readsThing_0 18 rfl rfl)
theorem dX9_readsThing_21 : decode cX9_readsThing 21 = .ok (.iload_n 1, 1) := dk_27 (dk_at dksX9_readsThing_0 21 rfl rfl)
theorem dX9_readsThing_22 : decode cX9_readsThing 22 = .ok (.ireturn, 1) := dk_172 (dk_at dksX9_readsThing_0 22 rfl rfl)
theorem dX9_readsThing_23 : decode cX9_readsThing 23 = .ok (.aload_n 0, 1) := dk_42 (dk_at dksX9_readsThing_0 23 rfl rfl)
theorem dX9_readsThing_24 : decode cX9_readsThing 24 = .ok (.invokevirtual 176, 3) := dk_182 0 176 (dk_at dksX9_readsThing_1 0 rfl rfl)
theorem dX9_readsThing_27 : decode cX9_readsThing 27 = .ok (.ifCond .eq 14, 3) := dk_153 0 14 (dk_at dksX9_readsThing_1 3 rfl rfl)
theorem dX9_readsThing_30 : decode cX9_readsThing 30 = .ok (.aload_n 0, 1) := dk_42 (dk_at dksX9_readsThing_1 6 rfl rfl)
theorem dX9_readsThing_31 : decode cX9_readsThing 31 = .ok (.aload_n 0, 1) := dk_42 (dk_at dksX9_readsThing_1 7 rfl rfl)
theorem dX9_readsThing_32 : decode cX9_readsThing 32 = .ok (.iconst 3, 1) := dk_6 (dk_at dksX9_readsThing_1 8 rfl rfl)
theorem dX9_readsThing_33 : decode cX9_readsThing 33 = .ok (.invokevirtual 183, 3) := dk_182 0 183 (dk_at dksX9_readsThing_1 9 rfl rfl)
theorem dX9_readsThing_36 : decode cX9_readsThing 36 = .ok (.invokevirtual 224, 3) := dk_182 0 224 (dk_at dksX9_readsThing_1 12 rfl rfl)
theorem dX9_readsThing_39 : decode cX9_readsThing 39 = .ok (.iconst 1, 1) := dk_4 (dk_at dksX9_readsThing_1 15 rfl rfl)
theorem dX9_readsThing_40 : decode cX9_readsThing 40 = .ok (.ireturn, 1) := dk_172 (dk_at dksX9_readsThing_1 16 rfl rfl)
theorem dX9_readsThing_41 : decode cX9_readsThing 41 = .ok (.aload_n 0, 1) := dk_42 (dk_at dksX9_readsThing_1 17 rfl rfl)
theorem dX9_readsThing_42 : decode cX9_readsThing 42 = .ok (.ldc 228, 2) := dk_18 228 (dk_at dksX9_readsThing_1 18 rfl rfl)
theorem dX9_readsThing_44 : decode cX9_readsThing 44 = .ok (.invokevirtual 212, 3) := dk_182 0 212 (dk_at dksX9_readsThing_1 20 rfl rfl)
theorem dX9_readsThing_47 : decode cX9_readsThing 47 = .ok (.istore_n 1, 1) := dk_60 (dk_at dksX9_readsThing_1 23 rfl rfl)
theorem dX9_readsThing_48 : decode cX9_readsThing 48 = .ok (.iload_n 1, 1) := dk_27 (dk_at dksX9_readsThing_2 0 rfl rfl)
theorem dX9_readsThing_49 : decode cX9_readsThing 49 = .ok (.ifCond .lt 14, 3) := dk_155 0 14 (dk_at dksX9_readsThing_2 1 rfl rfl)
theorem dX9_readsThing_52 : decode cX9_readsThing 52 = .ok (.aload_n 0, 1) := dk_42 (dk_at dksX9_readsThing_2 4 rfl rfl)
theorem dX9_readsThing_53 : decode cX9_readsThing 53 = .ok (.sipush 1000, 3) := dk_17 3 232 (dk_at dksX9_readsThing_2 5 rfl rfl)
theorem dX9_readsThing_56 : decode cX9_readsThing 56 = .ok (.iload_n 1, 1) := dk_27 (dk_at dksX9_readsThing_2 8 rfl rfl)
theorem dX9_readsThing_57 : decode cX9_readsThing 57 = .ok (.iadd, 1) := dk_96 (dk_at dksX9_readsThing_2 9 rfl rfl)
theorem dX9_readsThing_58 : decode cX9_readsThing 58 = .ok (.invokevirtual 224, 3) := dk_182 0 224 (dk_at dksX9_readsThing_2 10 rfl rfl)
theorem dX9_readsThing_61 : decode cX9_readsThing 61 = .ok (.iconst 1, 1) := dk_4 (dk_at dksX9_readsThing_2 13 rfl rfl)
theorem dX9_readsThing_62 : decode cX9_readsThing 62 = .ok (.ireturn, 1) := dk_172 (dk_at dksX9_readsThing_2 14 rfl rfl)
theorem dX9_readsThing_63 : decode cX9_readsThing 63 = .ok (.aload_n 0, 1) := dk_42 (dk_at dksX9_readsThing_2 15 rfl rfl)
theorem dX9_readsThing_64 : decode cX9_readsThing 64 = .ok (.getfield 142, 3) := dk_180 0 142 (dk_at dksX9_readsThing_2 16 rfl rfl)
theorem dX9_readsThing_67 : decode cX9_readsThing 67 = .ok (.iconst 4, 1) := dk_7 (dk_at dksX9_readsThing_2 19 rfl rfl)
theorem dX9_readsThing_68 : decode cX9_readsThing 68 = .ok (.if_icmp .eq 12, 3) := dk_159 0 12 (dk_at dksX9_readsThing_2 20 rfl rfl)
theorem dX9_readsThing_71 : decode cX9_readsThing 71 = .ok (.aload_n 0, 1) := dk_42 (dk_at dksX9_readsThing_2 23 rfl rfl)
theorem dX9_readsThing_72 : decode cX9_readsThing 72 = .ok (.bipush 40, 2) := dk_16 40 (dk_at dksX9_readsThing_3 0 rfl rfl)
theorem dX9_readsThing_74 : decode cX9_readsThing 74 = .ok (.invokevirtual 196, 3) := dk_182 0 196 (dk_at dksX9_readsThing_3 2 rfl rfl)
theorem dX9_readsThing_77 : decode cX9_readsThing 77 = .ok (.ifCond .ne 5, 3) := dk_154 0 5 (dk_at dksX9_readsThing_3 5 rfl rfl)
theorem dX9_readsThing_80 : decode cX9_readsThing 80 = .ok (.iconst 0, 1) := dk_3 (dk_at dksX9_readsThing_3 8 rfl rfl)
theorem dX9_readsThing_81 : decode cX9_readsThing 81 = .ok (.ireturn, 1) := dk_172 (dk_at dksX9_readsThing_3 9 rfl rfl)
theorem dX9_readsThing_82 : decode cX9_readsThing 82 = .ok (.aload_n 0, 1) := dk_42 (dk_at dksX9_readsThing_3 10 rfl rfl)
theorem dX9_readsThing_83 : decode cX9_readsThing 83 = .ok (.dup, 1) := dk_89 (dk_at dksX9_readsThing_3 11 rfl rfl)
theorem dX9_readsThing_84 : decode cX9_readsThing 84 = .ok (.getfield 142, 3) := dk_180 0 142 (dk_at dksX9_readsThing_3 12 rfl rfl)
theorem dX9_readsThing_87 : decode cX9_readsThing 87 = .ok (.iconst 1, 1) := dk_4 (dk_at dksX9_readsThing_3 15 rfl rfl)
theorem dX9_readsThing_88 : decode cX9_readsThing 88 = .ok (.iadd, 1) := dk_96 (dk_at dksX9_readsThing_3 16 rfl rfl)
theorem dX9_readsThing_89 : decode cX9_readsThing 89 = .ok (.putfield 142, 3) := dk_181 0 142 (dk_at dksX9_readsThing_3 17 rfl rfl)
theorem dX9_readsThing_92 : decode cX9_readsThing 92 = .ok (.aload_n 0, 1) := dk_42 (dk_at dksX9_readsThing_3 20 rfl rfl)
theorem dX9_readsThing_93 : decode cX9_readsThing 93 = .ok (.iconst 0, 1) := dk_3 (dk_at dksX9_readsThing_3 21 rfl rfl)
theorem dX9_readsThing_94 : decode cX9_readsThing 94 = .ok (.invokevirtual 230, 3) := dk_182 0 230 (dk_at dksX9_readsThing_4 0 rfl rfl)
theorem dX9_readsThing_97 : decode cX9_readsThing 97 = .ok (.ifCond .eq 12, 3) := dk_153 0 12 (dk_at dksX9_readsThing_4 3 rfl rfl)
theorem dX9_readsThing_100 : decode cX9_readsThing 100 = .ok (.aload_n 0, 1) := dk_42 (dk_at dksX9_readsThing_4 6 rfl rfl)
theorem dX9_readsThing_101 : decode cX9_readsThing 101 = .ok (.bipush 41, 2) := dk_16 41 (dk_at dksX9_readsThing_4 7 rfl rfl)
theorem dX9_readsThing_103 : decode cX9_readsThing 103 = .ok (.invokevirtual 196, 3) := dk_182 0 196 (dk_at dksX9_readsThing_4 9 rfl rfl)
theorem dX9_readsThing_106 : decode cX9_readsThing 106 = .ok (.ifCond .ne 5, 3) := dk_154 0 5 (dk_at dksX9_readsThing_4 12 rfl rfl)
theorem dX9_readsThing_109 : decode cX9_readsThing 109 = .ok (.iconst 0, 1) := dk_3 (dk_at dksX9_readsThing_4 15 rfl rfl)
theorem dX9_readsThing_110 : decode cX9_readsThing 110 = .ok (.ireturn, 1) := dk_172 (dk_at dksX9_readsThing_4 16 rfl rfl)
theorem dX9_readsThing_111 : decode cX9_readsThing 111 = .ok (.aload_n 0, 1) := dk_42 (dk_at dksX9_readsThing_4 17 rfl rfl)
theorem dX9_readsThing_112 : decode cX9_readsThing 112 = .ok (.dup, 1) := dk_89 (dk_at dksX9_readsThing_4 18 rfl rfl)
theorem dX9_readsThing_113 : decode cX9_readsThing 113 = .ok (.getfield 142, 3) := dk_180 0 142 (dk_at dksX9_readsThing_4 19 rfl rfl)
theorem dX9_readsThing_116 : decode cX9_readsThing 116 = .ok (.iconst 1, 1) := dk_4 (dk_at dksX9_readsThing_4 22 rfl rfl)
theorem dX9_readsThing_117 : decode cX9_readsThing 117 = .ok (.isub, 1) := dk_100 (dk_at dksX9_readsThing_4 23 rfl rfl)
theorem dX9_readsThing_118 : decode cX9_readsThing 118 = .ok (.putfield 142, 3) := dk_181 0 142 (dk_at dksX9_readsThing_5 0 rfl rfl)
theorem dX9_readsThing_121 : decode cX9_readsThing 121 = .ok (.iconst 1, 1) := dk_4 (dk_at dksX9_readsThing_5 3 rfl rfl)
theorem dX9_readsThing_122 : decode cX9_readsThing 122 = .ok (.ireturn, 1) := dk_172 (dk_at dksX9_readsThing_5 4 rfl rfl)
abbrev cX9_codes : ByteArray := prog_15_method_28_code
def yX9_codes : MethodName := ⟨RX9, "codes", "(I)V"⟩
def dkwX9_codes_0 : List UInt8 := [42, 180, 0, 57, 42, 180, 0, 218, 27, 79, 42, 89, 180, 0, 218, 4, 96, 181, 0, 218, 177]
abbrev dktX9_codes_0 : List UInt8 := dkwX9_codes_0 ++ []
theorem dksX9_codes_0 : cX9_codes.data.toList.drop 0 = dktX9_codes_0 := by decide +kernel
theorem dX9_codes_0 : decode cX9_codes 0 = .ok (.aload_n 0, 1) := dk_42 (dk_at dksX9_codes_0 0 rfl rfl)
theorem dX9_codes_1 : decode cX9_codes 1 = .ok (.getfield 57, 3) := dk_180 0 57 (dk_at dksX9_codes_0 1 rfl rfl)
theorem dX9_codes_4 : decode cX9_codes 4 = .ok (.aload_n 0, 1) := dk_42 (dk_at dksX9_codes_0 4 rfl rfl)
theorem dX9_codes_5 : decode cX9_codes 5 = .ok (.getfield 218, 3) := dk_180 0 218 (dk_at dksX9_codes_0 5 rfl rfl)
theorem dX9_codes_8 : decode cX9_codes 8 = .ok (.iload_n 1, 1) := dk_27 (dk_at dksX9_codes_0 8 rfl rfl)
theorem dX9_codes_9 : decode cX9_codes 9 = .ok (.iastore, 1) := dk_79 (dk_at dksX9_codes_0 9 rfl rfl)
theorem dX9_codes_10 : decode cX9_codes 10 = .ok (.aload_n 0, 1) := dk_42 (dk_at dksX9_codes_0 10 rfl rfl)
theorem dX9_codes_11 : decode cX9_codes 11 = .ok (.dup, 1) := dk_89 (dk_at dksX9_codes_0 11 rfl rfl)
theorem dX9_codes_12 : decode cX9_codes 12 = .ok (.getfield 218, 3) := dk_180 0 218 (dk_at dksX9_codes_0 12 rfl rfl)
theorem dX9_codes_15 : decode cX9_codes 15 = .ok (.iconst 1, 1) := dk_4 (dk_at dksX9_codes_0 15 rfl rfl)
theorem dX9_codes_16 : decode cX9_codes 16 = .ok (.iadd, 1) := dk_96 (dk_at dksX9_codes_0 16 rfl rfl)
theorem dX9_codes_17 : decode cX9_codes 17 = .ok (.putfield 218, 3) := dk_181 0 218 (dk_at dksX9_codes_0 17 rfl rfl)
theorem dX9_codes_20 : decode cX9_codes 20 = .ok (.return_, 1) := dk_177 (dk_at dksX9_codes_0 20 rfl rfl)
abbrev cX9_laysCode : ByteArray := prog_15_method_32_code
def yX9_laysCode : MethodName := ⟨RX9, "laysCode", "([II)V"⟩
def dkwX9_laysCode_1 : List UInt8 := [167, 255, 239, 177]
abbrev dktX9_laysCode_1 : List UInt8 := dkwX9_laysCode_1 ++ []
def dkwX9_laysCode_0 : List UInt8 := [42, 28, 181, 0, 239, 3, 62, 29, 28, 162, 0, 18, 42, 180, 0, 54, 29, 43, 29, 46, 79, 132, 3, 1]
abbrev dktX9_laysCode_0 : List UInt8 := dkwX9_laysCode_0 ++ dktX9_laysCode_1
theorem dksX9_laysCode_0 : cX9_laysCode.data.toList.drop 0 = dktX9_laysCode_0 := by decide +kernel
theorem dksX9_laysCode_1 : cX9_laysCode.data.toList.drop 24 = dktX9_laysCode_1 := dk_seg dksX9_laysCode_0 24 rfl rfl
theorem dX9_laysCode_0 : decode cX9_laysCode 0 = .ok (.aload_n 0, 1) := dk_42 (dk_at dksX9_laysCode_0 0 rfl rfl)
theorem dX9_laysCode_1 : decode cX9_laysCode 1 = .ok (.iload_n 2, 1) := dk_28 (dk_at dksX9_laysCode_0 1 rfl rfl)
theorem dX9_laysCode_2 : decode cX9_laysCode 2 = .ok (.putfield 239, 3) := dk_181 0 239 (dk_at dksX9_laysCode_0 2 rfl rfl)
theorem dX9_laysCode_5 : decode cX9_laysCode 5 = .ok (.iconst 0, 1) := dk_3 (dk_at dksX9_laysCode_0 5 rfl rfl)
theorem dX9_laysCode_6 : decode cX9_laysCode 6 = .ok (.istore_n 3, 1) := dk_62 (dk_at dksX9_laysCode_0 6 rfl rfl)
theorem dX9_laysCode_7 : decode cX9_laysCode 7 = .ok (.iload_n 3, 1) := dk_29 (dk_at dksX9_laysCode_0 7 rfl rfl)
theorem dX9_laysCode_8 : decode cX9_laysCode 8 = .ok (.iload_n 2, 1) := dk_28 (dk_at dksX9_laysCode_0 8 rfl rfl)
theorem dX9_laysCode_9 : decode cX9_laysCode 9 = .ok (.if_icmp .ge 18, 3) := dk_162 0 18 (dk_at dksX9_laysCode_0 9 rfl rfl)
theorem dX9_laysCode_12 : decode cX9_laysCode 12 = .ok (.aload_n 0, 1) := dk_42 (dk_at dksX9_laysCode_0 12 rfl rfl)
theorem dX9_laysCode_13 : decode cX9_laysCode 13 = .ok (.getfield 54, 3) := dk_180 0 54 (dk_at dksX9_laysCode_0 13 rfl rfl)
theorem dX9_laysCode_16 : decode cX9_laysCode 16 = .ok (.iload_n 3, 1) := dk_29 (dk_at dksX9_laysCode_0 16 rfl rfl)
theorem dX9_laysCode_17 : decode cX9_laysCode 17 = .ok (.aload_n 1, 1) := dk_43 (dk_at dksX9_laysCode_0 17 rfl rfl)
theorem dX9_laysCode_18 : decode cX9_laysCode 18 = .ok (.iload_n 3, 1) := dk_29 (dk_at dksX9_laysCode_0 18 rfl rfl)
theorem dX9_laysCode_19 : decode cX9_laysCode 19 = .ok (.iaload, 1) := dk_46 (dk_at dksX9_laysCode_0 19 rfl rfl)
theorem dX9_laysCode_20 : decode cX9_laysCode 20 = .ok (.iastore, 1) := dk_79 (dk_at dksX9_laysCode_0 20 rfl rfl)
theorem dX9_laysCode_21 : decode cX9_laysCode 21 = .ok (.iinc 3 1, 3) := dk_132 3 1 (dk_at dksX9_laysCode_0 21 rfl rfl)
theorem dX9_laysCode_24 : decode cX9_laysCode 24 = .ok (.goto (-17), 3) := dk_167 255 239 (dk_at dksX9_laysCode_1 0 rfl rfl)
theorem dX9_laysCode_27 : decode cX9_laysCode 27 = .ok (.return_, 1) := dk_177 (dk_at dksX9_laysCode_1 3 rfl rfl)
abbrev cX9_man : ByteArray := prog_15_method_40_code
def yX9_man : MethodName := ⟨RX9, "man", "(II)I"⟩
def dkwX9_man_5 : List UInt8 := [182, 1, 14, 27, 184, 1, 1, 184, 0, 154, 172]
abbrev dktX9_man_5 : List UInt8 := dkwX9_man_5 ++ []
def dkwX9_man_4 : List UInt8 := [180, 0, 39, 27, 46, 172, 42, 180, 0, 39, 16, 8, 27, 96, 46, 172, 42, 42, 180, 0, 39, 3, 2]
abbrev dktX9_man_4 : List UInt8 := dkwX9_man_4 ++ dktX9_man_5
def dkwX9_man_3 : List UInt8 := [42, 180, 0, 21, 27, 46, 172, 42, 180, 0, 24, 27, 46, 172, 42, 180, 0, 27, 27, 46, 172, 42]
abbrev dktX9_man_3 : List UInt8 := dkwX9_man_3 ++ dktX9_man_4
def dkwX9_man_2 : List UInt8 := [170, 0, 0, 0, 71, 0, 0, 0, 0, 0, 0, 0, 4, 0, 0, 0, 33, 0, 0, 0, 40, 0, 0, 0, 47, 0, 0, 0, 54, 0, 0, 0, 61]
abbrev dktX9_man_2 : List UInt8 := dkwX9_man_2 ++ dktX9_man_3
def dkwX9_man_1 : List UInt8 := [154, 0, 8, 42, 182, 1, 27, 172, 28]
abbrev dktX9_man_1 : List UInt8 := dkwX9_man_1 ++ dktX9_man_2
def dkwX9_man_0 : List UInt8 := [42, 3, 181, 0, 112, 42, 27, 182, 1, 22, 153, 0, 15, 28, 133, 9, 20, 1, 25, 184, 0, 129]
abbrev dktX9_man_0 : List UInt8 := dkwX9_man_0 ++ dktX9_man_1
theorem dksX9_man_0 : cX9_man.data.toList.drop 0 = dktX9_man_0 := by decide +kernel
theorem dksX9_man_1 : cX9_man.data.toList.drop 22 = dktX9_man_1 := dk_seg dksX9_man_0 22 rfl rfl
theorem dksX9_man_2 : cX9_man.data.toList.drop 31 = dktX9_man_2 := dk_seg dksX9_man_1 9 rfl rfl
theorem dksX9_man_3 : cX9_man.data.toList.drop 64 = dktX9_man_3 := dk_seg dksX9_man_2 33 rfl rfl
theorem dksX9_man_4 : cX9_man.data.toList.drop 86 = dktX9_man_4 := dk_seg dksX9_man_3 22 rfl rfl
theorem dksX9_man_5 : cX9_man.data.toList.drop 109 = dktX9_man_5 := dk_seg dksX9_man_4 23 rfl rfl
theorem dX9_man_0 : decode cX9_man 0 = .ok (.aload_n 0, 1) := dk_42 (dk_at dksX9_man_0 0 rfl rfl)
theorem dX9_man_1 : decode cX9_man 1 = .ok (.iconst 0, 1) := dk_3 (dk_at dksX9_man_0 1 rfl rfl)
theorem dX9_man_2 : decode cX9_man 2 = .ok (.putfield 112, 3) := dk_181 0 112 (dk_at dksX9_man_0 2 rfl rfl)
theorem dX9_man_5 : decode cX9_man 5 = .ok (.aload_n 0, 1) := dk_42 (dk_at dksX9_man_0 5 rfl rfl)
theorem dX9_man_6 : decode cX9_man 6 = .ok (.iload_n 1, 1) := dk_27 (dk_at dksX9_man_0 6 rfl rfl)
theorem dX9_man_7 : decode cX9_man 7 = .ok (.invokevirtual 278, 3) := dk_182 1 22 (dk_at dksX9_man_0 7 rfl rfl)
theorem dX9_man_10 : decode cX9_man 10 = .ok (.ifCond .eq 15, 3) := dk_153 0 15 (dk_at dksX9_man_0 10 rfl rfl)
theorem dX9_man_13 : decode cX9_man 13 = .ok (.iload_n 2, 1) := dk_28 (dk_at dksX9_man_0 13 rfl rfl)
theorem dX9_man_14 : decode cX9_man 14 = .ok (.i2l, 1) := dk_133 (dk_at dksX9_man_0 14 rfl rfl)
theorem dX9_man_15 : decode cX9_man 15 = .ok (.lconst 0, 1) := dk_9 (dk_at dksX9_man_0 15 rfl rfl)
theorem dX9_man_16 : decode cX9_man 16 = .ok (.ldc2_w 281, 3) := dk_20 1 25 (dk_at dksX9_man_0 16 rfl rfl)
theorem dX9_man_19 : decode cX9_man 19 = .ok (.invokestatic 129, 3) := dk_184 0 129 (dk_at dksX9_man_0 19 rfl rfl)
theorem dX9_man_22 : decode cX9_man 22 = .ok (.ifCond .ne 8, 3) := dk_154 0 8 (dk_at dksX9_man_1 0 rfl rfl)
theorem dX9_man_25 : decode cX9_man 25 = .ok (.aload_n 0, 1) := dk_42 (dk_at dksX9_man_1 3 rfl rfl)
theorem dX9_man_26 : decode cX9_man 26 = .ok (.invokevirtual 283, 3) := dk_182 1 27 (dk_at dksX9_man_1 4 rfl rfl)
theorem dX9_man_29 : decode cX9_man 29 = .ok (.ireturn, 1) := dk_172 (dk_at dksX9_man_1 7 rfl rfl)
theorem dX9_man_30 : decode cX9_man 30 = .ok (.iload_n 2, 1) := dk_28 (dk_at dksX9_man_1 8 rfl rfl)
theorem dX9_man_31 : decode cX9_man 31 = .ok (.tableswitch 71 0 4 #[33, 40, 47, 54, 61], 33) := by decide +kernel
theorem dX9_man_64 : decode cX9_man 64 = .ok (.aload_n 0, 1) := dk_42 (dk_at dksX9_man_3 0 rfl rfl)
theorem dX9_man_65 : decode cX9_man 65 = .ok (.getfield 21, 3) := dk_180 0 21 (dk_at dksX9_man_3 1 rfl rfl)
theorem dX9_man_68 : decode cX9_man 68 = .ok (.iload_n 1, 1) := dk_27 (dk_at dksX9_man_3 4 rfl rfl)
theorem dX9_man_69 : decode cX9_man 69 = .ok (.iaload, 1) := dk_46 (dk_at dksX9_man_3 5 rfl rfl)
theorem dX9_man_70 : decode cX9_man 70 = .ok (.ireturn, 1) := dk_172 (dk_at dksX9_man_3 6 rfl rfl)
theorem dX9_man_71 : decode cX9_man 71 = .ok (.aload_n 0, 1) := dk_42 (dk_at dksX9_man_3 7 rfl rfl)
theorem dX9_man_72 : decode cX9_man 72 = .ok (.getfield 24, 3) := dk_180 0 24 (dk_at dksX9_man_3 8 rfl rfl)
theorem dX9_man_75 : decode cX9_man 75 = .ok (.iload_n 1, 1) := dk_27 (dk_at dksX9_man_3 11 rfl rfl)
theorem dX9_man_76 : decode cX9_man 76 = .ok (.iaload, 1) := dk_46 (dk_at dksX9_man_3 12 rfl rfl)
theorem dX9_man_77 : decode cX9_man 77 = .ok (.ireturn, 1) := dk_172 (dk_at dksX9_man_3 13 rfl rfl)
theorem dX9_man_78 : decode cX9_man 78 = .ok (.aload_n 0, 1) := dk_42 (dk_at dksX9_man_3 14 rfl rfl)
theorem dX9_man_79 : decode cX9_man 79 = .ok (.getfield 27, 3) := dk_180 0 27 (dk_at dksX9_man_3 15 rfl rfl)
theorem dX9_man_82 : decode cX9_man 82 = .ok (.iload_n 1, 1) := dk_27 (dk_at dksX9_man_3 18 rfl rfl)
theorem dX9_man_83 : decode cX9_man 83 = .ok (.iaload, 1) := dk_46 (dk_at dksX9_man_3 19 rfl rfl)
theorem dX9_man_84 : decode cX9_man 84 = .ok (.ireturn, 1) := dk_172 (dk_at dksX9_man_3 20 rfl rfl)
theorem dX9_man_85 : decode cX9_man 85 = .ok (.aload_n 0, 1) := dk_42 (dk_at dksX9_man_3 21 rfl rfl)
theorem dX9_man_86 : decode cX9_man 86 = .ok (.getfield 39, 3) := dk_180 0 39 (dk_at dksX9_man_4 0 rfl rfl)
theorem dX9_man_89 : decode cX9_man 89 = .ok (.iload_n 1, 1) := dk_27 (dk_at dksX9_man_4 3 rfl rfl)
theorem dX9_man_90 : decode cX9_man 90 = .ok (.iaload, 1) := dk_46 (dk_at dksX9_man_4 4 rfl rfl)
theorem dX9_man_91 : decode cX9_man 91 = .ok (.ireturn, 1) := dk_172 (dk_at dksX9_man_4 5 rfl rfl)
theorem dX9_man_92 : decode cX9_man 92 = .ok (.aload_n 0, 1) := dk_42 (dk_at dksX9_man_4 6 rfl rfl)
theorem dX9_man_93 : decode cX9_man 93 = .ok (.getfield 39, 3) := dk_180 0 39 (dk_at dksX9_man_4 7 rfl rfl)
theorem dX9_man_96 : decode cX9_man 96 = .ok (.bipush 8, 2) := dk_16 8 (dk_at dksX9_man_4 10 rfl rfl)
theorem dX9_man_98 : decode cX9_man 98 = .ok (.iload_n 1, 1) := dk_27 (dk_at dksX9_man_4 12 rfl rfl)
theorem dX9_man_99 : decode cX9_man 99 = .ok (.iadd, 1) := dk_96 (dk_at dksX9_man_4 13 rfl rfl)
theorem dX9_man_100 : decode cX9_man 100 = .ok (.iaload, 1) := dk_46 (dk_at dksX9_man_4 14 rfl rfl)
theorem dX9_man_101 : decode cX9_man 101 = .ok (.ireturn, 1) := dk_172 (dk_at dksX9_man_4 15 rfl rfl)
theorem dX9_man_102 : decode cX9_man 102 = .ok (.aload_n 0, 1) := dk_42 (dk_at dksX9_man_4 16 rfl rfl)
theorem dX9_man_103 : decode cX9_man 103 = .ok (.aload_n 0, 1) := dk_42 (dk_at dksX9_man_4 17 rfl rfl)
theorem dX9_man_104 : decode cX9_man 104 = .ok (.getfield 39, 3) := dk_180 0 39 (dk_at dksX9_man_4 18 rfl rfl)
theorem dX9_man_107 : decode cX9_man 107 = .ok (.iconst 0, 1) := dk_3 (dk_at dksX9_man_4 21 rfl rfl)
theorem dX9_man_108 : decode cX9_man 108 = .ok (.iconst (-1), 1) := dk_2 (dk_at dksX9_man_4 22 rfl rfl)
theorem dX9_man_109 : decode cX9_man 109 = .ok (.invokevirtual 270, 3) := dk_182 1 14 (dk_at dksX9_man_5 0 rfl rfl)
theorem dX9_man_112 : decode cX9_man 112 = .ok (.iload_n 1, 1) := dk_27 (dk_at dksX9_man_5 3 rfl rfl)
theorem dX9_man_113 : decode cX9_man 113 = .ok (.invokestatic 257, 3) := dk_184 1 1 (dk_at dksX9_man_5 4 rfl rfl)
theorem dX9_man_116 : decode cX9_man 116 = .ok (.invokestatic 154, 3) := dk_184 0 154 (dk_at dksX9_man_5 7 rfl rfl)
theorem dX9_man_119 : decode cX9_man 119 = .ok (.ireturn, 1) := dk_172 (dk_at dksX9_man_5 10 rfl rfl)
abbrev cX9_isMan : ByteArray := prog_15_method_10_code
def yX9_isMan : MethodName := ⟨RX9, "isMan", "(I)Z"⟩
def dkwX9_isMan_0 : List UInt8 := [27, 133, 9, 42, 180, 0, 126, 4, 100, 133, 184, 0, 129, 172]
abbrev dktX9_isMan_0 : List UInt8 := dkwX9_isMan_0 ++ []
theorem dksX9_isMan_0 : cX9_isMan.data.toList.drop 0 = dktX9_isMan_0 := by decide +kernel
theorem dX9_isMan_0 : decode cX9_isMan 0 = .ok (.iload_n 1, 1) := dk_27 (dk_at dksX9_isMan_0 0 rfl rfl)
theorem dX9_isMan_1 : decode cX9_isMan 1 = .ok (.i2l, 1) := dk_133 (dk_at dksX9_isMan_0 1 rfl rfl)
theorem dX9_isMan_2 : decode cX9_isMan 2 = .ok (.lconst 0, 1) := dk_9 (dk_at dksX9_isMan_0 2 rfl rfl)
theorem dX9_isMan_3 : decode cX9_isMan 3 = .ok (.aload_n 0, 1) := dk_42 (dk_at dksX9_isMan_0 3 rfl rfl)
theorem dX9_isMan_4 : decode cX9_isMan 4 = .ok (.getfield 126, 3) := dk_180 0 126 (dk_at dksX9_isMan_0 4 rfl rfl)
theorem dX9_isMan_7 : decode cX9_isMan 7 = .ok (.iconst 1, 1) := dk_4 (dk_at dksX9_isMan_0 7 rfl rfl)
theorem dX9_isMan_8 : decode cX9_isMan 8 = .ok (.isub, 1) := dk_100 (dk_at dksX9_isMan_0 8 rfl rfl)
theorem dX9_isMan_9 : decode cX9_isMan 9 = .ok (.i2l, 1) := dk_133 (dk_at dksX9_isMan_0 9 rfl rfl)
theorem dX9_isMan_10 : decode cX9_isMan 10 = .ok (.invokestatic 129, 3) := dk_184 0 129 (dk_at dksX9_isMan_0 10 rfl rfl)
theorem dX9_isMan_13 : decode cX9_isMan 13 = .ok (.ireturn, 1) := dk_172 (dk_at dksX9_isMan_0 13 rfl rfl)
abbrev cX9_refuse : ByteArray := prog_15_method_3_code
def yX9_refuse : MethodName := ⟨RX9, "refuse", "()I"⟩
def dkwX9_refuse_0 : List UInt8 := [42, 4, 181, 0, 112, 3, 172]
abbrev dktX9_refuse_0 : List UInt8 := dkwX9_refuse_0 ++ []
theorem dksX9_refuse_0 : cX9_refuse.data.toList.drop 0 = dktX9_refuse_0 := by decide +kernel
theorem dX9_refuse_0 : decode cX9_refuse 0 = .ok (.aload_n 0, 1) := dk_42 (dk_at dksX9_refuse_0 0 rfl rfl)
theorem dX9_refuse_1 : decode cX9_refuse 1 = .ok (.iconst 1, 1) := dk_4 (dk_at dksX9_refuse_0 1 rfl rfl)
theorem dX9_refuse_2 : decode cX9_refuse 2 = .ok (.putfield 112, 3) := dk_181 0 112 (dk_at dksX9_refuse_0 2 rfl rfl)
theorem dX9_refuse_5 : decode cX9_refuse 5 = .ok (.iconst 0, 1) := dk_3 (dk_at dksX9_refuse_0 5 rfl rfl)
theorem dX9_refuse_6 : decode cX9_refuse 6 = .ok (.ireturn, 1) := dk_172 (dk_at dksX9_refuse_0 6 rfl rfl)
abbrev cX9_risen : ByteArray := prog_15_method_37_code
def yX9_risen : MethodName := ⟨RX9, "risen", "([III)I"⟩
def dkwX9_risen_5 : List UInt8 := [167, 255, 152, 21, 5, 172]
abbrev dktX9_risen_5 : List UInt8 := dkwX9_risen_5 ++ []
def dkwX9_risen_4 : List UInt8 := [3, 128, 54, 5, 132, 8, 1, 167, 255, 181, 21, 5, 21, 7, 159, 0, 7, 4, 167, 0, 4, 3, 54, 6]
abbrev dktX9_risen_4 : List UInt8 := dkwX9_risen_4 ++ dktX9_risen_5
def dkwX9_risen_3 : List UInt8 := [153, 0, 7, 4, 167, 0, 4, 3, 54, 9, 21, 5, 21, 9, 153, 0, 10, 4, 21, 8, 120, 167, 0, 4]
abbrev dktX9_risen_3 : List UInt8 := dkwX9_risen_3 ++ dktX9_risen_4
def dkwX9_risen_2 : List UInt8 := [159, 0, 29, 42, 43, 21, 8, 21, 5, 4, 21, 8, 120, 2, 130, 126, 184, 1, 5, 182, 1, 10]
abbrev dktX9_risen_2 : List UInt8 := dkwX9_risen_2 ++ dktX9_risen_3
def dkwX9_risen_1 : List UInt8 := [54, 8, 21, 8, 42, 180, 0, 126, 162, 0, 72, 21, 4, 21, 8, 184, 1, 1, 153, 0, 35, 21, 8, 29]
abbrev dktX9_risen_1 : List UInt8 := dkwX9_risen_1 ++ dktX9_risen_2
def dkwX9_risen_0 : List UInt8 := [42, 43, 3, 182, 0, 253, 54, 4, 28, 54, 5, 4, 54, 6, 21, 6, 153, 0, 105, 21, 5, 54, 7, 3]
abbrev dktX9_risen_0 : List UInt8 := dkwX9_risen_0 ++ dktX9_risen_1
theorem dksX9_risen_0 : cX9_risen.data.toList.drop 0 = dktX9_risen_0 := by decide +kernel
theorem dksX9_risen_1 : cX9_risen.data.toList.drop 24 = dktX9_risen_1 := dk_seg dksX9_risen_0 24 rfl rfl
theorem dksX9_risen_2 : cX9_risen.data.toList.drop 48 = dktX9_risen_2 := dk_seg dksX9_risen_1 24 rfl rfl
theorem dksX9_risen_3 : cX9_risen.data.toList.drop 70 = dktX9_risen_3 := dk_seg dksX9_risen_2 22 rfl rfl
theorem dksX9_risen_4 : cX9_risen.data.toList.drop 94 = dktX9_risen_4 := dk_seg dksX9_risen_3 24 rfl rfl
theorem dksX9_risen_5 : cX9_risen.data.toList.drop 118 = dktX9_risen_5 := dk_seg dksX9_risen_4 24 rfl rfl
theorem dX9_risen_0 : decode cX9_risen 0 = .ok (.aload_n 0, 1) := dk_42 (dk_at dksX9_risen_0 0 rfl rfl)
theorem dX9_risen_1 : decode cX9_risen 1 = .ok (.aload_n 1, 1) := dk_43 (dk_at dksX9_risen_0 1 rfl rfl)
theorem dX9_risen_2 : decode cX9_risen 2 = .ok (.iconst 0, 1) := dk_3 (dk_at dksX9_risen_0 2 rfl rfl)
theorem dX9_risen_3 : decode cX9_risen 3 = .ok (.invokevirtual 253, 3) := dk_182 0 253 (dk_at dksX9_risen_0 3 rfl rfl)
theorem dX9_risen_6 : decode cX9_risen 6 = .ok (.istore 4, 2) := dk_54 4 (dk_at dksX9_risen_0 6 rfl rfl)
theorem dX9_risen_8 : decode cX9_risen 8 = .ok (.iload_n 2, 1) := dk_28 (dk_at dksX9_risen_0 8 rfl rfl)
theorem dX9_risen_9 : decode cX9_risen 9 = .ok (.istore 5, 2) := dk_54 5 (dk_at dksX9_risen_0 9 rfl rfl)
theorem dX9_risen_11 : decode cX9_risen 11 = .ok (.iconst 1, 1) := dk_4 (dk_at dksX9_risen_0 11 rfl rfl)
theorem dX9_risen_12 : decode cX9_risen 12 = .ok (.istore 6, 2) := dk_54 6 (dk_at dksX9_risen_0 12 rfl rfl)
theorem dX9_risen_14 : decode cX9_risen 14 = .ok (.iload 6, 2) := dk_21 6 (dk_at dksX9_risen_0 14 rfl rfl)
theorem dX9_risen_16 : decode cX9_risen 16 = .ok (.ifCond .eq 105, 3) := dk_153 0 105 (dk_at dksX9_risen_0 16 rfl rfl)
theorem dX9_risen_19 : decode cX9_risen 19 = .ok (.iload 5, 2) := dk_21 5 (dk_at dksX9_risen_0 19 rfl rfl)
theorem dX9_risen_21 : decode cX9_risen 21 = .ok (.istore 7, 2) := dk_54 7 (dk_at dksX9_risen_0 21 rfl rfl)
theorem dX9_risen_23 : decode cX9_risen 23 = .ok (.iconst 0, 1) := dk_3 (dk_at dksX9_risen_0 23 rfl rfl)
theorem dX9_risen_24 : decode cX9_risen 24 = .ok (.istore 8, 2) := dk_54 8 (dk_at dksX9_risen_1 0 rfl rfl)
theorem dX9_risen_26 : decode cX9_risen 26 = .ok (.iload 8, 2) := dk_21 8 (dk_at dksX9_risen_1 2 rfl rfl)
theorem dX9_risen_28 : decode cX9_risen 28 = .ok (.aload_n 0, 1) := dk_42 (dk_at dksX9_risen_1 4 rfl rfl)
theorem dX9_risen_29 : decode cX9_risen 29 = .ok (.getfield 126, 3) := dk_180 0 126 (dk_at dksX9_risen_1 5 rfl rfl)
theorem dX9_risen_32 : decode cX9_risen 32 = .ok (.if_icmp .ge 72, 3) := dk_162 0 72 (dk_at dksX9_risen_1 8 rfl rfl)
theorem dX9_risen_35 : decode cX9_risen 35 = .ok (.iload 4, 2) := dk_21 4 (dk_at dksX9_risen_1 11 rfl rfl)
theorem dX9_risen_37 : decode cX9_risen 37 = .ok (.iload 8, 2) := dk_21 8 (dk_at dksX9_risen_1 13 rfl rfl)
theorem dX9_risen_39 : decode cX9_risen 39 = .ok (.invokestatic 257, 3) := dk_184 1 1 (dk_at dksX9_risen_1 15 rfl rfl)
theorem dX9_risen_42 : decode cX9_risen 42 = .ok (.ifCond .eq 35, 3) := dk_153 0 35 (dk_at dksX9_risen_1 18 rfl rfl)
theorem dX9_risen_45 : decode cX9_risen 45 = .ok (.iload 8, 2) := dk_21 8 (dk_at dksX9_risen_1 21 rfl rfl)
theorem dX9_risen_47 : decode cX9_risen 47 = .ok (.iload_n 3, 1) := dk_29 (dk_at dksX9_risen_1 23 rfl rfl)
theorem dX9_risen_48 : decode cX9_risen 48 = .ok (.if_icmp .eq 29, 3) := dk_159 0 29 (dk_at dksX9_risen_2 0 rfl rfl)
theorem dX9_risen_51 : decode cX9_risen 51 = .ok (.aload_n 0, 1) := dk_42 (dk_at dksX9_risen_2 3 rfl rfl)
theorem dX9_risen_52 : decode cX9_risen 52 = .ok (.aload_n 1, 1) := dk_43 (dk_at dksX9_risen_2 4 rfl rfl)
theorem dX9_risen_53 : decode cX9_risen 53 = .ok (.iload 8, 2) := dk_21 8 (dk_at dksX9_risen_2 5 rfl rfl)
theorem dX9_risen_55 : decode cX9_risen 55 = .ok (.iload 5, 2) := dk_21 5 (dk_at dksX9_risen_2 7 rfl rfl)
theorem dX9_risen_57 : decode cX9_risen 57 = .ok (.iconst 1, 1) := dk_4 (dk_at dksX9_risen_2 9 rfl rfl)
theorem dX9_risen_58 : decode cX9_risen 58 = .ok (.iload 8, 2) := dk_21 8 (dk_at dksX9_risen_2 10 rfl rfl)
theorem dX9_risen_60 : decode cX9_risen 60 = .ok (.ishl, 1) := dk_120 (dk_at dksX9_risen_2 12 rfl rfl)
theorem dX9_risen_61 : decode cX9_risen 61 = .ok (.iconst (-1), 1) := dk_2 (dk_at dksX9_risen_2 13 rfl rfl)
theorem dX9_risen_62 : decode cX9_risen 62 = .ok (.ixor, 1) := dk_130 (dk_at dksX9_risen_2 14 rfl rfl)
theorem dX9_risen_63 : decode cX9_risen 63 = .ok (.iand, 1) := dk_126 (dk_at dksX9_risen_2 15 rfl rfl)
theorem dX9_risen_64 : decode cX9_risen 64 = .ok (.invokestatic 261, 3) := dk_184 1 5 (dk_at dksX9_risen_2 16 rfl rfl)
theorem dX9_risen_67 : decode cX9_risen 67 = .ok (.invokevirtual 266, 3) := dk_182 1 10 (dk_at dksX9_risen_2 19 rfl rfl)
theorem dX9_risen_70 : decode cX9_risen 70 = .ok (.ifCond .eq 7, 3) := dk_153 0 7 (dk_at dksX9_risen_3 0 rfl rfl)
theorem dX9_risen_73 : decode cX9_risen 73 = .ok (.iconst 1, 1) := dk_4 (dk_at dksX9_risen_3 3 rfl rfl)
theorem dX9_risen_74 : decode cX9_risen 74 = .ok (.goto 4, 3) := dk_167 0 4 (dk_at dksX9_risen_3 4 rfl rfl)
theorem dX9_risen_77 : decode cX9_risen 77 = .ok (.iconst 0, 1) := dk_3 (dk_at dksX9_risen_3 7 rfl rfl)
theorem dX9_risen_78 : decode cX9_risen 78 = .ok (.istore 9, 2) := dk_54 9 (dk_at dksX9_risen_3 8 rfl rfl)
theorem dX9_risen_80 : decode cX9_risen 80 = .ok (.iload 5, 2) := dk_21 5 (dk_at dksX9_risen_3 10 rfl rfl)
theorem dX9_risen_82 : decode cX9_risen 82 = .ok (.iload 9, 2) := dk_21 9 (dk_at dksX9_risen_3 12 rfl rfl)
theorem dX9_risen_84 : decode cX9_risen 84 = .ok (.ifCond .eq 10, 3) := dk_153 0 10 (dk_at dksX9_risen_3 14 rfl rfl)
theorem dX9_risen_87 : decode cX9_risen 87 = .ok (.iconst 1, 1) := dk_4 (dk_at dksX9_risen_3 17 rfl rfl)
theorem dX9_risen_88 : decode cX9_risen 88 = .ok (.iload 8, 2) := dk_21 8 (dk_at dksX9_risen_3 18 rfl rfl)
theorem dX9_risen_90 : decode cX9_risen 90 = .ok (.ishl, 1) := dk_120 (dk_at dksX9_risen_3 20 rfl rfl)
theorem dX9_risen_91 : decode cX9_risen 91 = .ok (.goto 4, 3) := dk_167 0 4 (dk_at dksX9_risen_3 21 rfl rfl)
theorem dX9_risen_94 : decode cX9_risen 94 = .ok (.iconst 0, 1) := dk_3 (dk_at dksX9_risen_4 0 rfl rfl)
theorem dX9_risen_95 : decode cX9_risen 95 = .ok (.ior, 1) := dk_128 (dk_at dksX9_risen_4 1 rfl rfl)
theorem dX9_risen_96 : decode cX9_risen 96 = .ok (.istore 5, 2) := dk_54 5 (dk_at dksX9_risen_4 2 rfl rfl)
theorem dX9_risen_98 : decode cX9_risen 98 = .ok (.iinc 8 1, 3) := dk_132 8 1 (dk_at dksX9_risen_4 4 rfl rfl)
theorem dX9_risen_101 : decode cX9_risen 101 = .ok (.goto (-75), 3) := dk_167 255 181 (dk_at dksX9_risen_4 7 rfl rfl)
theorem dX9_risen_104 : decode cX9_risen 104 = .ok (.iload 5, 2) := dk_21 5 (dk_at dksX9_risen_4 10 rfl rfl)
theorem dX9_risen_106 : decode cX9_risen 106 = .ok (.iload 7, 2) := dk_21 7 (dk_at dksX9_risen_4 12 rfl rfl)
theorem dX9_risen_108 : decode cX9_risen 108 = .ok (.if_icmp .eq 7, 3) := dk_159 0 7 (dk_at dksX9_risen_4 14 rfl rfl)
theorem dX9_risen_111 : decode cX9_risen 111 = .ok (.iconst 1, 1) := dk_4 (dk_at dksX9_risen_4 17 rfl rfl)
theorem dX9_risen_112 : decode cX9_risen 112 = .ok (.goto 4, 3) := dk_167 0 4 (dk_at dksX9_risen_4 18 rfl rfl)
theorem dX9_risen_115 : decode cX9_risen 115 = .ok (.iconst 0, 1) := dk_3 (dk_at dksX9_risen_4 21 rfl rfl)
theorem dX9_risen_116 : decode cX9_risen 116 = .ok (.istore 6, 2) := dk_54 6 (dk_at dksX9_risen_4 22 rfl rfl)
theorem dX9_risen_118 : decode cX9_risen 118 = .ok (.goto (-104), 3) := dk_167 255 152 (dk_at dksX9_risen_5 0 rfl rfl)
theorem dX9_risen_121 : decode cX9_risen 121 = .ok (.iload 5, 2) := dk_21 5 (dk_at dksX9_risen_5 3 rfl rfl)
theorem dX9_risen_123 : decode cX9_risen 123 = .ok (.ireturn, 1) := dk_172 (dk_at dksX9_risen_5 5 rfl rfl)
abbrev cX9_those : ByteArray := prog_15_method_12_code
def yX9_those : MethodName := ⟨RX9, "those", "([II)I"⟩
def dkwX9_those_1 : List UInt8 := [160, 0, 10, 4, 21, 4, 120, 167, 0, 4, 3, 128, 62, 132, 4, 1, 167, 255, 222, 29, 172]
abbrev dktX9_those_1 : List UInt8 := dkwX9_those_1 ++ []
def dkwX9_those_0 : List UInt8 := [3, 62, 3, 54, 4, 21, 4, 42, 180, 0, 126, 162, 0, 31, 29, 43, 16, 8, 21, 4, 96, 46, 28]
abbrev dktX9_those_0 : List UInt8 := dkwX9_those_0 ++ dktX9_those_1
theorem dksX9_those_0 : cX9_those.data.toList.drop 0 = dktX9_those_0 := by decide +kernel
theorem dksX9_those_1 : cX9_those.data.toList.drop 23 = dktX9_those_1 := dk_seg dksX9_those_0 23 rfl rfl
theorem dX9_those_0 : decode cX9_those 0 = .ok (.iconst 0, 1) := dk_3 (dk_at dksX9_those_0 0 rfl rfl)
theorem dX9_those_1 : decode cX9_those 1 = .ok (.istore_n 3, 1) := dk_62 (dk_at dksX9_those_0 1 rfl rfl)
theorem dX9_those_2 : decode cX9_those 2 = .ok (.iconst 0, 1) := dk_3 (dk_at dksX9_those_0 2 rfl rfl)
theorem dX9_those_3 : decode cX9_those 3 = .ok (.istore 4, 2) := dk_54 4 (dk_at dksX9_those_0 3 rfl rfl)
theorem dX9_those_5 : decode cX9_those 5 = .ok (.iload 4, 2) := dk_21 4 (dk_at dksX9_those_0 5 rfl rfl)
theorem dX9_those_7 : decode cX9_those 7 = .ok (.aload_n 0, 1) := dk_42 (dk_at dksX9_those_0 7 rfl rfl)
theorem dX9_those_8 : decode cX9_those 8 = .ok (.getfield 126, 3) := dk_180 0 126 (dk_at dksX9_those_0 8 rfl rfl)
theorem dX9_those_11 : decode cX9_those 11 = .ok (.if_icmp .ge 31, 3) := dk_162 0 31 (dk_at dksX9_those_0 11 rfl rfl)
theorem dX9_those_14 : decode cX9_those 14 = .ok (.iload_n 3, 1) := dk_29 (dk_at dksX9_those_0 14 rfl rfl)
theorem dX9_those_15 : decode cX9_those 15 = .ok (.aload_n 1, 1) := dk_43 (dk_at dksX9_those_0 15 rfl rfl)
theorem dX9_those_16 : decode cX9_those 16 = .ok (.bipush 8, 2) := dk_16 8 (dk_at dksX9_those_0 16 rfl rfl)
theorem dX9_those_18 : decode cX9_those 18 = .ok (.iload 4, 2) := dk_21 4 (dk_at dksX9_those_0 18 rfl rfl)
theorem dX9_those_20 : decode cX9_those 20 = .ok (.iadd, 1) := dk_96 (dk_at dksX9_those_0 20 rfl rfl)
theorem dX9_those_21 : decode cX9_those 21 = .ok (.iaload, 1) := dk_46 (dk_at dksX9_those_0 21 rfl rfl)
theorem dX9_those_22 : decode cX9_those 22 = .ok (.iload_n 2, 1) := dk_28 (dk_at dksX9_those_0 22 rfl rfl)
theorem dX9_those_23 : decode cX9_those 23 = .ok (.if_icmp .ne 10, 3) := dk_160 0 10 (dk_at dksX9_those_1 0 rfl rfl)
theorem dX9_those_26 : decode cX9_those 26 = .ok (.iconst 1, 1) := dk_4 (dk_at dksX9_those_1 3 rfl rfl)
theorem dX9_those_27 : decode cX9_those 27 = .ok (.iload 4, 2) := dk_21 4 (dk_at dksX9_those_1 4 rfl rfl)
theorem dX9_those_29 : decode cX9_those 29 = .ok (.ishl, 1) := dk_120 (dk_at dksX9_those_1 6 rfl rfl)
theorem dX9_those_30 : decode cX9_those 30 = .ok (.goto 4, 3) := dk_167 0 4 (dk_at dksX9_those_1 7 rfl rfl)
theorem dX9_those_33 : decode cX9_those 33 = .ok (.iconst 0, 1) := dk_3 (dk_at dksX9_those_1 10 rfl rfl)
theorem dX9_those_34 : decode cX9_those 34 = .ok (.ior, 1) := dk_128 (dk_at dksX9_those_1 11 rfl rfl)
theorem dX9_those_35 : decode cX9_those 35 = .ok (.istore_n 3, 1) := dk_62 (dk_at dksX9_those_1 12 rfl rfl)
theorem dX9_those_36 : decode cX9_those 36 = .ok (.iinc 4 1, 3) := dk_132 4 1 (dk_at dksX9_those_1 13 rfl rfl)
theorem dX9_those_39 : decode cX9_those 39 = .ok (.goto (-34), 3) := dk_167 255 222 (dk_at dksX9_those_1 16 rfl rfl)
theorem dX9_those_42 : decode cX9_those 42 = .ok (.iload_n 3, 1) := dk_29 (dk_at dksX9_those_1 19 rfl rfl)
theorem dX9_those_43 : decode cX9_those 43 = .ok (.ireturn, 1) := dk_172 (dk_at dksX9_those_1 20 rfl rfl)
abbrev cX9_has : ByteArray := prog_15_method_5_code
def yX9_has : MethodName := ⟨RX9, "has", "(II)Z"⟩
def dkwX9_has_0 : List UInt8 := [26, 27, 122, 4, 126, 4, 160, 0, 7, 4, 167, 0, 4, 3, 172]
abbrev dktX9_has_0 : List UInt8 := dkwX9_has_0 ++ []
theorem dksX9_has_0 : cX9_has.data.toList.drop 0 = dktX9_has_0 := by decide +kernel
theorem dX9_has_0 : decode cX9_has 0 = .ok (.iload_n 0, 1) := dk_26 (dk_at dksX9_has_0 0 rfl rfl)
theorem dX9_has_1 : decode cX9_has 1 = .ok (.iload_n 1, 1) := dk_27 (dk_at dksX9_has_0 1 rfl rfl)
theorem dX9_has_2 : decode cX9_has 2 = .ok (.ishr, 1) := dk_122 (dk_at dksX9_has_0 2 rfl rfl)
theorem dX9_has_3 : decode cX9_has 3 = .ok (.iconst 1, 1) := dk_4 (dk_at dksX9_has_0 3 rfl rfl)
theorem dX9_has_4 : decode cX9_has 4 = .ok (.iand, 1) := dk_126 (dk_at dksX9_has_0 4 rfl rfl)
theorem dX9_has_5 : decode cX9_has 5 = .ok (.iconst 1, 1) := dk_4 (dk_at dksX9_has_0 5 rfl rfl)
theorem dX9_has_6 : decode cX9_has 6 = .ok (.if_icmp .ne 7, 3) := dk_160 0 7 (dk_at dksX9_has_0 6 rfl rfl)
theorem dX9_has_9 : decode cX9_has 9 = .ok (.iconst 1, 1) := dk_4 (dk_at dksX9_has_0 9 rfl rfl)
theorem dX9_has_10 : decode cX9_has 10 = .ok (.goto 4, 3) := dk_167 0 4 (dk_at dksX9_has_0 10 rfl rfl)
theorem dX9_has_13 : decode cX9_has 13 = .ok (.iconst 0, 1) := dk_3 (dk_at dksX9_has_0 13 rfl rfl)
theorem dX9_has_14 : decode cX9_has 14 = .ok (.ireturn, 1) := dk_172 (dk_at dksX9_has_0 14 rfl rfl)
abbrev cX9_joins : ByteArray := prog_15_method_36_code
def yX9_joins : MethodName := ⟨RX9, "joins", "([III)Z"⟩
def dkwX9_joins_7 : List UInt8 := [162, 0, 7, 4, 167, 0, 4, 3, 172, 3, 172]
abbrev dktX9_joins_7 : List UInt8 := dkwX9_joins_7 ++ []
def dkwX9_joins_6 : List UInt8 := [28, 46, 164, 0, 7, 4, 167, 0, 4, 3, 172, 21, 5, 154, 0, 12, 43, 16, 17, 46, 16, 10]
abbrev dktX9_joins_6 : List UInt8 := dkwX9_joins_6 ++ dktX9_joins_7
def dkwX9_joins_5 : List UInt8 := [167, 0, 4, 3, 172, 21, 4, 154, 0, 22, 42, 180, 0, 24, 28, 46, 158, 0, 17, 29, 42, 180, 0, 24]
abbrev dktX9_joins_5 : List UInt8 := dkwX9_joins_5 ++ dktX9_joins_6
def dkwX9_joins_4 : List UInt8 := [21, 5, 172, 42, 180, 0, 24, 28, 46, 158, 0, 17, 29, 42, 180, 0, 24, 28, 46, 161, 0, 7, 4]
abbrev dktX9_joins_4 : List UInt8 := dkwX9_joins_4 ++ dktX9_joins_5
def dkwX9_joins_3 : List UInt8 := [170, 0, 0, 0, 0, 112, 0, 0, 0, 0, 0, 0, 0, 4, 0, 0, 0, 34, 0, 0, 0, 37, 0, 0, 0, 112, 0, 0, 0, 62, 0, 0, 0, 92]
abbrev dktX9_joins_3 : List UInt8 := dkwX9_joins_3 ++ dktX9_joins_4
def dkwX9_joins_2 : List UInt8 := [167, 0, 4, 3, 54, 5, 42, 180, 0, 27, 28, 46]
abbrev dktX9_joins_2 : List UInt8 := dkwX9_joins_2 ++ dktX9_joins_3
def dkwX9_joins_1 : List UInt8 := [154, 0, 22, 42, 180, 0, 24, 28, 46, 158, 0, 17, 29, 42, 180, 0, 24, 28, 46, 161, 0, 7, 4]
abbrev dktX9_joins_1 : List UInt8 := dkwX9_joins_1 ++ dktX9_joins_2
def dkwX9_joins_0 : List UInt8 := [43, 28, 46, 8, 42, 180, 0, 21, 28, 46, 104, 161, 0, 7, 4, 167, 0, 4, 3, 54, 4, 21, 4]
abbrev dktX9_joins_0 : List UInt8 := dkwX9_joins_0 ++ dktX9_joins_1
theorem dksX9_joins_0 : cX9_joins.data.toList.drop 0 = dktX9_joins_0 := by decide +kernel
theorem dksX9_joins_1 : cX9_joins.data.toList.drop 23 = dktX9_joins_1 := dk_seg dksX9_joins_0 23 rfl rfl
theorem dksX9_joins_2 : cX9_joins.data.toList.drop 46 = dktX9_joins_2 := dk_seg dksX9_joins_1 23 rfl rfl
theorem dksX9_joins_3 : cX9_joins.data.toList.drop 58 = dktX9_joins_3 := dk_seg dksX9_joins_2 12 rfl rfl
theorem dksX9_joins_4 : cX9_joins.data.toList.drop 92 = dktX9_joins_4 := dk_seg dksX9_joins_3 34 rfl rfl
theorem dksX9_joins_5 : cX9_joins.data.toList.drop 115 = dktX9_joins_5 := dk_seg dksX9_joins_4 23 rfl rfl
theorem dksX9_joins_6 : cX9_joins.data.toList.drop 139 = dktX9_joins_6 := dk_seg dksX9_joins_5 24 rfl rfl
theorem dksX9_joins_7 : cX9_joins.data.toList.drop 161 = dktX9_joins_7 := dk_seg dksX9_joins_6 22 rfl rfl
theorem dX9_joins_0 : decode cX9_joins 0 = .ok (.aload_n 1, 1) := dk_43 (dk_at dksX9_joins_0 0 rfl rfl)
theorem dX9_joins_1 : decode cX9_joins 1 = .ok (.iload_n 2, 1) := dk_28 (dk_at dksX9_joins_0 1 rfl rfl)
theorem dX9_joins_2 : decode cX9_joins 2 = .ok (.iaload, 1) := dk_46 (dk_at dksX9_joins_0 2 rfl rfl)
theorem dX9_joins_3 : decode cX9_joins 3 = .ok (.iconst 5, 1) := dk_8 (dk_at dksX9_joins_0 3 rfl rfl)
theorem dX9_joins_4 : decode cX9_joins 4 = .ok (.aload_n 0, 1) := dk_42 (dk_at dksX9_joins_0 4 rfl rfl)
theorem dX9_joins_5 : decode cX9_joins 5 = .ok (.getfield 21, 3) := dk_180 0 21 (dk_at dksX9_joins_0 5 rfl rfl)
theorem dX9_joins_8 : decode cX9_joins 8 = .ok (.iload_n 2, 1) := dk_28 (dk_at dksX9_joins_0 8 rfl rfl)
theorem dX9_joins_9 : decode cX9_joins 9 = .ok (.iaload, 1) := dk_46 (dk_at dksX9_joins_0 9 rfl rfl)
theorem dX9_joins_10 : decode cX9_joins 10 = .ok (.imul, 1) := dk_104 (dk_at dksX9_joins_0 10 rfl rfl)
theorem dX9_joins_11 : decode cX9_joins 11 = .ok (.if_icmp .lt 7, 3) := dk_161 0 7 (dk_at dksX9_joins_0 11 rfl rfl)
theorem dX9_joins_14 : decode cX9_joins 14 = .ok (.iconst 1, 1) := dk_4 (dk_at dksX9_joins_0 14 rfl rfl)
theorem dX9_joins_15 : decode cX9_joins 15 = .ok (.goto 4, 3) := dk_167 0 4 (dk_at dksX9_joins_0 15 rfl rfl)
theorem dX9_joins_18 : decode cX9_joins 18 = .ok (.iconst 0, 1) := dk_3 (dk_at dksX9_joins_0 18 rfl rfl)
theorem dX9_joins_19 : decode cX9_joins 19 = .ok (.istore 4, 2) := dk_54 4 (dk_at dksX9_joins_0 19 rfl rfl)
theorem dX9_joins_21 : decode cX9_joins 21 = .ok (.iload 4, 2) := dk_21 4 (dk_at dksX9_joins_0 21 rfl rfl)
theorem dX9_joins_23 : decode cX9_joins 23 = .ok (.ifCond .ne 22, 3) := dk_154 0 22 (dk_at dksX9_joins_1 0 rfl rfl)
theorem dX9_joins_26 : decode cX9_joins 26 = .ok (.aload_n 0, 1) := dk_42 (dk_at dksX9_joins_1 3 rfl rfl)
theorem dX9_joins_27 : decode cX9_joins 27 = .ok (.getfield 24, 3) := dk_180 0 24 (dk_at dksX9_joins_1 4 rfl rfl)
theorem dX9_joins_30 : decode cX9_joins 30 = .ok (.iload_n 2, 1) := dk_28 (dk_at dksX9_joins_1 7 rfl rfl)
theorem dX9_joins_31 : decode cX9_joins 31 = .ok (.iaload, 1) := dk_46 (dk_at dksX9_joins_1 8 rfl rfl)
theorem dX9_joins_32 : decode cX9_joins 32 = .ok (.ifCond .le 17, 3) := dk_158 0 17 (dk_at dksX9_joins_1 9 rfl rfl)
theorem dX9_joins_35 : decode cX9_joins 35 = .ok (.iload_n 3, 1) := dk_29 (dk_at dksX9_joins_1 12 rfl rfl)
theorem dX9_joins_36 : decode cX9_joins 36 = .ok (.aload_n 0, 1) := dk_42 (dk_at dksX9_joins_1 13 rfl rfl)
theorem dX9_joins_37 : decode cX9_joins 37 = .ok (.getfield 24, 3) := dk_180 0 24 (dk_at dksX9_joins_1 14 rfl rfl)
theorem dX9_joins_40 : decode cX9_joins 40 = .ok (.iload_n 2, 1) := dk_28 (dk_at dksX9_joins_1 17 rfl rfl)
theorem dX9_joins_41 : decode cX9_joins 41 = .ok (.iaload, 1) := dk_46 (dk_at dksX9_joins_1 18 rfl rfl)
theorem dX9_joins_42 : decode cX9_joins 42 = .ok (.if_icmp .lt 7, 3) := dk_161 0 7 (dk_at dksX9_joins_1 19 rfl rfl)
theorem dX9_joins_45 : decode cX9_joins 45 = .ok (.iconst 1, 1) := dk_4 (dk_at dksX9_joins_1 22 rfl rfl)
theorem dX9_joins_46 : decode cX9_joins 46 = .ok (.goto 4, 3) := dk_167 0 4 (dk_at dksX9_joins_2 0 rfl rfl)
theorem dX9_joins_49 : decode cX9_joins 49 = .ok (.iconst 0, 1) := dk_3 (dk_at dksX9_joins_2 3 rfl rfl)
theorem dX9_joins_50 : decode cX9_joins 50 = .ok (.istore 5, 2) := dk_54 5 (dk_at dksX9_joins_2 4 rfl rfl)
theorem dX9_joins_52 : decode cX9_joins 52 = .ok (.aload_n 0, 1) := dk_42 (dk_at dksX9_joins_2 6 rfl rfl)
theorem dX9_joins_53 : decode cX9_joins 53 = .ok (.getfield 27, 3) := dk_180 0 27 (dk_at dksX9_joins_2 7 rfl rfl)
theorem dX9_joins_56 : decode cX9_joins 56 = .ok (.iload_n 2, 1) := dk_28 (dk_at dksX9_joins_2 10 rfl rfl)
theorem dX9_joins_57 : decode cX9_joins 57 = .ok (.iaload, 1) := dk_46 (dk_at dksX9_joins_2 11 rfl rfl)
theorem dX9_joins_58 : decode cX9_joins 58 = .ok (.tableswitch 112 0 4 #[34, 37, 112, 62, 92], 34) := by decide +kernel
theorem dX9_joins_92 : decode cX9_joins 92 = .ok (.iload 5, 2) := dk_21 5 (dk_at dksX9_joins_4 0 rfl rfl)
theorem dX9_joins_94 : decode cX9_joins 94 = .ok (.ireturn, 1) := dk_172 (dk_at dksX9_joins_4 2 rfl rfl)
theorem dX9_joins_95 : decode cX9_joins 95 = .ok (.aload_n 0, 1) := dk_42 (dk_at dksX9_joins_4 3 rfl rfl)
theorem dX9_joins_96 : decode cX9_joins 96 = .ok (.getfield 24, 3) := dk_180 0 24 (dk_at dksX9_joins_4 4 rfl rfl)
theorem dX9_joins_99 : decode cX9_joins 99 = .ok (.iload_n 2, 1) := dk_28 (dk_at dksX9_joins_4 7 rfl rfl)
theorem dX9_joins_100 : decode cX9_joins 100 = .ok (.iaload, 1) := dk_46 (dk_at dksX9_joins_4 8 rfl rfl)
theorem dX9_joins_101 : decode cX9_joins 101 = .ok (.ifCond .le 17, 3) := dk_158 0 17 (dk_at dksX9_joins_4 9 rfl rfl)
theorem dX9_joins_104 : decode cX9_joins 104 = .ok (.iload_n 3, 1) := dk_29 (dk_at dksX9_joins_4 12 rfl rfl)
theorem dX9_joins_105 : decode cX9_joins 105 = .ok (.aload_n 0, 1) := dk_42 (dk_at dksX9_joins_4 13 rfl rfl)
theorem dX9_joins_106 : decode cX9_joins 106 = .ok (.getfield 24, 3) := dk_180 0 24 (dk_at dksX9_joins_4 14 rfl rfl)
theorem dX9_joins_109 : decode cX9_joins 109 = .ok (.iload_n 2, 1) := dk_28 (dk_at dksX9_joins_4 17 rfl rfl)
theorem dX9_joins_110 : decode cX9_joins 110 = .ok (.iaload, 1) := dk_46 (dk_at dksX9_joins_4 18 rfl rfl)
theorem dX9_joins_111 : decode cX9_joins 111 = .ok (.if_icmp .lt 7, 3) := dk_161 0 7 (dk_at dksX9_joins_4 19 rfl rfl)
theorem dX9_joins_114 : decode cX9_joins 114 = .ok (.iconst 1, 1) := dk_4 (dk_at dksX9_joins_4 22 rfl rfl)
theorem dX9_joins_115 : decode cX9_joins 115 = .ok (.goto 4, 3) := dk_167 0 4 (dk_at dksX9_joins_5 0 rfl rfl)
theorem dX9_joins_118 : decode cX9_joins 118 = .ok (.iconst 0, 1) := dk_3 (dk_at dksX9_joins_5 3 rfl rfl)
theorem dX9_joins_119 : decode cX9_joins 119 = .ok (.ireturn, 1) := dk_172 (dk_at dksX9_joins_5 4 rfl rfl)
theorem dX9_joins_120 : decode cX9_joins 120 = .ok (.iload 4, 2) := dk_21 4 (dk_at dksX9_joins_5 5 rfl rfl)
theorem dX9_joins_122 : decode cX9_joins 122 = .ok (.ifCond .ne 22, 3) := dk_154 0 22 (dk_at dksX9_joins_5 7 rfl rfl)
theorem dX9_joins_125 : decode cX9_joins 125 = .ok (.aload_n 0, 1) := dk_42 (dk_at dksX9_joins_5 10 rfl rfl)
theorem dX9_joins_126 : decode cX9_joins 126 = .ok (.getfield 24, 3) := dk_180 0 24 (dk_at dksX9_joins_5 11 rfl rfl)
theorem dX9_joins_129 : decode cX9_joins 129 = .ok (.iload_n 2, 1) := dk_28 (dk_at dksX9_joins_5 14 rfl rfl)
theorem dX9_joins_130 : decode cX9_joins 130 = .ok (.iaload, 1) := dk_46 (dk_at dksX9_joins_5 15 rfl rfl)
theorem dX9_joins_131 : decode cX9_joins 131 = .ok (.ifCond .le 17, 3) := dk_158 0 17 (dk_at dksX9_joins_5 16 rfl rfl)
theorem dX9_joins_134 : decode cX9_joins 134 = .ok (.iload_n 3, 1) := dk_29 (dk_at dksX9_joins_5 19 rfl rfl)
theorem dX9_joins_135 : decode cX9_joins 135 = .ok (.aload_n 0, 1) := dk_42 (dk_at dksX9_joins_5 20 rfl rfl)
theorem dX9_joins_136 : decode cX9_joins 136 = .ok (.getfield 24, 3) := dk_180 0 24 (dk_at dksX9_joins_5 21 rfl rfl)
theorem dX9_joins_139 : decode cX9_joins 139 = .ok (.iload_n 2, 1) := dk_28 (dk_at dksX9_joins_6 0 rfl rfl)
theorem dX9_joins_140 : decode cX9_joins 140 = .ok (.iaload, 1) := dk_46 (dk_at dksX9_joins_6 1 rfl rfl)
theorem dX9_joins_141 : decode cX9_joins 141 = .ok (.if_icmp .le 7, 3) := dk_164 0 7 (dk_at dksX9_joins_6 2 rfl rfl)
theorem dX9_joins_144 : decode cX9_joins 144 = .ok (.iconst 1, 1) := dk_4 (dk_at dksX9_joins_6 5 rfl rfl)
theorem dX9_joins_145 : decode cX9_joins 145 = .ok (.goto 4, 3) := dk_167 0 4 (dk_at dksX9_joins_6 6 rfl rfl)
theorem dX9_joins_148 : decode cX9_joins 148 = .ok (.iconst 0, 1) := dk_3 (dk_at dksX9_joins_6 9 rfl rfl)
theorem dX9_joins_149 : decode cX9_joins 149 = .ok (.ireturn, 1) := dk_172 (dk_at dksX9_joins_6 10 rfl rfl)
theorem dX9_joins_150 : decode cX9_joins 150 = .ok (.iload 5, 2) := dk_21 5 (dk_at dksX9_joins_6 11 rfl rfl)
theorem dX9_joins_152 : decode cX9_joins 152 = .ok (.ifCond .ne 12, 3) := dk_154 0 12 (dk_at dksX9_joins_6 13 rfl rfl)
theorem dX9_joins_155 : decode cX9_joins 155 = .ok (.aload_n 1, 1) := dk_43 (dk_at dksX9_joins_6 16 rfl rfl)
theorem dX9_joins_156 : decode cX9_joins 156 = .ok (.bipush 17, 2) := dk_16 17 (dk_at dksX9_joins_6 17 rfl rfl)
theorem dX9_joins_158 : decode cX9_joins 158 = .ok (.iaload, 1) := dk_46 (dk_at dksX9_joins_6 19 rfl rfl)
theorem dX9_joins_159 : decode cX9_joins 159 = .ok (.bipush 10, 2) := dk_16 10 (dk_at dksX9_joins_6 20 rfl rfl)
theorem dX9_joins_161 : decode cX9_joins 161 = .ok (.if_icmp .ge 7, 3) := dk_162 0 7 (dk_at dksX9_joins_7 0 rfl rfl)
theorem dX9_joins_164 : decode cX9_joins 164 = .ok (.iconst 1, 1) := dk_4 (dk_at dksX9_joins_7 3 rfl rfl)
theorem dX9_joins_165 : decode cX9_joins 165 = .ok (.goto 4, 3) := dk_167 0 4 (dk_at dksX9_joins_7 4 rfl rfl)
theorem dX9_joins_168 : decode cX9_joins 168 = .ok (.iconst 0, 1) := dk_3 (dk_at dksX9_joins_7 7 rfl rfl)
theorem dX9_joins_169 : decode cX9_joins 169 = .ok (.ireturn, 1) := dk_172 (dk_at dksX9_joins_7 8 rfl rfl)
theorem dX9_joins_170 : decode cX9_joins 170 = .ok (.iconst 0, 1) := dk_3 (dk_at dksX9_joins_7 9 rfl rfl)
theorem dX9_joins_171 : decode cX9_joins 171 = .ok (.ireturn, 1) := dk_172 (dk_at dksX9_joins_7 10 rfl rfl)
abbrev cX9_island : ByteArray := prog_15_method_41_code
def yX9_island : MethodName := ⟨RX9, "island", "(II)I"⟩
def dkwX9_island_4 : List UInt8 := [182, 1, 35, 172]
abbrev dktX9_island_4 : List UInt8 := dkwX9_island_4 ++ []
def dkwX9_island_3 : List UInt8 := [42, 180, 0, 30, 27, 46, 172, 42, 180, 0, 33, 27, 46, 172, 42, 180, 0, 36, 27, 46, 172, 42, 27]
abbrev dktX9_island_3 : List UInt8 := dkwX9_island_3 ++ dktX9_island_4
def dkwX9_island_2 : List UInt8 := [170, 0, 0, 0, 46, 0, 0, 0, 0, 0, 0, 0, 2, 0, 0, 0, 25, 0, 0, 0, 32, 0, 0, 0, 39]
abbrev dktX9_island_2 : List UInt8 := dkwX9_island_2 ++ dktX9_island_3
def dkwX9_island_1 : List UInt8 := [154, 0, 8, 42, 182, 1, 27, 172, 28]
abbrev dktX9_island_1 : List UInt8 := dkwX9_island_1 ++ dktX9_island_2
def dkwX9_island_0 : List UInt8 := [42, 3, 181, 0, 112, 42, 27, 182, 1, 30, 153, 0, 15, 28, 133, 9, 20, 1, 33, 184, 0, 129]
abbrev dktX9_island_0 : List UInt8 := dkwX9_island_0 ++ dktX9_island_1
theorem dksX9_island_0 : cX9_island.data.toList.drop 0 = dktX9_island_0 := by decide +kernel
theorem dksX9_island_1 : cX9_island.data.toList.drop 22 = dktX9_island_1 := dk_seg dksX9_island_0 22 rfl rfl
theorem dksX9_island_2 : cX9_island.data.toList.drop 31 = dktX9_island_2 := dk_seg dksX9_island_1 9 rfl rfl
theorem dksX9_island_3 : cX9_island.data.toList.drop 56 = dktX9_island_3 := dk_seg dksX9_island_2 25 rfl rfl
theorem dksX9_island_4 : cX9_island.data.toList.drop 79 = dktX9_island_4 := dk_seg dksX9_island_3 23 rfl rfl
theorem dX9_island_0 : decode cX9_island 0 = .ok (.aload_n 0, 1) := dk_42 (dk_at dksX9_island_0 0 rfl rfl)
theorem dX9_island_1 : decode cX9_island 1 = .ok (.iconst 0, 1) := dk_3 (dk_at dksX9_island_0 1 rfl rfl)
theorem dX9_island_2 : decode cX9_island 2 = .ok (.putfield 112, 3) := dk_181 0 112 (dk_at dksX9_island_0 2 rfl rfl)
theorem dX9_island_5 : decode cX9_island 5 = .ok (.aload_n 0, 1) := dk_42 (dk_at dksX9_island_0 5 rfl rfl)
theorem dX9_island_6 : decode cX9_island 6 = .ok (.iload_n 1, 1) := dk_27 (dk_at dksX9_island_0 6 rfl rfl)
theorem dX9_island_7 : decode cX9_island 7 = .ok (.invokevirtual 286, 3) := dk_182 1 30 (dk_at dksX9_island_0 7 rfl rfl)
theorem dX9_island_10 : decode cX9_island 10 = .ok (.ifCond .eq 15, 3) := dk_153 0 15 (dk_at dksX9_island_0 10 rfl rfl)
theorem dX9_island_13 : decode cX9_island 13 = .ok (.iload_n 2, 1) := dk_28 (dk_at dksX9_island_0 13 rfl rfl)
theorem dX9_island_14 : decode cX9_island 14 = .ok (.i2l, 1) := dk_133 (dk_at dksX9_island_0 14 rfl rfl)
theorem dX9_island_15 : decode cX9_island 15 = .ok (.lconst 0, 1) := dk_9 (dk_at dksX9_island_0 15 rfl rfl)
theorem dX9_island_16 : decode cX9_island 16 = .ok (.ldc2_w 289, 3) := dk_20 1 33 (dk_at dksX9_island_0 16 rfl rfl)
theorem dX9_island_19 : decode cX9_island 19 = .ok (.invokestatic 129, 3) := dk_184 0 129 (dk_at dksX9_island_0 19 rfl rfl)
theorem dX9_island_22 : decode cX9_island 22 = .ok (.ifCond .ne 8, 3) := dk_154 0 8 (dk_at dksX9_island_1 0 rfl rfl)
theorem dX9_island_25 : decode cX9_island 25 = .ok (.aload_n 0, 1) := dk_42 (dk_at dksX9_island_1 3 rfl rfl)
theorem dX9_island_26 : decode cX9_island 26 = .ok (.invokevirtual 283, 3) := dk_182 1 27 (dk_at dksX9_island_1 4 rfl rfl)
theorem dX9_island_29 : decode cX9_island 29 = .ok (.ireturn, 1) := dk_172 (dk_at dksX9_island_1 7 rfl rfl)
theorem dX9_island_30 : decode cX9_island 30 = .ok (.iload_n 2, 1) := dk_28 (dk_at dksX9_island_1 8 rfl rfl)
theorem dX9_island_31 : decode cX9_island 31 = .ok (.tableswitch 46 0 2 #[25, 32, 39], 25) := by decide +kernel
theorem dX9_island_56 : decode cX9_island 56 = .ok (.aload_n 0, 1) := dk_42 (dk_at dksX9_island_3 0 rfl rfl)
theorem dX9_island_57 : decode cX9_island 57 = .ok (.getfield 30, 3) := dk_180 0 30 (dk_at dksX9_island_3 1 rfl rfl)
theorem dX9_island_60 : decode cX9_island 60 = .ok (.iload_n 1, 1) := dk_27 (dk_at dksX9_island_3 4 rfl rfl)
theorem dX9_island_61 : decode cX9_island 61 = .ok (.iaload, 1) := dk_46 (dk_at dksX9_island_3 5 rfl rfl)
theorem dX9_island_62 : decode cX9_island 62 = .ok (.ireturn, 1) := dk_172 (dk_at dksX9_island_3 6 rfl rfl)
theorem dX9_island_63 : decode cX9_island 63 = .ok (.aload_n 0, 1) := dk_42 (dk_at dksX9_island_3 7 rfl rfl)
theorem dX9_island_64 : decode cX9_island 64 = .ok (.getfield 33, 3) := dk_180 0 33 (dk_at dksX9_island_3 8 rfl rfl)
theorem dX9_island_67 : decode cX9_island 67 = .ok (.iload_n 1, 1) := dk_27 (dk_at dksX9_island_3 11 rfl rfl)
theorem dX9_island_68 : decode cX9_island 68 = .ok (.iaload, 1) := dk_46 (dk_at dksX9_island_3 12 rfl rfl)
theorem dX9_island_69 : decode cX9_island 69 = .ok (.ireturn, 1) := dk_172 (dk_at dksX9_island_3 13 rfl rfl)
theorem dX9_island_70 : decode cX9_island 70 = .ok (.aload_n 0, 1) := dk_42 (dk_at dksX9_island_3 14 rfl rfl)
theorem dX9_island_71 : decode cX9_island 71 = .ok (.getfield 36, 3) := dk_180 0 36 (dk_at dksX9_island_3 15 rfl rfl)
theorem dX9_island_74 : decode cX9_island 74 = .ok (.iload_n 1, 1) := dk_27 (dk_at dksX9_island_3 18 rfl rfl)
theorem dX9_island_75 : decode cX9_island 75 = .ok (.iaload, 1) := dk_46 (dk_at dksX9_island_3 19 rfl rfl)
theorem dX9_island_76 : decode cX9_island 76 = .ok (.ireturn, 1) := dk_172 (dk_at dksX9_island_3 20 rfl rfl)
theorem dX9_island_77 : decode cX9_island 77 = .ok (.aload_n 0, 1) := dk_42 (dk_at dksX9_island_3 21 rfl rfl)
theorem dX9_island_78 : decode cX9_island 78 = .ok (.iload_n 1, 1) := dk_27 (dk_at dksX9_island_3 22 rfl rfl)
theorem dX9_island_79 : decode cX9_island 79 = .ok (.invokevirtual 291, 3) := dk_182 1 35 (dk_at dksX9_island_4 0 rfl rfl)
theorem dX9_island_82 : decode cX9_island 82 = .ok (.ireturn, 1) := dk_172 (dk_at dksX9_island_4 3 rfl rfl)
abbrev cX9_isIsland : ByteArray := prog_15_method_11_code
def yX9_isIsland : MethodName := ⟨RX9, "isIsland", "(I)Z"⟩
def dkwX9_isIsland_0 : List UInt8 := [27, 133, 9, 42, 180, 0, 133, 4, 100, 133, 184, 0, 129, 172]
abbrev dktX9_isIsland_0 : List UInt8 := dkwX9_isIsland_0 ++ []
theorem dksX9_isIsland_0 : cX9_isIsland.data.toList.drop 0 = dktX9_isIsland_0 := by decide +kernel
theorem dX9_isIsland_0 : decode cX9_isIsland 0 = .ok (.iload_n 1, 1) := dk_27 (dk_at dksX9_isIsland_0 0 rfl rfl)
theorem dX9_isIsland_1 : decode cX9_isIsland 1 = .ok (.i2l, 1) := dk_133 (dk_at dksX9_isIsland_0 1 rfl rfl)
theorem dX9_isIsland_2 : decode cX9_isIsland 2 = .ok (.lconst 0, 1) := dk_9 (dk_at dksX9_isIsland_0 2 rfl rfl)
theorem dX9_isIsland_3 : decode cX9_isIsland 3 = .ok (.aload_n 0, 1) := dk_42 (dk_at dksX9_isIsland_0 3 rfl rfl)
theorem dX9_isIsland_4 : decode cX9_isIsland 4 = .ok (.getfield 133, 3) := dk_180 0 133 (dk_at dksX9_isIsland_0 4 rfl rfl)
theorem dX9_isIsland_7 : decode cX9_isIsland 7 = .ok (.iconst 1, 1) := dk_4 (dk_at dksX9_isIsland_0 7 rfl rfl)
theorem dX9_isIsland_8 : decode cX9_isIsland 8 = .ok (.isub, 1) := dk_100 (dk_at dksX9_isIsland_0 8 rfl rfl)
theorem dX9_isIsland_9 : decode cX9_isIsland 9 = .ok (.i2l, 1) := dk_133 (dk_at dksX9_isIsland_0 9 rfl rfl)
theorem dX9_isIsland_10 : decode cX9_isIsland 10 = .ok (.invokestatic 129, 3) := dk_184 0 129 (dk_at dksX9_isIsland_0 10 rfl rfl)
theorem dX9_isIsland_13 : decode cX9_isIsland 13 = .ok (.ireturn, 1) := dk_172 (dk_at dksX9_isIsland_0 13 rfl rfl)
abbrev cX9_searchesOf : ByteArray := prog_15_method_91_code
def yX9_searchesOf : MethodName := ⟨RX9, "searchesOf", "(I)I"⟩
def dkwX9_searchesOf_1 : List UInt8 := [167, 0, 4, 3, 184, 0, 154, 96, 61, 132, 3, 1, 167, 255, 224, 28, 172]
abbrev dktX9_searchesOf_1 : List UInt8 := dkwX9_searchesOf_1 ++ []
def dkwX9_searchesOf_0 : List UInt8 := [3, 61, 3, 62, 29, 42, 180, 1, 153, 162, 0, 30, 28, 42, 180, 0, 93, 29, 46, 27, 160, 0, 7, 4]
abbrev dktX9_searchesOf_0 : List UInt8 := dkwX9_searchesOf_0 ++ dktX9_searchesOf_1
theorem dksX9_searchesOf_0 : cX9_searchesOf.data.toList.drop 0 = dktX9_searchesOf_0 := by decide +kernel
theorem dksX9_searchesOf_1 : cX9_searchesOf.data.toList.drop 24 = dktX9_searchesOf_1 := dk_seg dksX9_searchesOf_0 24 rfl rfl
theorem dX9_searchesOf_0 : decode cX9_searchesOf 0 = .ok (.iconst 0, 1) := dk_3 (dk_at dksX9_searchesOf_0 0 rfl rfl)
theorem dX9_searchesOf_1 : decode cX9_searchesOf 1 = .ok (.istore_n 2, 1) := dk_61 (dk_at dksX9_searchesOf_0 1 rfl rfl)
theorem dX9_searchesOf_2 : decode cX9_searchesOf 2 = .ok (.iconst 0, 1) := dk_3 (dk_at dksX9_searchesOf_0 2 rfl rfl)
theorem dX9_searchesOf_3 : decode cX9_searchesOf 3 = .ok (.istore_n 3, 1) := dk_62 (dk_at dksX9_searchesOf_0 3 rfl rfl)
theorem dX9_searchesOf_4 : decode cX9_searchesOf 4 = .ok (.iload_n 3, 1) := dk_29 (dk_at dksX9_searchesOf_0 4 rfl rfl)
theorem dX9_searchesOf_5 : decode cX9_searchesOf 5 = .ok (.aload_n 0, 1) := dk_42 (dk_at dksX9_searchesOf_0 5 rfl rfl)
theorem dX9_searchesOf_6 : decode cX9_searchesOf 6 = .ok (.getfield 409, 3) := dk_180 1 153 (dk_at dksX9_searchesOf_0 6 rfl rfl)
theorem dX9_searchesOf_9 : decode cX9_searchesOf 9 = .ok (.if_icmp .ge 30, 3) := dk_162 0 30 (dk_at dksX9_searchesOf_0 9 rfl rfl)
theorem dX9_searchesOf_12 : decode cX9_searchesOf 12 = .ok (.iload_n 2, 1) := dk_28 (dk_at dksX9_searchesOf_0 12 rfl rfl)
theorem dX9_searchesOf_13 : decode cX9_searchesOf 13 = .ok (.aload_n 0, 1) := dk_42 (dk_at dksX9_searchesOf_0 13 rfl rfl)
theorem dX9_searchesOf_14 : decode cX9_searchesOf 14 = .ok (.getfield 93, 3) := dk_180 0 93 (dk_at dksX9_searchesOf_0 14 rfl rfl)
theorem dX9_searchesOf_17 : decode cX9_searchesOf 17 = .ok (.iload_n 3, 1) := dk_29 (dk_at dksX9_searchesOf_0 17 rfl rfl)
theorem dX9_searchesOf_18 : decode cX9_searchesOf 18 = .ok (.iaload, 1) := dk_46 (dk_at dksX9_searchesOf_0 18 rfl rfl)
theorem dX9_searchesOf_19 : decode cX9_searchesOf 19 = .ok (.iload_n 1, 1) := dk_27 (dk_at dksX9_searchesOf_0 19 rfl rfl)
theorem dX9_searchesOf_20 : decode cX9_searchesOf 20 = .ok (.if_icmp .ne 7, 3) := dk_160 0 7 (dk_at dksX9_searchesOf_0 20 rfl rfl)
theorem dX9_searchesOf_23 : decode cX9_searchesOf 23 = .ok (.iconst 1, 1) := dk_4 (dk_at dksX9_searchesOf_0 23 rfl rfl)
theorem dX9_searchesOf_24 : decode cX9_searchesOf 24 = .ok (.goto 4, 3) := dk_167 0 4 (dk_at dksX9_searchesOf_1 0 rfl rfl)
theorem dX9_searchesOf_27 : decode cX9_searchesOf 27 = .ok (.iconst 0, 1) := dk_3 (dk_at dksX9_searchesOf_1 3 rfl rfl)
theorem dX9_searchesOf_28 : decode cX9_searchesOf 28 = .ok (.invokestatic 154, 3) := dk_184 0 154 (dk_at dksX9_searchesOf_1 4 rfl rfl)
theorem dX9_searchesOf_31 : decode cX9_searchesOf 31 = .ok (.iadd, 1) := dk_96 (dk_at dksX9_searchesOf_1 7 rfl rfl)
theorem dX9_searchesOf_32 : decode cX9_searchesOf 32 = .ok (.istore_n 2, 1) := dk_61 (dk_at dksX9_searchesOf_1 8 rfl rfl)
theorem dX9_searchesOf_33 : decode cX9_searchesOf 33 = .ok (.iinc 3 1, 3) := dk_132 3 1 (dk_at dksX9_searchesOf_1 9 rfl rfl)
theorem dX9_searchesOf_36 : decode cX9_searchesOf 36 = .ok (.goto (-32), 3) := dk_167 255 224 (dk_at dksX9_searchesOf_1 12 rfl rfl)
theorem dX9_searchesOf_39 : decode cX9_searchesOf 39 = .ok (.iload_n 2, 1) := dk_28 (dk_at dksX9_searchesOf_1 15 rfl rfl)
theorem dX9_searchesOf_40 : decode cX9_searchesOf 40 = .ok (.ireturn, 1) := dk_172 (dk_at dksX9_searchesOf_1 16 rfl rfl)
abbrev cX9_sheet : ByteArray := prog_15_method_42_code
def yX9_sheet : MethodName := ⟨RX9, "sheet", "(IIII)I"⟩
def dkwX9_sheet_6 : List UInt8 := [160, 0, 8, 16, 253, 167, 0, 5, 21, 5, 172]
abbrev dktX9_sheet_6 : List UInt8 := dkwX9_sheet_6 ++ []
def dkwX9_sheet_5 : List UInt8 := [180, 0, 39, 21, 7, 46, 96, 54, 5, 21, 6, 21, 4, 96, 54, 6, 132, 7, 1, 167, 255, 167, 27, 6]
abbrev dktX9_sheet_5 : List UInt8 := dkwX9_sheet_5 ++ dktX9_sheet_6
def dkwX9_sheet_4 : List UInt8 := [161, 0, 7, 3, 167, 0, 14, 3, 16, 99, 21, 8, 184, 0, 145, 184, 1, 38, 79, 21, 5, 42]
abbrev dktX9_sheet_4 : List UInt8 := dkwX9_sheet_4 ++ dktX9_sheet_5
def dkwX9_sheet_3 : List UInt8 := [147, 167, 0, 5, 21, 6, 54, 8, 42, 180, 0, 39, 21, 7, 27, 6, 159, 0, 9, 21, 7, 28]
abbrev dktX9_sheet_3 : List UInt8 := dkwX9_sheet_3 ++ dktX9_sheet_4
def dkwX9_sheet_2 : List UInt8 := [42, 180, 0, 126, 162, 0, 86, 27, 154, 0, 9, 21, 6, 145, 167, 0, 16, 27, 4, 160, 0, 9, 21, 6]
abbrev dktX9_sheet_2 : List UInt8 := dkwX9_sheet_2 ++ dktX9_sheet_3
def dkwX9_sheet_1 : List UInt8 := [172, 27, 6, 159, 0, 10, 28, 156, 0, 6, 16, 254, 172, 3, 54, 5, 29, 54, 6, 3, 54, 7, 21, 7]
abbrev dktX9_sheet_1 : List UInt8 := dkwX9_sheet_1 ++ dktX9_sheet_2
def dkwX9_sheet_0 : List UInt8 := [42, 3, 181, 0, 112, 27, 133, 9, 20, 1, 33, 184, 0, 129, 153, 0, 9, 28, 16, 8, 164, 0, 5, 2]
abbrev dktX9_sheet_0 : List UInt8 := dkwX9_sheet_0 ++ dktX9_sheet_1
theorem dksX9_sheet_0 : cX9_sheet.data.toList.drop 0 = dktX9_sheet_0 := by decide +kernel
theorem dksX9_sheet_1 : cX9_sheet.data.toList.drop 24 = dktX9_sheet_1 := dk_seg dksX9_sheet_0 24 rfl rfl
theorem dksX9_sheet_2 : cX9_sheet.data.toList.drop 48 = dktX9_sheet_2 := dk_seg dksX9_sheet_1 24 rfl rfl
theorem dksX9_sheet_3 : cX9_sheet.data.toList.drop 72 = dktX9_sheet_3 := dk_seg dksX9_sheet_2 24 rfl rfl
theorem dksX9_sheet_4 : cX9_sheet.data.toList.drop 94 = dktX9_sheet_4 := dk_seg dksX9_sheet_3 22 rfl rfl
theorem dksX9_sheet_5 : cX9_sheet.data.toList.drop 116 = dktX9_sheet_5 := dk_seg dksX9_sheet_4 22 rfl rfl
theorem dksX9_sheet_6 : cX9_sheet.data.toList.drop 140 = dktX9_sheet_6 := dk_seg dksX9_sheet_5 24 rfl rfl
theorem dX9_sheet_0 : decode cX9_sheet 0 = .ok (.aload_n 0, 1) := dk_42 (dk_at dksX9_sheet_0 0 rfl rfl)
theorem dX9_sheet_1 : decode cX9_sheet 1 = .ok (.iconst 0, 1) := dk_3 (dk_at dksX9_sheet_0 1 rfl rfl)
theorem dX9_sheet_2 : decode cX9_sheet 2 = .ok (.putfield 112, 3) := dk_181 0 112 (dk_at dksX9_sheet_0 2 rfl rfl)
theorem dX9_sheet_5 : decode cX9_sheet 5 = .ok (.iload_n 1, 1) := dk_27 (dk_at dksX9_sheet_0 5 rfl rfl)
theorem dX9_sheet_6 : decode cX9_sheet 6 = .ok (.i2l, 1) := dk_133 (dk_at dksX9_sheet_0 6 rfl rfl)
theorem dX9_sheet_7 : decode cX9_sheet 7 = .ok (.lconst 0, 1) := dk_9 (dk_at dksX9_sheet_0 7 rfl rfl)
theorem dX9_sheet_8 : decode cX9_sheet 8 = .ok (.ldc2_w 289, 3) := dk_20 1 33 (dk_at dksX9_sheet_0 8 rfl rfl)
theorem dX9_sheet_11 : decode cX9_sheet 11 = .ok (.invokestatic 129, 3) := dk_184 0 129 (dk_at dksX9_sheet_0 11 rfl rfl)
theorem dX9_sheet_14 : decode cX9_sheet 14 = .ok (.ifCond .eq 9, 3) := dk_153 0 9 (dk_at dksX9_sheet_0 14 rfl rfl)
theorem dX9_sheet_17 : decode cX9_sheet 17 = .ok (.iload_n 2, 1) := dk_28 (dk_at dksX9_sheet_0 17 rfl rfl)
theorem dX9_sheet_18 : decode cX9_sheet 18 = .ok (.bipush 8, 2) := dk_16 8 (dk_at dksX9_sheet_0 18 rfl rfl)
theorem dX9_sheet_20 : decode cX9_sheet 20 = .ok (.if_icmp .le 5, 3) := dk_164 0 5 (dk_at dksX9_sheet_0 20 rfl rfl)
theorem dX9_sheet_23 : decode cX9_sheet 23 = .ok (.iconst (-1), 1) := dk_2 (dk_at dksX9_sheet_0 23 rfl rfl)
theorem dX9_sheet_24 : decode cX9_sheet 24 = .ok (.ireturn, 1) := dk_172 (dk_at dksX9_sheet_1 0 rfl rfl)
theorem dX9_sheet_25 : decode cX9_sheet 25 = .ok (.iload_n 1, 1) := dk_27 (dk_at dksX9_sheet_1 1 rfl rfl)
theorem dX9_sheet_26 : decode cX9_sheet 26 = .ok (.iconst 3, 1) := dk_6 (dk_at dksX9_sheet_1 2 rfl rfl)
theorem dX9_sheet_27 : decode cX9_sheet 27 = .ok (.if_icmp .eq 10, 3) := dk_159 0 10 (dk_at dksX9_sheet_1 3 rfl rfl)
theorem dX9_sheet_30 : decode cX9_sheet 30 = .ok (.iload_n 2, 1) := dk_28 (dk_at dksX9_sheet_1 6 rfl rfl)
theorem dX9_sheet_31 : decode cX9_sheet 31 = .ok (.ifCond .ge 6, 3) := dk_156 0 6 (dk_at dksX9_sheet_1 7 rfl rfl)
theorem dX9_sheet_34 : decode cX9_sheet 34 = .ok (.bipush (-2), 2) := dk_16 254 (dk_at dksX9_sheet_1 10 rfl rfl)
theorem dX9_sheet_36 : decode cX9_sheet 36 = .ok (.ireturn, 1) := dk_172 (dk_at dksX9_sheet_1 12 rfl rfl)
theorem dX9_sheet_37 : decode cX9_sheet 37 = .ok (.iconst 0, 1) := dk_3 (dk_at dksX9_sheet_1 13 rfl rfl)
theorem dX9_sheet_38 : decode cX9_sheet 38 = .ok (.istore 5, 2) := dk_54 5 (dk_at dksX9_sheet_1 14 rfl rfl)
theorem dX9_sheet_40 : decode cX9_sheet 40 = .ok (.iload_n 3, 1) := dk_29 (dk_at dksX9_sheet_1 16 rfl rfl)
theorem dX9_sheet_41 : decode cX9_sheet 41 = .ok (.istore 6, 2) := dk_54 6 (dk_at dksX9_sheet_1 17 rfl rfl)
theorem dX9_sheet_43 : decode cX9_sheet 43 = .ok (.iconst 0, 1) := dk_3 (dk_at dksX9_sheet_1 19 rfl rfl)
theorem dX9_sheet_44 : decode cX9_sheet 44 = .ok (.istore 7, 2) := dk_54 7 (dk_at dksX9_sheet_1 20 rfl rfl)
theorem dX9_sheet_46 : decode cX9_sheet 46 = .ok (.iload 7, 2) := dk_21 7 (dk_at dksX9_sheet_1 22 rfl rfl)
theorem dX9_sheet_48 : decode cX9_sheet 48 = .ok (.aload_n 0, 1) := dk_42 (dk_at dksX9_sheet_2 0 rfl rfl)
theorem dX9_sheet_49 : decode cX9_sheet 49 = .ok (.getfield 126, 3) := dk_180 0 126 (dk_at dksX9_sheet_2 1 rfl rfl)
theorem dX9_sheet_52 : decode cX9_sheet 52 = .ok (.if_icmp .ge 86, 3) := dk_162 0 86 (dk_at dksX9_sheet_2 4 rfl rfl)
theorem dX9_sheet_55 : decode cX9_sheet 55 = .ok (.iload_n 1, 1) := dk_27 (dk_at dksX9_sheet_2 7 rfl rfl)
theorem dX9_sheet_56 : decode cX9_sheet 56 = .ok (.ifCond .ne 9, 3) := dk_154 0 9 (dk_at dksX9_sheet_2 8 rfl rfl)
theorem dX9_sheet_59 : decode cX9_sheet 59 = .ok (.iload 6, 2) := dk_21 6 (dk_at dksX9_sheet_2 11 rfl rfl)
theorem dX9_sheet_61 : decode cX9_sheet 61 = .ok (.i2b, 1) := dk_145 (dk_at dksX9_sheet_2 13 rfl rfl)
theorem dX9_sheet_62 : decode cX9_sheet 62 = .ok (.goto 16, 3) := dk_167 0 16 (dk_at dksX9_sheet_2 14 rfl rfl)
theorem dX9_sheet_65 : decode cX9_sheet 65 = .ok (.iload_n 1, 1) := dk_27 (dk_at dksX9_sheet_2 17 rfl rfl)
theorem dX9_sheet_66 : decode cX9_sheet 66 = .ok (.iconst 1, 1) := dk_4 (dk_at dksX9_sheet_2 18 rfl rfl)
theorem dX9_sheet_67 : decode cX9_sheet 67 = .ok (.if_icmp .ne 9, 3) := dk_160 0 9 (dk_at dksX9_sheet_2 19 rfl rfl)
theorem dX9_sheet_70 : decode cX9_sheet 70 = .ok (.iload 6, 2) := dk_21 6 (dk_at dksX9_sheet_2 22 rfl rfl)
theorem dX9_sheet_72 : decode cX9_sheet 72 = .ok (.i2s, 1) := dk_147 (dk_at dksX9_sheet_3 0 rfl rfl)
theorem dX9_sheet_73 : decode cX9_sheet 73 = .ok (.goto 5, 3) := dk_167 0 5 (dk_at dksX9_sheet_3 1 rfl rfl)
theorem dX9_sheet_76 : decode cX9_sheet 76 = .ok (.iload 6, 2) := dk_21 6 (dk_at dksX9_sheet_3 4 rfl rfl)
theorem dX9_sheet_78 : decode cX9_sheet 78 = .ok (.istore 8, 2) := dk_54 8 (dk_at dksX9_sheet_3 6 rfl rfl)
theorem dX9_sheet_80 : decode cX9_sheet 80 = .ok (.aload_n 0, 1) := dk_42 (dk_at dksX9_sheet_3 8 rfl rfl)
theorem dX9_sheet_81 : decode cX9_sheet 81 = .ok (.getfield 39, 3) := dk_180 0 39 (dk_at dksX9_sheet_3 9 rfl rfl)
theorem dX9_sheet_84 : decode cX9_sheet 84 = .ok (.iload 7, 2) := dk_21 7 (dk_at dksX9_sheet_3 12 rfl rfl)
theorem dX9_sheet_86 : decode cX9_sheet 86 = .ok (.iload_n 1, 1) := dk_27 (dk_at dksX9_sheet_3 14 rfl rfl)
theorem dX9_sheet_87 : decode cX9_sheet 87 = .ok (.iconst 3, 1) := dk_6 (dk_at dksX9_sheet_3 15 rfl rfl)
theorem dX9_sheet_88 : decode cX9_sheet 88 = .ok (.if_icmp .eq 9, 3) := dk_159 0 9 (dk_at dksX9_sheet_3 16 rfl rfl)
theorem dX9_sheet_91 : decode cX9_sheet 91 = .ok (.iload 7, 2) := dk_21 7 (dk_at dksX9_sheet_3 19 rfl rfl)
theorem dX9_sheet_93 : decode cX9_sheet 93 = .ok (.iload_n 2, 1) := dk_28 (dk_at dksX9_sheet_3 21 rfl rfl)
theorem dX9_sheet_94 : decode cX9_sheet 94 = .ok (.if_icmp .lt 7, 3) := dk_161 0 7 (dk_at dksX9_sheet_4 0 rfl rfl)
theorem dX9_sheet_97 : decode cX9_sheet 97 = .ok (.iconst 0, 1) := dk_3 (dk_at dksX9_sheet_4 3 rfl rfl)
theorem dX9_sheet_98 : decode cX9_sheet 98 = .ok (.goto 14, 3) := dk_167 0 14 (dk_at dksX9_sheet_4 4 rfl rfl)
theorem dX9_sheet_101 : decode cX9_sheet 101 = .ok (.iconst 0, 1) := dk_3 (dk_at dksX9_sheet_4 7 rfl rfl)
theorem dX9_sheet_102 : decode cX9_sheet 102 = .ok (.bipush 99, 2) := dk_16 99 (dk_at dksX9_sheet_4 8 rfl rfl)
theorem dX9_sheet_104 : decode cX9_sheet 104 = .ok (.iload 8, 2) := dk_21 8 (dk_at dksX9_sheet_4 10 rfl rfl)
theorem dX9_sheet_106 : decode cX9_sheet 106 = .ok (.invokestatic 145, 3) := dk_184 0 145 (dk_at dksX9_sheet_4 12 rfl rfl)
theorem dX9_sheet_109 : decode cX9_sheet 109 = .ok (.invokestatic 294, 3) := dk_184 1 38 (dk_at dksX9_sheet_4 15 rfl rfl)
theorem dX9_sheet_112 : decode cX9_sheet 112 = .ok (.iastore, 1) := dk_79 (dk_at dksX9_sheet_4 18 rfl rfl)
theorem dX9_sheet_113 : decode cX9_sheet 113 = .ok (.iload 5, 2) := dk_21 5 (dk_at dksX9_sheet_4 19 rfl rfl)
theorem dX9_sheet_115 : decode cX9_sheet 115 = .ok (.aload_n 0, 1) := dk_42 (dk_at dksX9_sheet_4 21 rfl rfl)
theorem dX9_sheet_116 : decode cX9_sheet 116 = .ok (.getfield 39, 3) := dk_180 0 39 (dk_at dksX9_sheet_5 0 rfl rfl)
theorem dX9_sheet_119 : decode cX9_sheet 119 = .ok (.iload 7, 2) := dk_21 7 (dk_at dksX9_sheet_5 3 rfl rfl)
theorem dX9_sheet_121 : decode cX9_sheet 121 = .ok (.iaload, 1) := dk_46 (dk_at dksX9_sheet_5 5 rfl rfl)
theorem dX9_sheet_122 : decode cX9_sheet 122 = .ok (.iadd, 1) := dk_96 (dk_at dksX9_sheet_5 6 rfl rfl)
theorem dX9_sheet_123 : decode cX9_sheet 123 = .ok (.istore 5, 2) := dk_54 5 (dk_at dksX9_sheet_5 7 rfl rfl)
theorem dX9_sheet_125 : decode cX9_sheet 125 = .ok (.iload 6, 2) := dk_21 6 (dk_at dksX9_sheet_5 9 rfl rfl)
theorem dX9_sheet_127 : decode cX9_sheet 127 = .ok (.iload 4, 2) := dk_21 4 (dk_at dksX9_sheet_5 11 rfl rfl)
theorem dX9_sheet_129 : decode cX9_sheet 129 = .ok (.iadd, 1) := dk_96 (dk_at dksX9_sheet_5 13 rfl rfl)
theorem dX9_sheet_130 : decode cX9_sheet 130 = .ok (.istore 6, 2) := dk_54 6 (dk_at dksX9_sheet_5 14 rfl rfl)
theorem dX9_sheet_132 : decode cX9_sheet 132 = .ok (.iinc 7 1, 3) := dk_132 7 1 (dk_at dksX9_sheet_5 16 rfl rfl)
theorem dX9_sheet_135 : decode cX9_sheet 135 = .ok (.goto (-89), 3) := dk_167 255 167 (dk_at dksX9_sheet_5 19 rfl rfl)
theorem dX9_sheet_138 : decode cX9_sheet 138 = .ok (.iload_n 1, 1) := dk_27 (dk_at dksX9_sheet_5 22 rfl rfl)
theorem dX9_sheet_139 : decode cX9_sheet 139 = .ok (.iconst 3, 1) := dk_6 (dk_at dksX9_sheet_5 23 rfl rfl)
theorem dX9_sheet_140 : decode cX9_sheet 140 = .ok (.if_icmp .ne 8, 3) := dk_160 0 8 (dk_at dksX9_sheet_6 0 rfl rfl)
theorem dX9_sheet_143 : decode cX9_sheet 143 = .ok (.bipush (-3), 2) := dk_16 253 (dk_at dksX9_sheet_6 3 rfl rfl)
theorem dX9_sheet_145 : decode cX9_sheet 145 = .ok (.goto 5, 3) := dk_167 0 5 (dk_at dksX9_sheet_6 5 rfl rfl)
theorem dX9_sheet_148 : decode cX9_sheet 148 = .ok (.iload 5, 2) := dk_21 5 (dk_at dksX9_sheet_6 8 rfl rfl)
theorem dX9_sheet_150 : decode cX9_sheet 150 = .ok (.ireturn, 1) := dk_172 (dk_at dksX9_sheet_6 10 rfl rfl)
abbrev cX9_undo : ByteArray := prog_15_method_46_code
def yX9_undo : MethodName := ⟨RX9, "undo", "()I"⟩
def dkwX9_undo_2 : List UInt8 := [27, 96, 46, 79, 132, 1, 1, 167, 255, 227, 42, 180, 0, 204, 172]
abbrev dktX9_undo_2 : List UInt8 := dkwX9_undo_2 ++ []
def dkwX9_undo_1 : List UInt8 := [3, 60, 27, 16, 21, 162, 0, 29, 42, 180, 0, 39, 27, 42, 180, 0, 66, 16, 21, 42, 180, 0, 204, 104]
abbrev dktX9_undo_1 : List UInt8 := dkwX9_undo_1 ++ dktX9_undo_2
def dkwX9_undo_0 : List UInt8 := [42, 3, 181, 0, 112, 42, 180, 0, 204, 154, 0, 5, 2, 172, 42, 89, 180, 0, 204, 4, 100, 181, 0, 204]
abbrev dktX9_undo_0 : List UInt8 := dkwX9_undo_0 ++ dktX9_undo_1
theorem dksX9_undo_0 : cX9_undo.data.toList.drop 0 = dktX9_undo_0 := by decide +kernel
theorem dksX9_undo_1 : cX9_undo.data.toList.drop 24 = dktX9_undo_1 := dk_seg dksX9_undo_0 24 rfl rfl
theorem dksX9_undo_2 : cX9_undo.data.toList.drop 48 = dktX9_undo_2 := dk_seg dksX9_undo_1 24 rfl rfl
theorem dX9_undo_0 : decode cX9_undo 0 = .ok (.aload_n 0, 1) := dk_42 (dk_at dksX9_undo_0 0 rfl rfl)
theorem dX9_undo_1 : decode cX9_undo 1 = .ok (.iconst 0, 1) := dk_3 (dk_at dksX9_undo_0 1 rfl rfl)
theorem dX9_undo_2 : decode cX9_undo 2 = .ok (.putfield 112, 3) := dk_181 0 112 (dk_at dksX9_undo_0 2 rfl rfl)
theorem dX9_undo_5 : decode cX9_undo 5 = .ok (.aload_n 0, 1) := dk_42 (dk_at dksX9_undo_0 5 rfl rfl)
theorem dX9_undo_6 : decode cX9_undo 6 = .ok (.getfield 204, 3) := dk_180 0 204 (dk_at dksX9_undo_0 6 rfl rfl)
theorem dX9_undo_9 : decode cX9_undo 9 = .ok (.ifCond .ne 5, 3) := dk_154 0 5 (dk_at dksX9_undo_0 9 rfl rfl)
theorem dX9_undo_12 : decode cX9_undo 12 = .ok (.iconst (-1), 1) := dk_2 (dk_at dksX9_undo_0 12 rfl rfl)
theorem dX9_undo_13 : decode cX9_undo 13 = .ok (.ireturn, 1) := dk_172 (dk_at dksX9_undo_0 13 rfl rfl)
theorem dX9_undo_14 : decode cX9_undo 14 = .ok (.aload_n 0, 1) := dk_42 (dk_at dksX9_undo_0 14 rfl rfl)
theorem dX9_undo_15 : decode cX9_undo 15 = .ok (.dup, 1) := dk_89 (dk_at dksX9_undo_0 15 rfl rfl)
theorem dX9_undo_16 : decode cX9_undo 16 = .ok (.getfield 204, 3) := dk_180 0 204 (dk_at dksX9_undo_0 16 rfl rfl)
theorem dX9_undo_19 : decode cX9_undo 19 = .ok (.iconst 1, 1) := dk_4 (dk_at dksX9_undo_0 19 rfl rfl)
theorem dX9_undo_20 : decode cX9_undo 20 = .ok (.isub, 1) := dk_100 (dk_at dksX9_undo_0 20 rfl rfl)
theorem dX9_undo_21 : decode cX9_undo 21 = .ok (.putfield 204, 3) := dk_181 0 204 (dk_at dksX9_undo_0 21 rfl rfl)
theorem dX9_undo_24 : decode cX9_undo 24 = .ok (.iconst 0, 1) := dk_3 (dk_at dksX9_undo_1 0 rfl rfl)
theorem dX9_undo_25 : decode cX9_undo 25 = .ok (.istore_n 1, 1) := dk_60 (dk_at dksX9_undo_1 1 rfl rfl)
theorem dX9_undo_26 : decode cX9_undo 26 = .ok (.iload_n 1, 1) := dk_27 (dk_at dksX9_undo_1 2 rfl rfl)
theorem dX9_undo_27 : decode cX9_undo 27 = .ok (.bipush 21, 2) := dk_16 21 (dk_at dksX9_undo_1 3 rfl rfl)
theorem dX9_undo_29 : decode cX9_undo 29 = .ok (.if_icmp .ge 29, 3) := dk_162 0 29 (dk_at dksX9_undo_1 5 rfl rfl)
theorem dX9_undo_32 : decode cX9_undo 32 = .ok (.aload_n 0, 1) := dk_42 (dk_at dksX9_undo_1 8 rfl rfl)
theorem dX9_undo_33 : decode cX9_undo 33 = .ok (.getfield 39, 3) := dk_180 0 39 (dk_at dksX9_undo_1 9 rfl rfl)
theorem dX9_undo_36 : decode cX9_undo 36 = .ok (.iload_n 1, 1) := dk_27 (dk_at dksX9_undo_1 12 rfl rfl)
theorem dX9_undo_37 : decode cX9_undo 37 = .ok (.aload_n 0, 1) := dk_42 (dk_at dksX9_undo_1 13 rfl rfl)
theorem dX9_undo_38 : decode cX9_undo 38 = .ok (.getfield 66, 3) := dk_180 0 66 (dk_at dksX9_undo_1 14 rfl rfl)
theorem dX9_undo_41 : decode cX9_undo 41 = .ok (.bipush 21, 2) := dk_16 21 (dk_at dksX9_undo_1 17 rfl rfl)
theorem dX9_undo_43 : decode cX9_undo 43 = .ok (.aload_n 0, 1) := dk_42 (dk_at dksX9_undo_1 19 rfl rfl)
theorem dX9_undo_44 : decode cX9_undo 44 = .ok (.getfield 204, 3) := dk_180 0 204 (dk_at dksX9_undo_1 20 rfl rfl)
theorem dX9_undo_47 : decode cX9_undo 47 = .ok (.imul, 1) := dk_104 (dk_at dksX9_undo_1 23 rfl rfl)
theorem dX9_undo_48 : decode cX9_undo 48 = .ok (.iload_n 1, 1) := dk_27 (dk_at dksX9_undo_2 0 rfl rfl)
theorem dX9_undo_49 : decode cX9_undo 49 = .ok (.iadd, 1) := dk_96 (dk_at dksX9_undo_2 1 rfl rfl)
theorem dX9_undo_50 : decode cX9_undo 50 = .ok (.iaload, 1) := dk_46 (dk_at dksX9_undo_2 2 rfl rfl)
theorem dX9_undo_51 : decode cX9_undo 51 = .ok (.iastore, 1) := dk_79 (dk_at dksX9_undo_2 3 rfl rfl)
theorem dX9_undo_52 : decode cX9_undo 52 = .ok (.iinc 1 1, 3) := dk_132 1 1 (dk_at dksX9_undo_2 4 rfl rfl)
theorem dX9_undo_55 : decode cX9_undo 55 = .ok (.goto (-29), 3) := dk_167 255 227 (dk_at dksX9_undo_2 7 rfl rfl)
theorem dX9_undo_58 : decode cX9_undo 58 = .ok (.aload_n 0, 1) := dk_42 (dk_at dksX9_undo_2 10 rfl rfl)
theorem dX9_undo_59 : decode cX9_undo 59 = .ok (.getfield 204, 3) := dk_180 0 204 (dk_at dksX9_undo_2 11 rfl rfl)
theorem dX9_undo_62 : decode cX9_undo 62 = .ok (.ireturn, 1) := dk_172 (dk_at dksX9_undo_2 14 rfl rfl)
abbrev cX9_set : ByteArray := prog_15_method_56_code
def yX9_set : MethodName := ⟨RX9, "set", "(II)I"⟩
def dkwX9_set_0 : List UInt8 := [42, 3, 181, 0, 112, 42, 182, 1, 64, 42, 42, 27, 28, 182, 1, 67, 182, 1, 70, 172]
abbrev dktX9_set_0 : List UInt8 := dkwX9_set_0 ++ []
theorem dksX9_set_0 : cX9_set.data.toList.drop 0 = dktX9_set_0 := by decide +kernel
theorem dX9_set_0 : decode cX9_set 0 = .ok (.aload_n 0, 1) := dk_42 (dk_at dksX9_set_0 0 rfl rfl)
theorem dX9_set_1 : decode cX9_set 1 = .ok (.iconst 0, 1) := dk_3 (dk_at dksX9_set_0 1 rfl rfl)
theorem dX9_set_2 : decode cX9_set 2 = .ok (.putfield 112, 3) := dk_181 0 112 (dk_at dksX9_set_0 2 rfl rfl)
theorem dX9_set_5 : decode cX9_set 5 = .ok (.aload_n 0, 1) := dk_42 (dk_at dksX9_set_0 5 rfl rfl)
theorem dX9_set_6 : decode cX9_set 6 = .ok (.invokevirtual 320, 3) := dk_182 1 64 (dk_at dksX9_set_0 6 rfl rfl)
theorem dX9_set_9 : decode cX9_set 9 = .ok (.aload_n 0, 1) := dk_42 (dk_at dksX9_set_0 9 rfl rfl)
theorem dX9_set_10 : decode cX9_set 10 = .ok (.aload_n 0, 1) := dk_42 (dk_at dksX9_set_0 10 rfl rfl)
theorem dX9_set_11 : decode cX9_set 11 = .ok (.iload_n 1, 1) := dk_27 (dk_at dksX9_set_0 11 rfl rfl)
theorem dX9_set_12 : decode cX9_set 12 = .ok (.iload_n 2, 1) := dk_28 (dk_at dksX9_set_0 12 rfl rfl)
theorem dX9_set_13 : decode cX9_set 13 = .ok (.invokevirtual 323, 3) := dk_182 1 67 (dk_at dksX9_set_0 13 rfl rfl)
theorem dX9_set_16 : decode cX9_set 16 = .ok (.invokevirtual 326, 3) := dk_182 1 70 (dk_at dksX9_set_0 16 rfl rfl)
theorem dX9_set_19 : decode cX9_set 19 = .ok (.ireturn, 1) := dk_172 (dk_at dksX9_set_0 19 rfl rfl)
abbrev cX9_putsBy : ByteArray := prog_15_method_43_code
def yX9_putsBy : MethodName := ⟨RX9, "putsBy", "()V"⟩
def dkwX9_putsBy_1 : List UInt8 := [180, 0, 39, 27, 46, 79, 132, 1, 1, 167, 255, 227, 177]
abbrev dktX9_putsBy_1 : List UInt8 := dkwX9_putsBy_1 ++ []
def dkwX9_putsBy_0 : List UInt8 := [3, 60, 27, 16, 21, 162, 0, 29, 42, 180, 0, 66, 16, 21, 42, 180, 0, 204, 104, 27, 96, 42]
abbrev dktX9_putsBy_0 : List UInt8 := dkwX9_putsBy_0 ++ dktX9_putsBy_1
theorem dksX9_putsBy_0 : cX9_putsBy.data.toList.drop 0 = dktX9_putsBy_0 := by decide +kernel
theorem dksX9_putsBy_1 : cX9_putsBy.data.toList.drop 22 = dktX9_putsBy_1 := dk_seg dksX9_putsBy_0 22 rfl rfl
theorem dX9_putsBy_0 : decode cX9_putsBy 0 = .ok (.iconst 0, 1) := dk_3 (dk_at dksX9_putsBy_0 0 rfl rfl)
theorem dX9_putsBy_1 : decode cX9_putsBy 1 = .ok (.istore_n 1, 1) := dk_60 (dk_at dksX9_putsBy_0 1 rfl rfl)
theorem dX9_putsBy_2 : decode cX9_putsBy 2 = .ok (.iload_n 1, 1) := dk_27 (dk_at dksX9_putsBy_0 2 rfl rfl)
theorem dX9_putsBy_3 : decode cX9_putsBy 3 = .ok (.bipush 21, 2) := dk_16 21 (dk_at dksX9_putsBy_0 3 rfl rfl)
theorem dX9_putsBy_5 : decode cX9_putsBy 5 = .ok (.if_icmp .ge 29, 3) := dk_162 0 29 (dk_at dksX9_putsBy_0 5 rfl rfl)
theorem dX9_putsBy_8 : decode cX9_putsBy 8 = .ok (.aload_n 0, 1) := dk_42 (dk_at dksX9_putsBy_0 8 rfl rfl)
theorem dX9_putsBy_9 : decode cX9_putsBy 9 = .ok (.getfield 66, 3) := dk_180 0 66 (dk_at dksX9_putsBy_0 9 rfl rfl)
theorem dX9_putsBy_12 : decode cX9_putsBy 12 = .ok (.bipush 21, 2) := dk_16 21 (dk_at dksX9_putsBy_0 12 rfl rfl)
theorem dX9_putsBy_14 : decode cX9_putsBy 14 = .ok (.aload_n 0, 1) := dk_42 (dk_at dksX9_putsBy_0 14 rfl rfl)
theorem dX9_putsBy_15 : decode cX9_putsBy 15 = .ok (.getfield 204, 3) := dk_180 0 204 (dk_at dksX9_putsBy_0 15 rfl rfl)
theorem dX9_putsBy_18 : decode cX9_putsBy 18 = .ok (.imul, 1) := dk_104 (dk_at dksX9_putsBy_0 18 rfl rfl)
theorem dX9_putsBy_19 : decode cX9_putsBy 19 = .ok (.iload_n 1, 1) := dk_27 (dk_at dksX9_putsBy_0 19 rfl rfl)
theorem dX9_putsBy_20 : decode cX9_putsBy 20 = .ok (.iadd, 1) := dk_96 (dk_at dksX9_putsBy_0 20 rfl rfl)
theorem dX9_putsBy_21 : decode cX9_putsBy 21 = .ok (.aload_n 0, 1) := dk_42 (dk_at dksX9_putsBy_0 21 rfl rfl)
theorem dX9_putsBy_22 : decode cX9_putsBy 22 = .ok (.getfield 39, 3) := dk_180 0 39 (dk_at dksX9_putsBy_1 0 rfl rfl)
theorem dX9_putsBy_25 : decode cX9_putsBy 25 = .ok (.iload_n 1, 1) := dk_27 (dk_at dksX9_putsBy_1 3 rfl rfl)
theorem dX9_putsBy_26 : decode cX9_putsBy 26 = .ok (.iaload, 1) := dk_46 (dk_at dksX9_putsBy_1 4 rfl rfl)
theorem dX9_putsBy_27 : decode cX9_putsBy 27 = .ok (.iastore, 1) := dk_79 (dk_at dksX9_putsBy_1 5 rfl rfl)
theorem dX9_putsBy_28 : decode cX9_putsBy 28 = .ok (.iinc 1 1, 3) := dk_132 1 1 (dk_at dksX9_putsBy_1 6 rfl rfl)
theorem dX9_putsBy_31 : decode cX9_putsBy 31 = .ok (.goto (-29), 3) := dk_167 255 227 (dk_at dksX9_putsBy_1 9 rfl rfl)
theorem dX9_putsBy_34 : decode cX9_putsBy 34 = .ok (.return_, 1) := dk_177 (dk_at dksX9_putsBy_1 12 rfl rfl)
abbrev cX9_sets : ByteArray := prog_15_method_50_code
def yX9_sets : MethodName := ⟨RX9, "sets", "(II)I"⟩
def dkwX9_sets_1 : List UInt8 := [42, 180, 0, 39, 16, 18, 27, 96, 46, 62, 42, 180, 0, 39, 16, 18, 27, 96, 28, 79, 29, 172]
abbrev dktX9_sets_1 : List UInt8 := dkwX9_sets_1 ++ []
def dkwX9_sets_0 : List UInt8 := [27, 133, 9, 10, 184, 0, 129, 153, 0, 15, 28, 133, 9, 20, 1, 54, 184, 0, 129, 154, 0, 5, 2, 172]
abbrev dktX9_sets_0 : List UInt8 := dkwX9_sets_0 ++ dktX9_sets_1
theorem dksX9_sets_0 : cX9_sets.data.toList.drop 0 = dktX9_sets_0 := by decide +kernel
theorem dksX9_sets_1 : cX9_sets.data.toList.drop 24 = dktX9_sets_1 := dk_seg dksX9_sets_0 24 rfl rfl
theorem dX9_sets_0 : decode cX9_sets 0 = .ok (.iload_n 1, 1) := dk_27 (dk_at dksX9_sets_0 0 rfl rfl)
theorem dX9_sets_1 : decode cX9_sets 1 = .ok (.i2l, 1) := dk_133 (dk_at dksX9_sets_0 1 rfl rfl)
theorem dX9_sets_2 : decode cX9_sets 2 = .ok (.lconst 0, 1) := dk_9 (dk_at dksX9_sets_0 2 rfl rfl)
theorem dX9_sets_3 : decode cX9_sets 3 = .ok (.lconst 1, 1) := dk_10 (dk_at dksX9_sets_0 3 rfl rfl)
theorem dX9_sets_4 : decode cX9_sets 4 = .ok (.invokestatic 129, 3) := dk_184 0 129 (dk_at dksX9_sets_0 4 rfl rfl)
theorem dX9_sets_7 : decode cX9_sets 7 = .ok (.ifCond .eq 15, 3) := dk_153 0 15 (dk_at dksX9_sets_0 7 rfl rfl)
theorem dX9_sets_10 : decode cX9_sets 10 = .ok (.iload_n 2, 1) := dk_28 (dk_at dksX9_sets_0 10 rfl rfl)
theorem dX9_sets_11 : decode cX9_sets 11 = .ok (.i2l, 1) := dk_133 (dk_at dksX9_sets_0 11 rfl rfl)
theorem dX9_sets_12 : decode cX9_sets 12 = .ok (.lconst 0, 1) := dk_9 (dk_at dksX9_sets_0 12 rfl rfl)
theorem dX9_sets_13 : decode cX9_sets 13 = .ok (.ldc2_w 310, 3) := dk_20 1 54 (dk_at dksX9_sets_0 13 rfl rfl)
theorem dX9_sets_16 : decode cX9_sets 16 = .ok (.invokestatic 129, 3) := dk_184 0 129 (dk_at dksX9_sets_0 16 rfl rfl)
theorem dX9_sets_19 : decode cX9_sets 19 = .ok (.ifCond .ne 5, 3) := dk_154 0 5 (dk_at dksX9_sets_0 19 rfl rfl)
theorem dX9_sets_22 : decode cX9_sets 22 = .ok (.iconst (-1), 1) := dk_2 (dk_at dksX9_sets_0 22 rfl rfl)
theorem dX9_sets_23 : decode cX9_sets 23 = .ok (.ireturn, 1) := dk_172 (dk_at dksX9_sets_0 23 rfl rfl)
theorem dX9_sets_24 : decode cX9_sets 24 = .ok (.aload_n 0, 1) := dk_42 (dk_at dksX9_sets_1 0 rfl rfl)
theorem dX9_sets_25 : decode cX9_sets 25 = .ok (.getfield 39, 3) := dk_180 0 39 (dk_at dksX9_sets_1 1 rfl rfl)
theorem dX9_sets_28 : decode cX9_sets 28 = .ok (.bipush 18, 2) := dk_16 18 (dk_at dksX9_sets_1 4 rfl rfl)
theorem dX9_sets_30 : decode cX9_sets 30 = .ok (.iload_n 1, 1) := dk_27 (dk_at dksX9_sets_1 6 rfl rfl)
theorem dX9_sets_31 : decode cX9_sets 31 = .ok (.iadd, 1) := dk_96 (dk_at dksX9_sets_1 7 rfl rfl)
theorem dX9_sets_32 : decode cX9_sets 32 = .ok (.iaload, 1) := dk_46 (dk_at dksX9_sets_1 8 rfl rfl)
theorem dX9_sets_33 : decode cX9_sets 33 = .ok (.istore_n 3, 1) := dk_62 (dk_at dksX9_sets_1 9 rfl rfl)
theorem dX9_sets_34 : decode cX9_sets 34 = .ok (.aload_n 0, 1) := dk_42 (dk_at dksX9_sets_1 10 rfl rfl)
theorem dX9_sets_35 : decode cX9_sets 35 = .ok (.getfield 39, 3) := dk_180 0 39 (dk_at dksX9_sets_1 11 rfl rfl)
theorem dX9_sets_38 : decode cX9_sets 38 = .ok (.bipush 18, 2) := dk_16 18 (dk_at dksX9_sets_1 14 rfl rfl)
theorem dX9_sets_40 : decode cX9_sets 40 = .ok (.iload_n 1, 1) := dk_27 (dk_at dksX9_sets_1 16 rfl rfl)
theorem dX9_sets_41 : decode cX9_sets 41 = .ok (.iadd, 1) := dk_96 (dk_at dksX9_sets_1 17 rfl rfl)
theorem dX9_sets_42 : decode cX9_sets 42 = .ok (.iload_n 2, 1) := dk_28 (dk_at dksX9_sets_1 18 rfl rfl)
theorem dX9_sets_43 : decode cX9_sets 43 = .ok (.iastore, 1) := dk_79 (dk_at dksX9_sets_1 19 rfl rfl)
theorem dX9_sets_44 : decode cX9_sets 44 = .ok (.iload_n 3, 1) := dk_29 (dk_at dksX9_sets_1 20 rfl rfl)
theorem dX9_sets_45 : decode cX9_sets 45 = .ok (.ireturn, 1) := dk_172 (dk_at dksX9_sets_1 21 rfl rfl)
abbrev cX9_counts : ByteArray := prog_15_method_45_code
def yX9_counts : MethodName := ⟨RX9, "counts", "(I)I"⟩
def dkwX9_counts_0 : List UInt8 := [27, 156, 0, 7, 27, 167, 0, 8, 42, 27, 182, 1, 41, 172]
abbrev dktX9_counts_0 : List UInt8 := dkwX9_counts_0 ++ []
theorem dksX9_counts_0 : cX9_counts.data.toList.drop 0 = dktX9_counts_0 := by decide +kernel
theorem dX9_counts_0 : decode cX9_counts 0 = .ok (.iload_n 1, 1) := dk_27 (dk_at dksX9_counts_0 0 rfl rfl)
theorem dX9_counts_1 : decode cX9_counts 1 = .ok (.ifCond .ge 7, 3) := dk_156 0 7 (dk_at dksX9_counts_0 1 rfl rfl)
theorem dX9_counts_4 : decode cX9_counts 4 = .ok (.iload_n 1, 1) := dk_27 (dk_at dksX9_counts_0 4 rfl rfl)
theorem dX9_counts_5 : decode cX9_counts 5 = .ok (.goto 8, 3) := dk_167 0 8 (dk_at dksX9_counts_0 5 rfl rfl)
theorem dX9_counts_8 : decode cX9_counts 8 = .ok (.aload_n 0, 1) := dk_42 (dk_at dksX9_counts_0 8 rfl rfl)
theorem dX9_counts_9 : decode cX9_counts 9 = .ok (.iload_n 1, 1) := dk_27 (dk_at dksX9_counts_0 9 rfl rfl)
theorem dX9_counts_10 : decode cX9_counts 10 = .ok (.invokevirtual 297, 3) := dk_182 1 41 (dk_at dksX9_counts_0 10 rfl rfl)
theorem dX9_counts_13 : decode cX9_counts 13 = .ok (.ireturn, 1) := dk_172 (dk_at dksX9_counts_0 13 rfl rfl)
abbrev cX9_adds : ByteArray := prog_15_method_44_code
def yX9_adds : MethodName := ⟨RX9, "adds", "(I)I"⟩
def dkwX9_adds_2 : List UInt8 := [167, 255, 231, 42, 89, 180, 0, 204, 4, 100, 181, 0, 204, 27, 172]
abbrev dktX9_adds_2 : List UInt8 := dkwX9_adds_2 ++ []
def dkwX9_adds_1 : List UInt8 := [17, 1, 59, 162, 0, 24, 42, 180, 0, 66, 28, 42, 180, 0, 66, 28, 16, 21, 96, 46, 79, 132, 2, 1]
abbrev dktX9_adds_1 : List UInt8 := dkwX9_adds_1 ++ dktX9_adds_2
def dkwX9_adds_0 : List UInt8 := [42, 89, 180, 0, 204, 4, 96, 181, 0, 204, 42, 180, 0, 204, 16, 15, 164, 0, 43, 3, 61, 28]
abbrev dktX9_adds_0 : List UInt8 := dkwX9_adds_0 ++ dktX9_adds_1
theorem dksX9_adds_0 : cX9_adds.data.toList.drop 0 = dktX9_adds_0 := by decide +kernel
theorem dksX9_adds_1 : cX9_adds.data.toList.drop 22 = dktX9_adds_1 := dk_seg dksX9_adds_0 22 rfl rfl
theorem dksX9_adds_2 : cX9_adds.data.toList.drop 46 = dktX9_adds_2 := dk_seg dksX9_adds_1 24 rfl rfl
theorem dX9_adds_0 : decode cX9_adds 0 = .ok (.aload_n 0, 1) := dk_42 (dk_at dksX9_adds_0 0 rfl rfl)
theorem dX9_adds_1 : decode cX9_adds 1 = .ok (.dup, 1) := dk_89 (dk_at dksX9_adds_0 1 rfl rfl)
theorem dX9_adds_2 : decode cX9_adds 2 = .ok (.getfield 204, 3) := dk_180 0 204 (dk_at dksX9_adds_0 2 rfl rfl)
theorem dX9_adds_5 : decode cX9_adds 5 = .ok (.iconst 1, 1) := dk_4 (dk_at dksX9_adds_0 5 rfl rfl)
theorem dX9_adds_6 : decode cX9_adds 6 = .ok (.iadd, 1) := dk_96 (dk_at dksX9_adds_0 6 rfl rfl)
theorem dX9_adds_7 : decode cX9_adds 7 = .ok (.putfield 204, 3) := dk_181 0 204 (dk_at dksX9_adds_0 7 rfl rfl)
theorem dX9_adds_10 : decode cX9_adds 10 = .ok (.aload_n 0, 1) := dk_42 (dk_at dksX9_adds_0 10 rfl rfl)
theorem dX9_adds_11 : decode cX9_adds 11 = .ok (.getfield 204, 3) := dk_180 0 204 (dk_at dksX9_adds_0 11 rfl rfl)
theorem dX9_adds_14 : decode cX9_adds 14 = .ok (.bipush 15, 2) := dk_16 15 (dk_at dksX9_adds_0 14 rfl rfl)
theorem dX9_adds_16 : decode cX9_adds 16 = .ok (.if_icmp .le 43, 3) := dk_164 0 43 (dk_at dksX9_adds_0 16 rfl rfl)
theorem dX9_adds_19 : decode cX9_adds 19 = .ok (.iconst 0, 1) := dk_3 (dk_at dksX9_adds_0 19 rfl rfl)
theorem dX9_adds_20 : decode cX9_adds 20 = .ok (.istore_n 2, 1) := dk_61 (dk_at dksX9_adds_0 20 rfl rfl)
theorem dX9_adds_21 : decode cX9_adds 21 = .ok (.iload_n 2, 1) := dk_28 (dk_at dksX9_adds_0 21 rfl rfl)
theorem dX9_adds_22 : decode cX9_adds 22 = .ok (.sipush 315, 3) := dk_17 1 59 (dk_at dksX9_adds_1 0 rfl rfl)
theorem dX9_adds_25 : decode cX9_adds 25 = .ok (.if_icmp .ge 24, 3) := dk_162 0 24 (dk_at dksX9_adds_1 3 rfl rfl)
theorem dX9_adds_28 : decode cX9_adds 28 = .ok (.aload_n 0, 1) := dk_42 (dk_at dksX9_adds_1 6 rfl rfl)
theorem dX9_adds_29 : decode cX9_adds 29 = .ok (.getfield 66, 3) := dk_180 0 66 (dk_at dksX9_adds_1 7 rfl rfl)
theorem dX9_adds_32 : decode cX9_adds 32 = .ok (.iload_n 2, 1) := dk_28 (dk_at dksX9_adds_1 10 rfl rfl)
theorem dX9_adds_33 : decode cX9_adds 33 = .ok (.aload_n 0, 1) := dk_42 (dk_at dksX9_adds_1 11 rfl rfl)
theorem dX9_adds_34 : decode cX9_adds 34 = .ok (.getfield 66, 3) := dk_180 0 66 (dk_at dksX9_adds_1 12 rfl rfl)
theorem dX9_adds_37 : decode cX9_adds 37 = .ok (.iload_n 2, 1) := dk_28 (dk_at dksX9_adds_1 15 rfl rfl)
theorem dX9_adds_38 : decode cX9_adds 38 = .ok (.bipush 21, 2) := dk_16 21 (dk_at dksX9_adds_1 16 rfl rfl)
theorem dX9_adds_40 : decode cX9_adds 40 = .ok (.iadd, 1) := dk_96 (dk_at dksX9_adds_1 18 rfl rfl)
theorem dX9_adds_41 : decode cX9_adds 41 = .ok (.iaload, 1) := dk_46 (dk_at dksX9_adds_1 19 rfl rfl)
theorem dX9_adds_42 : decode cX9_adds 42 = .ok (.iastore, 1) := dk_79 (dk_at dksX9_adds_1 20 rfl rfl)
theorem dX9_adds_43 : decode cX9_adds 43 = .ok (.iinc 2 1, 3) := dk_132 2 1 (dk_at dksX9_adds_1 21 rfl rfl)
theorem dX9_adds_46 : decode cX9_adds 46 = .ok (.goto (-25), 3) := dk_167 255 231 (dk_at dksX9_adds_2 0 rfl rfl)
theorem dX9_adds_49 : decode cX9_adds 49 = .ok (.aload_n 0, 1) := dk_42 (dk_at dksX9_adds_2 3 rfl rfl)
theorem dX9_adds_50 : decode cX9_adds 50 = .ok (.dup, 1) := dk_89 (dk_at dksX9_adds_2 4 rfl rfl)
theorem dX9_adds_51 : decode cX9_adds 51 = .ok (.getfield 204, 3) := dk_180 0 204 (dk_at dksX9_adds_2 5 rfl rfl)
theorem dX9_adds_54 : decode cX9_adds 54 = .ok (.iconst 1, 1) := dk_4 (dk_at dksX9_adds_2 8 rfl rfl)
theorem dX9_adds_55 : decode cX9_adds 55 = .ok (.isub, 1) := dk_100 (dk_at dksX9_adds_2 9 rfl rfl)
theorem dX9_adds_56 : decode cX9_adds 56 = .ok (.putfield 204, 3) := dk_181 0 204 (dk_at dksX9_adds_2 10 rfl rfl)
theorem dX9_adds_59 : decode cX9_adds 59 = .ok (.iload_n 1, 1) := dk_27 (dk_at dksX9_adds_2 13 rfl rfl)
theorem dX9_adds_60 : decode cX9_adds 60 = .ok (.ireturn, 1) := dk_172 (dk_at dksX9_adds_2 14 rfl rfl)
abbrev cX9_days : ByteArray := prog_15_method_57_code
def yX9_days : MethodName := ⟨RX9, "days", "(I)I"⟩
def dkwX9_days_3 : List UInt8 := [180, 0, 39, 16, 17, 46, 100, 182, 1, 41, 172]
abbrev dktX9_days_3 : List UInt8 := dkwX9_days_3 ++ []
def dkwX9_days_2 : List UInt8 := [133, 182, 0, 122, 42, 42, 42, 180, 0, 39, 182, 1, 78, 184, 0, 154, 133, 182, 0, 122, 42, 28, 42]
abbrev dktX9_days_2 : List UInt8 := dkwX9_days_2 ++ dktX9_days_3
def dkwX9_days_1 : List UInt8 := [180, 0, 39, 16, 17, 46, 61, 42, 42, 180, 0, 39, 27, 182, 1, 75, 62, 42, 3, 181, 0, 119, 42, 29]
abbrev dktX9_days_1 : List UInt8 := dkwX9_days_1 ++ dktX9_days_2
def dkwX9_days_0 : List UInt8 := [42, 3, 181, 0, 112, 27, 133, 9, 20, 1, 73, 184, 0, 129, 154, 0, 5, 2, 172, 42, 182, 1, 64, 42]
abbrev dktX9_days_0 : List UInt8 := dkwX9_days_0 ++ dktX9_days_1
theorem dksX9_days_0 : cX9_days.data.toList.drop 0 = dktX9_days_0 := by decide +kernel
theorem dksX9_days_1 : cX9_days.data.toList.drop 24 = dktX9_days_1 := dk_seg dksX9_days_0 24 rfl rfl
theorem dksX9_days_2 : cX9_days.data.toList.drop 48 = dktX9_days_2 := dk_seg dksX9_days_1 24 rfl rfl
theorem dksX9_days_3 : cX9_days.data.toList.drop 71 = dktX9_days_3 := dk_seg dksX9_days_2 23 rfl rfl
theorem dX9_days_0 : decode cX9_days 0 = .ok (.aload_n 0, 1) := dk_42 (dk_at dksX9_days_0 0 rfl rfl)
theorem dX9_days_1 : decode cX9_days 1 = .ok (.iconst 0, 1) := dk_3 (dk_at dksX9_days_0 1 rfl rfl)
theorem dX9_days_2 : decode cX9_days 2 = .ok (.putfield 112, 3) := dk_181 0 112 (dk_at dksX9_days_0 2 rfl rfl)
theorem dX9_days_5 : decode cX9_days 5 = .ok (.iload_n 1, 1) := dk_27 (dk_at dksX9_days_0 5 rfl rfl)
theorem dX9_days_6 : decode cX9_days 6 = .ok (.i2l, 1) := dk_133 (dk_at dksX9_days_0 6 rfl rfl)
theorem dX9_days_7 : decode cX9_days 7 = .ok (.lconst 0, 1) := dk_9 (dk_at dksX9_days_0 7 rfl rfl)
theorem dX9_days_8 : decode cX9_days 8 = .ok (.ldc2_w 329, 3) := dk_20 1 73 (dk_at dksX9_days_0 8 rfl rfl)
theorem dX9_days_11 : decode cX9_days 11 = .ok (.invokestatic 129, 3) := dk_184 0 129 (dk_at dksX9_days_0 11 rfl rfl)
theorem dX9_days_14 : decode cX9_days 14 = .ok (.ifCond .ne 5, 3) := dk_154 0 5 (dk_at dksX9_days_0 14 rfl rfl)
theorem dX9_days_17 : decode cX9_days 17 = .ok (.iconst (-1), 1) := dk_2 (dk_at dksX9_days_0 17 rfl rfl)
theorem dX9_days_18 : decode cX9_days 18 = .ok (.ireturn, 1) := dk_172 (dk_at dksX9_days_0 18 rfl rfl)
theorem dX9_days_19 : decode cX9_days 19 = .ok (.aload_n 0, 1) := dk_42 (dk_at dksX9_days_0 19 rfl rfl)
theorem dX9_days_20 : decode cX9_days 20 = .ok (.invokevirtual 320, 3) := dk_182 1 64 (dk_at dksX9_days_0 20 rfl rfl)
theorem dX9_days_23 : decode cX9_days 23 = .ok (.aload_n 0, 1) := dk_42 (dk_at dksX9_days_0 23 rfl rfl)
theorem dX9_days_24 : decode cX9_days 24 = .ok (.getfield 39, 3) := dk_180 0 39 (dk_at dksX9_days_1 0 rfl rfl)
theorem dX9_days_27 : decode cX9_days 27 = .ok (.bipush 17, 2) := dk_16 17 (dk_at dksX9_days_1 3 rfl rfl)
theorem dX9_days_29 : decode cX9_days 29 = .ok (.iaload, 1) := dk_46 (dk_at dksX9_days_1 5 rfl rfl)
theorem dX9_days_30 : decode cX9_days 30 = .ok (.istore_n 2, 1) := dk_61 (dk_at dksX9_days_1 6 rfl rfl)
theorem dX9_days_31 : decode cX9_days 31 = .ok (.aload_n 0, 1) := dk_42 (dk_at dksX9_days_1 7 rfl rfl)
theorem dX9_days_32 : decode cX9_days 32 = .ok (.aload_n 0, 1) := dk_42 (dk_at dksX9_days_1 8 rfl rfl)
theorem dX9_days_33 : decode cX9_days 33 = .ok (.getfield 39, 3) := dk_180 0 39 (dk_at dksX9_days_1 9 rfl rfl)
theorem dX9_days_36 : decode cX9_days 36 = .ok (.iload_n 1, 1) := dk_27 (dk_at dksX9_days_1 12 rfl rfl)
theorem dX9_days_37 : decode cX9_days 37 = .ok (.invokevirtual 331, 3) := dk_182 1 75 (dk_at dksX9_days_1 13 rfl rfl)
theorem dX9_days_40 : decode cX9_days 40 = .ok (.istore_n 3, 1) := dk_62 (dk_at dksX9_days_1 16 rfl rfl)
theorem dX9_days_41 : decode cX9_days 41 = .ok (.aload_n 0, 1) := dk_42 (dk_at dksX9_days_1 17 rfl rfl)
theorem dX9_days_42 : decode cX9_days 42 = .ok (.iconst 0, 1) := dk_3 (dk_at dksX9_days_1 18 rfl rfl)
theorem dX9_days_43 : decode cX9_days 43 = .ok (.putfield 119, 3) := dk_181 0 119 (dk_at dksX9_days_1 19 rfl rfl)
theorem dX9_days_46 : decode cX9_days 46 = .ok (.aload_n 0, 1) := dk_42 (dk_at dksX9_days_1 22 rfl rfl)
theorem dX9_days_47 : decode cX9_days 47 = .ok (.iload_n 3, 1) := dk_29 (dk_at dksX9_days_1 23 rfl rfl)
theorem dX9_days_48 : decode cX9_days 48 = .ok (.i2l, 1) := dk_133 (dk_at dksX9_days_2 0 rfl rfl)
theorem dX9_days_49 : decode cX9_days 49 = .ok (.invokevirtual 122, 3) := dk_182 0 122 (dk_at dksX9_days_2 1 rfl rfl)
theorem dX9_days_52 : decode cX9_days 52 = .ok (.aload_n 0, 1) := dk_42 (dk_at dksX9_days_2 4 rfl rfl)
theorem dX9_days_53 : decode cX9_days 53 = .ok (.aload_n 0, 1) := dk_42 (dk_at dksX9_days_2 5 rfl rfl)
theorem dX9_days_54 : decode cX9_days 54 = .ok (.aload_n 0, 1) := dk_42 (dk_at dksX9_days_2 6 rfl rfl)
theorem dX9_days_55 : decode cX9_days 55 = .ok (.getfield 39, 3) := dk_180 0 39 (dk_at dksX9_days_2 7 rfl rfl)
theorem dX9_days_58 : decode cX9_days 58 = .ok (.invokevirtual 334, 3) := dk_182 1 78 (dk_at dksX9_days_2 10 rfl rfl)
theorem dX9_days_61 : decode cX9_days 61 = .ok (.invokestatic 154, 3) := dk_184 0 154 (dk_at dksX9_days_2 13 rfl rfl)
theorem dX9_days_64 : decode cX9_days 64 = .ok (.i2l, 1) := dk_133 (dk_at dksX9_days_2 16 rfl rfl)
theorem dX9_days_65 : decode cX9_days 65 = .ok (.invokevirtual 122, 3) := dk_182 0 122 (dk_at dksX9_days_2 17 rfl rfl)
theorem dX9_days_68 : decode cX9_days 68 = .ok (.aload_n 0, 1) := dk_42 (dk_at dksX9_days_2 20 rfl rfl)
theorem dX9_days_69 : decode cX9_days 69 = .ok (.iload_n 2, 1) := dk_28 (dk_at dksX9_days_2 21 rfl rfl)
theorem dX9_days_70 : decode cX9_days 70 = .ok (.aload_n 0, 1) := dk_42 (dk_at dksX9_days_2 22 rfl rfl)
theorem dX9_days_71 : decode cX9_days 71 = .ok (.getfield 39, 3) := dk_180 0 39 (dk_at dksX9_days_3 0 rfl rfl)
theorem dX9_days_74 : decode cX9_days 74 = .ok (.bipush 17, 2) := dk_16 17 (dk_at dksX9_days_3 3 rfl rfl)
theorem dX9_days_76 : decode cX9_days 76 = .ok (.iaload, 1) := dk_46 (dk_at dksX9_days_3 5 rfl rfl)
theorem dX9_days_77 : decode cX9_days 77 = .ok (.isub, 1) := dk_100 (dk_at dksX9_days_3 6 rfl rfl)
theorem dX9_days_78 : decode cX9_days 78 = .ok (.invokevirtual 297, 3) := dk_182 1 41 (dk_at dksX9_days_3 7 rfl rfl)
theorem dX9_days_81 : decode cX9_days 81 = .ok (.ireturn, 1) := dk_172 (dk_at dksX9_days_3 10 rfl rfl)
abbrev cX9_goesOn : ByteArray := prog_15_method_49_code
def yX9_goesOn : MethodName := ⟨RX9, "goesOn", "([II)I"⟩
def dkwX9_goesOn_1 : List UInt8 := [3, 184, 0, 154, 96, 62, 132, 4, 1, 167, 255, 228, 29, 172]
abbrev dktX9_goesOn_1 : List UInt8 := dkwX9_goesOn_1 ++ []
def dkwX9_goesOn_0 : List UInt8 := [3, 62, 3, 54, 4, 21, 4, 28, 162, 0, 28, 29, 42, 43, 182, 1, 51, 154, 0, 7, 4, 167, 0, 4]
abbrev dktX9_goesOn_0 : List UInt8 := dkwX9_goesOn_0 ++ dktX9_goesOn_1
theorem dksX9_goesOn_0 : cX9_goesOn.data.toList.drop 0 = dktX9_goesOn_0 := by decide +kernel
theorem dksX9_goesOn_1 : cX9_goesOn.data.toList.drop 24 = dktX9_goesOn_1 := dk_seg dksX9_goesOn_0 24 rfl rfl
theorem dX9_goesOn_0 : decode cX9_goesOn 0 = .ok (.iconst 0, 1) := dk_3 (dk_at dksX9_goesOn_0 0 rfl rfl)
theorem dX9_goesOn_1 : decode cX9_goesOn 1 = .ok (.istore_n 3, 1) := dk_62 (dk_at dksX9_goesOn_0 1 rfl rfl)
theorem dX9_goesOn_2 : decode cX9_goesOn 2 = .ok (.iconst 0, 1) := dk_3 (dk_at dksX9_goesOn_0 2 rfl rfl)
theorem dX9_goesOn_3 : decode cX9_goesOn 3 = .ok (.istore 4, 2) := dk_54 4 (dk_at dksX9_goesOn_0 3 rfl rfl)
theorem dX9_goesOn_5 : decode cX9_goesOn 5 = .ok (.iload 4, 2) := dk_21 4 (dk_at dksX9_goesOn_0 5 rfl rfl)
theorem dX9_goesOn_7 : decode cX9_goesOn 7 = .ok (.iload_n 2, 1) := dk_28 (dk_at dksX9_goesOn_0 7 rfl rfl)
theorem dX9_goesOn_8 : decode cX9_goesOn 8 = .ok (.if_icmp .ge 28, 3) := dk_162 0 28 (dk_at dksX9_goesOn_0 8 rfl rfl)
theorem dX9_goesOn_11 : decode cX9_goesOn 11 = .ok (.iload_n 3, 1) := dk_29 (dk_at dksX9_goesOn_0 11 rfl rfl)
theorem dX9_goesOn_12 : decode cX9_goesOn 12 = .ok (.aload_n 0, 1) := dk_42 (dk_at dksX9_goesOn_0 12 rfl rfl)
theorem dX9_goesOn_13 : decode cX9_goesOn 13 = .ok (.aload_n 1, 1) := dk_43 (dk_at dksX9_goesOn_0 13 rfl rfl)
theorem dX9_goesOn_14 : decode cX9_goesOn 14 = .ok (.invokevirtual 307, 3) := dk_182 1 51 (dk_at dksX9_goesOn_0 14 rfl rfl)
theorem dX9_goesOn_17 : decode cX9_goesOn 17 = .ok (.ifCond .ne 7, 3) := dk_154 0 7 (dk_at dksX9_goesOn_0 17 rfl rfl)
theorem dX9_goesOn_20 : decode cX9_goesOn 20 = .ok (.iconst 1, 1) := dk_4 (dk_at dksX9_goesOn_0 20 rfl rfl)
theorem dX9_goesOn_21 : decode cX9_goesOn 21 = .ok (.goto 4, 3) := dk_167 0 4 (dk_at dksX9_goesOn_0 21 rfl rfl)
theorem dX9_goesOn_24 : decode cX9_goesOn 24 = .ok (.iconst 0, 1) := dk_3 (dk_at dksX9_goesOn_1 0 rfl rfl)
theorem dX9_goesOn_25 : decode cX9_goesOn 25 = .ok (.invokestatic 154, 3) := dk_184 0 154 (dk_at dksX9_goesOn_1 1 rfl rfl)
theorem dX9_goesOn_28 : decode cX9_goesOn 28 = .ok (.iadd, 1) := dk_96 (dk_at dksX9_goesOn_1 4 rfl rfl)
theorem dX9_goesOn_29 : decode cX9_goesOn 29 = .ok (.istore_n 3, 1) := dk_62 (dk_at dksX9_goesOn_1 5 rfl rfl)
theorem dX9_goesOn_30 : decode cX9_goesOn 30 = .ok (.iinc 4 1, 3) := dk_132 4 1 (dk_at dksX9_goesOn_1 6 rfl rfl)
theorem dX9_goesOn_33 : decode cX9_goesOn 33 = .ok (.goto (-28), 3) := dk_167 255 228 (dk_at dksX9_goesOn_1 9 rfl rfl)
theorem dX9_goesOn_36 : decode cX9_goesOn 36 = .ok (.iload_n 3, 1) := dk_29 (dk_at dksX9_goesOn_1 12 rfl rfl)
theorem dX9_goesOn_37 : decode cX9_goesOn 37 = .ok (.ireturn, 1) := dk_172 (dk_at dksX9_goesOn_1 13 rfl rfl)
abbrev cX9_dayGoes : ByteArray := prog_15_method_48_code
def yX9_dayGoes : MethodName := ⟨RX9, "dayGoes", "([I)Z"⟩
def dkwX9_dayGoes_11 : List UInt8 := [16, 20, 96, 184, 0, 145, 167, 0, 7, 43, 16, 16, 46, 79, 43, 16, 20, 92, 46, 4, 96, 79, 28, 172]
abbrev dktX9_dayGoes_11 : List UInt8 := dkwX9_dayGoes_11 ++ []
def dkwX9_dayGoes_10 : List UInt8 := [46, 79, 132, 5, 1, 167, 255, 193, 43, 16, 16, 21, 4, 6, 160, 0, 19, 17, 3, 231, 43, 16, 16, 46]
abbrev dktX9_dayGoes_10 : List UInt8 := dkwX9_dayGoes_10 ++ dktX9_dayGoes_11
def dkwX9_dayGoes_9 : List UInt8 := [21, 6, 153, 0, 19, 16, 99, 43, 21, 5, 46, 6, 96, 29, 100, 184, 0, 145, 167, 0, 7, 43, 21, 5]
abbrev dktX9_dayGoes_9 : List UInt8 := dkwX9_dayGoes_9 ++ dktX9_dayGoes_10
def dkwX9_dayGoes_8 : List UInt8 := [16, 8, 21, 5, 96, 46, 154, 0, 12, 29, 6, 162, 0, 7, 4, 167, 0, 4, 3, 54, 6, 43, 21, 5]
abbrev dktX9_dayGoes_8 : List UInt8 := dkwX9_dayGoes_8 ++ dktX9_dayGoes_9
def dkwX9_dayGoes_7 : List UInt8 := [182, 1, 48, 184, 0, 145, 184, 1, 38, 100, 79, 3, 54, 5, 21, 5, 42, 180, 0, 126, 162, 0, 60, 43]
abbrev dktX9_dayGoes_7 : List UInt8 := dkwX9_dayGoes_7 ++ dktX9_dayGoes_8
def dkwX9_dayGoes_6 : List UInt8 := [42, 180, 0, 63, 7, 43, 16, 20, 46, 16, 10, 112, 79, 43, 16, 17, 92, 46, 3, 43, 16, 17, 46, 42]
abbrev dktX9_dayGoes_6 : List UInt8 := dkwX9_dayGoes_6 ++ dktX9_dayGoes_7
def dkwX9_dayGoes_5 : List UInt8 := [184, 0, 154, 79, 42, 180, 0, 63, 6, 21, 4, 5, 160, 0, 7, 4, 167, 0, 4, 3, 184, 0, 154, 79]
abbrev dktX9_dayGoes_5 : List UInt8 := dkwX9_dayGoes_5 ++ dktX9_dayGoes_6
def dkwX9_dayGoes_4 : List UInt8 := [16, 19, 46, 167, 0, 4, 3, 79, 42, 180, 0, 63, 5, 21, 4, 4, 160, 0, 7, 4, 167, 0, 4, 3]
abbrev dktX9_dayGoes_4 : List UInt8 := dkwX9_dayGoes_4 ++ dktX9_dayGoes_5
def dkwX9_dayGoes_3 : List UInt8 := [46, 54, 4, 42, 180, 0, 63, 3, 43, 16, 17, 46, 79, 42, 180, 0, 63, 4, 28, 153, 0, 10, 43]
abbrev dktX9_dayGoes_3 : List UInt8 := dkwX9_dayGoes_3 ++ dktX9_dayGoes_4
def dkwX9_dayGoes_2 : List UInt8 := [16, 17, 46, 104, 96, 167, 0, 4, 3, 100, 79, 42, 180, 0, 17, 43, 16, 20, 46, 42, 180, 0, 13, 112]
abbrev dktX9_dayGoes_2 : List UInt8 := dkwX9_dayGoes_2 ++ dktX9_dayGoes_3
def dkwX9_dayGoes_1 : List UInt8 := [28, 153, 0, 30, 43, 16, 18, 46, 42, 43, 3, 182, 0, 253, 184, 1, 5, 104, 43, 16, 19, 46, 43]
abbrev dktX9_dayGoes_1 : List UInt8 := dkwX9_dayGoes_1 ++ dktX9_dayGoes_2
def dkwX9_dayGoes_0 : List UInt8 := [42, 43, 182, 1, 44, 61, 28, 153, 0, 10, 43, 16, 18, 46, 167, 0, 4, 3, 62, 43, 16, 16, 92, 46]
abbrev dktX9_dayGoes_0 : List UInt8 := dkwX9_dayGoes_0 ++ dktX9_dayGoes_1
theorem dksX9_dayGoes_0 : cX9_dayGoes.data.toList.drop 0 = dktX9_dayGoes_0 := by decide +kernel
theorem dksX9_dayGoes_1 : cX9_dayGoes.data.toList.drop 24 = dktX9_dayGoes_1 := dk_seg dksX9_dayGoes_0 24 rfl rfl
theorem dksX9_dayGoes_2 : cX9_dayGoes.data.toList.drop 47 = dktX9_dayGoes_2 := dk_seg dksX9_dayGoes_1 23 rfl rfl
theorem dksX9_dayGoes_3 : cX9_dayGoes.data.toList.drop 71 = dktX9_dayGoes_3 := dk_seg dksX9_dayGoes_2 24 rfl rfl
theorem dksX9_dayGoes_4 : cX9_dayGoes.data.toList.drop 94 = dktX9_dayGoes_4 := dk_seg dksX9_dayGoes_3 23 rfl rfl
theorem dksX9_dayGoes_5 : cX9_dayGoes.data.toList.drop 118 = dktX9_dayGoes_5 := dk_seg dksX9_dayGoes_4 24 rfl rfl
theorem dksX9_dayGoes_6 : cX9_dayGoes.data.toList.drop 142 = dktX9_dayGoes_6 := dk_seg dksX9_dayGoes_5 24 rfl rfl
theorem dksX9_dayGoes_7 : cX9_dayGoes.data.toList.drop 166 = dktX9_dayGoes_7 := dk_seg dksX9_dayGoes_6 24 rfl rfl
theorem dksX9_dayGoes_8 : cX9_dayGoes.data.toList.drop 190 = dktX9_dayGoes_8 := dk_seg dksX9_dayGoes_7 24 rfl rfl
theorem dksX9_dayGoes_9 : cX9_dayGoes.data.toList.drop 214 = dktX9_dayGoes_9 := dk_seg dksX9_dayGoes_8 24 rfl rfl
theorem dksX9_dayGoes_10 : cX9_dayGoes.data.toList.drop 238 = dktX9_dayGoes_10 := dk_seg dksX9_dayGoes_9 24 rfl rfl
theorem dksX9_dayGoes_11 : cX9_dayGoes.data.toList.drop 262 = dktX9_dayGoes_11 := dk_seg dksX9_dayGoes_10 24 rfl rfl
theorem dX9_dayGoes_0 : decode cX9_dayGoes 0 = .ok (.aload_n 0, 1) := dk_42 (dk_at dksX9_dayGoes_0 0 rfl rfl)
theorem dX9_dayGoes_1 : decode cX9_dayGoes 1 = .ok (.aload_n 1, 1) := dk_43 (dk_at dksX9_dayGoes_0 1 rfl rfl)
theorem dX9_dayGoes_2 : decode cX9_dayGoes 2 = .ok (.invokevirtual 300, 3) := dk_182 1 44 (dk_at dksX9_dayGoes_0 2 rfl rfl)
theorem dX9_dayGoes_5 : decode cX9_dayGoes 5 = .ok (.istore_n 2, 1) := dk_61 (dk_at dksX9_dayGoes_0 5 rfl rfl)
theorem dX9_dayGoes_6 : decode cX9_dayGoes 6 = .ok (.iload_n 2, 1) := dk_28 (dk_at dksX9_dayGoes_0 6 rfl rfl)
theorem dX9_dayGoes_7 : decode cX9_dayGoes 7 = .ok (.ifCond .eq 10, 3) := dk_153 0 10 (dk_at dksX9_dayGoes_0 7 rfl rfl)
theorem dX9_dayGoes_10 : decode cX9_dayGoes 10 = .ok (.aload_n 1, 1) := dk_43 (dk_at dksX9_dayGoes_0 10 rfl rfl)
theorem dX9_dayGoes_11 : decode cX9_dayGoes 11 = .ok (.bipush 18, 2) := dk_16 18 (dk_at dksX9_dayGoes_0 11 rfl rfl)
theorem dX9_dayGoes_13 : decode cX9_dayGoes 13 = .ok (.iaload, 1) := dk_46 (dk_at dksX9_dayGoes_0 13 rfl rfl)
theorem dX9_dayGoes_14 : decode cX9_dayGoes 14 = .ok (.goto 4, 3) := dk_167 0 4 (dk_at dksX9_dayGoes_0 14 rfl rfl)
theorem dX9_dayGoes_17 : decode cX9_dayGoes 17 = .ok (.iconst 0, 1) := dk_3 (dk_at dksX9_dayGoes_0 17 rfl rfl)
theorem dX9_dayGoes_18 : decode cX9_dayGoes 18 = .ok (.istore_n 3, 1) := dk_62 (dk_at dksX9_dayGoes_0 18 rfl rfl)
theorem dX9_dayGoes_19 : decode cX9_dayGoes 19 = .ok (.aload_n 1, 1) := dk_43 (dk_at dksX9_dayGoes_0 19 rfl rfl)
theorem dX9_dayGoes_20 : decode cX9_dayGoes 20 = .ok (.bipush 16, 2) := dk_16 16 (dk_at dksX9_dayGoes_0 20 rfl rfl)
theorem dX9_dayGoes_22 : decode cX9_dayGoes 22 = .ok (.dup2, 1) := dk_92 (dk_at dksX9_dayGoes_0 22 rfl rfl)
theorem dX9_dayGoes_23 : decode cX9_dayGoes 23 = .ok (.iaload, 1) := dk_46 (dk_at dksX9_dayGoes_0 23 rfl rfl)
theorem dX9_dayGoes_24 : decode cX9_dayGoes 24 = .ok (.iload_n 2, 1) := dk_28 (dk_at dksX9_dayGoes_1 0 rfl rfl)
theorem dX9_dayGoes_25 : decode cX9_dayGoes 25 = .ok (.ifCond .eq 30, 3) := dk_153 0 30 (dk_at dksX9_dayGoes_1 1 rfl rfl)
theorem dX9_dayGoes_28 : decode cX9_dayGoes 28 = .ok (.aload_n 1, 1) := dk_43 (dk_at dksX9_dayGoes_1 4 rfl rfl)
theorem dX9_dayGoes_29 : decode cX9_dayGoes 29 = .ok (.bipush 18, 2) := dk_16 18 (dk_at dksX9_dayGoes_1 5 rfl rfl)
theorem dX9_dayGoes_31 : decode cX9_dayGoes 31 = .ok (.iaload, 1) := dk_46 (dk_at dksX9_dayGoes_1 7 rfl rfl)
theorem dX9_dayGoes_32 : decode cX9_dayGoes 32 = .ok (.aload_n 0, 1) := dk_42 (dk_at dksX9_dayGoes_1 8 rfl rfl)
theorem dX9_dayGoes_33 : decode cX9_dayGoes 33 = .ok (.aload_n 1, 1) := dk_43 (dk_at dksX9_dayGoes_1 9 rfl rfl)
theorem dX9_dayGoes_34 : decode cX9_dayGoes 34 = .ok (.iconst 0, 1) := dk_3 (dk_at dksX9_dayGoes_1 10 rfl rfl)
theorem dX9_dayGoes_35 : decode cX9_dayGoes 35 = .ok (.invokevirtual 253, 3) := dk_182 0 253 (dk_at dksX9_dayGoes_1 11 rfl rfl)
theorem dX9_dayGoes_38 : decode cX9_dayGoes 38 = .ok (.invokestatic 261, 3) := dk_184 1 5 (dk_at dksX9_dayGoes_1 14 rfl rfl)
theorem dX9_dayGoes_41 : decode cX9_dayGoes 41 = .ok (.imul, 1) := dk_104 (dk_at dksX9_dayGoes_1 17 rfl rfl)
theorem dX9_dayGoes_42 : decode cX9_dayGoes 42 = .ok (.aload_n 1, 1) := dk_43 (dk_at dksX9_dayGoes_1 18 rfl rfl)
theorem dX9_dayGoes_43 : decode cX9_dayGoes 43 = .ok (.bipush 19, 2) := dk_16 19 (dk_at dksX9_dayGoes_1 19 rfl rfl)
theorem dX9_dayGoes_45 : decode cX9_dayGoes 45 = .ok (.iaload, 1) := dk_46 (dk_at dksX9_dayGoes_1 21 rfl rfl)
theorem dX9_dayGoes_46 : decode cX9_dayGoes 46 = .ok (.aload_n 1, 1) := dk_43 (dk_at dksX9_dayGoes_1 22 rfl rfl)
theorem dX9_dayGoes_47 : decode cX9_dayGoes 47 = .ok (.bipush 17, 2) := dk_16 17 (dk_at dksX9_dayGoes_2 0 rfl rfl)
theorem dX9_dayGoes_49 : decode cX9_dayGoes 49 = .ok (.iaload, 1) := dk_46 (dk_at dksX9_dayGoes_2 2 rfl rfl)
theorem dX9_dayGoes_50 : decode cX9_dayGoes 50 = .ok (.imul, 1) := dk_104 (dk_at dksX9_dayGoes_2 3 rfl rfl)
theorem dX9_dayGoes_51 : decode cX9_dayGoes 51 = .ok (.iadd, 1) := dk_96 (dk_at dksX9_dayGoes_2 4 rfl rfl)
theorem dX9_dayGoes_52 : decode cX9_dayGoes 52 = .ok (.goto 4, 3) := dk_167 0 4 (dk_at dksX9_dayGoes_2 5 rfl rfl)
theorem dX9_dayGoes_55 : decode cX9_dayGoes 55 = .ok (.iconst 0, 1) := dk_3 (dk_at dksX9_dayGoes_2 8 rfl rfl)
theorem dX9_dayGoes_56 : decode cX9_dayGoes 56 = .ok (.isub, 1) := dk_100 (dk_at dksX9_dayGoes_2 9 rfl rfl)
theorem dX9_dayGoes_57 : decode cX9_dayGoes 57 = .ok (.iastore, 1) := dk_79 (dk_at dksX9_dayGoes_2 10 rfl rfl)
theorem dX9_dayGoes_58 : decode cX9_dayGoes 58 = .ok (.aload_n 0, 1) := dk_42 (dk_at dksX9_dayGoes_2 11 rfl rfl)
theorem dX9_dayGoes_59 : decode cX9_dayGoes 59 = .ok (.getfield 17, 3) := dk_180 0 17 (dk_at dksX9_dayGoes_2 12 rfl rfl)
theorem dX9_dayGoes_62 : decode cX9_dayGoes 62 = .ok (.aload_n 1, 1) := dk_43 (dk_at dksX9_dayGoes_2 15 rfl rfl)
theorem dX9_dayGoes_63 : decode cX9_dayGoes 63 = .ok (.bipush 20, 2) := dk_16 20 (dk_at dksX9_dayGoes_2 16 rfl rfl)
theorem dX9_dayGoes_65 : decode cX9_dayGoes 65 = .ok (.iaload, 1) := dk_46 (dk_at dksX9_dayGoes_2 18 rfl rfl)
theorem dX9_dayGoes_66 : decode cX9_dayGoes 66 = .ok (.aload_n 0, 1) := dk_42 (dk_at dksX9_dayGoes_2 19 rfl rfl)
theorem dX9_dayGoes_67 : decode cX9_dayGoes 67 = .ok (.getfield 13, 3) := dk_180 0 13 (dk_at dksX9_dayGoes_2 20 rfl rfl)
theorem dX9_dayGoes_70 : decode cX9_dayGoes 70 = .ok (.irem, 1) := dk_112 (dk_at dksX9_dayGoes_2 23 rfl rfl)
theorem dX9_dayGoes_71 : decode cX9_dayGoes 71 = .ok (.iaload, 1) := dk_46 (dk_at dksX9_dayGoes_3 0 rfl rfl)
theorem dX9_dayGoes_72 : decode cX9_dayGoes 72 = .ok (.istore 4, 2) := dk_54 4 (dk_at dksX9_dayGoes_3 1 rfl rfl)
theorem dX9_dayGoes_74 : decode cX9_dayGoes 74 = .ok (.aload_n 0, 1) := dk_42 (dk_at dksX9_dayGoes_3 3 rfl rfl)
theorem dX9_dayGoes_75 : decode cX9_dayGoes 75 = .ok (.getfield 63, 3) := dk_180 0 63 (dk_at dksX9_dayGoes_3 4 rfl rfl)
theorem dX9_dayGoes_78 : decode cX9_dayGoes 78 = .ok (.iconst 0, 1) := dk_3 (dk_at dksX9_dayGoes_3 7 rfl rfl)
theorem dX9_dayGoes_79 : decode cX9_dayGoes 79 = .ok (.aload_n 1, 1) := dk_43 (dk_at dksX9_dayGoes_3 8 rfl rfl)
theorem dX9_dayGoes_80 : decode cX9_dayGoes 80 = .ok (.bipush 17, 2) := dk_16 17 (dk_at dksX9_dayGoes_3 9 rfl rfl)
theorem dX9_dayGoes_82 : decode cX9_dayGoes 82 = .ok (.iaload, 1) := dk_46 (dk_at dksX9_dayGoes_3 11 rfl rfl)
theorem dX9_dayGoes_83 : decode cX9_dayGoes 83 = .ok (.iastore, 1) := dk_79 (dk_at dksX9_dayGoes_3 12 rfl rfl)
theorem dX9_dayGoes_84 : decode cX9_dayGoes 84 = .ok (.aload_n 0, 1) := dk_42 (dk_at dksX9_dayGoes_3 13 rfl rfl)
theorem dX9_dayGoes_85 : decode cX9_dayGoes 85 = .ok (.getfield 63, 3) := dk_180 0 63 (dk_at dksX9_dayGoes_3 14 rfl rfl)
theorem dX9_dayGoes_88 : decode cX9_dayGoes 88 = .ok (.iconst 1, 1) := dk_4 (dk_at dksX9_dayGoes_3 17 rfl rfl)
theorem dX9_dayGoes_89 : decode cX9_dayGoes 89 = .ok (.iload_n 2, 1) := dk_28 (dk_at dksX9_dayGoes_3 18 rfl rfl)
theorem dX9_dayGoes_90 : decode cX9_dayGoes 90 = .ok (.ifCond .eq 10, 3) := dk_153 0 10 (dk_at dksX9_dayGoes_3 19 rfl rfl)
theorem dX9_dayGoes_93 : decode cX9_dayGoes 93 = .ok (.aload_n 1, 1) := dk_43 (dk_at dksX9_dayGoes_3 22 rfl rfl)
theorem dX9_dayGoes_94 : decode cX9_dayGoes 94 = .ok (.bipush 19, 2) := dk_16 19 (dk_at dksX9_dayGoes_4 0 rfl rfl)
theorem dX9_dayGoes_96 : decode cX9_dayGoes 96 = .ok (.iaload, 1) := dk_46 (dk_at dksX9_dayGoes_4 2 rfl rfl)
theorem dX9_dayGoes_97 : decode cX9_dayGoes 97 = .ok (.goto 4, 3) := dk_167 0 4 (dk_at dksX9_dayGoes_4 3 rfl rfl)
theorem dX9_dayGoes_100 : decode cX9_dayGoes 100 = .ok (.iconst 0, 1) := dk_3 (dk_at dksX9_dayGoes_4 6 rfl rfl)
theorem dX9_dayGoes_101 : decode cX9_dayGoes 101 = .ok (.iastore, 1) := dk_79 (dk_at dksX9_dayGoes_4 7 rfl rfl)
theorem dX9_dayGoes_102 : decode cX9_dayGoes 102 = .ok (.aload_n 0, 1) := dk_42 (dk_at dksX9_dayGoes_4 8 rfl rfl)
theorem dX9_dayGoes_103 : decode cX9_dayGoes 103 = .ok (.getfield 63, 3) := dk_180 0 63 (dk_at dksX9_dayGoes_4 9 rfl rfl)
theorem dX9_dayGoes_106 : decode cX9_dayGoes 106 = .ok (.iconst 2, 1) := dk_5 (dk_at dksX9_dayGoes_4 12 rfl rfl)
theorem dX9_dayGoes_107 : decode cX9_dayGoes 107 = .ok (.iload 4, 2) := dk_21 4 (dk_at dksX9_dayGoes_4 13 rfl rfl)
theorem dX9_dayGoes_109 : decode cX9_dayGoes 109 = .ok (.iconst 1, 1) := dk_4 (dk_at dksX9_dayGoes_4 15 rfl rfl)
theorem dX9_dayGoes_110 : decode cX9_dayGoes 110 = .ok (.if_icmp .ne 7, 3) := dk_160 0 7 (dk_at dksX9_dayGoes_4 16 rfl rfl)
theorem dX9_dayGoes_113 : decode cX9_dayGoes 113 = .ok (.iconst 1, 1) := dk_4 (dk_at dksX9_dayGoes_4 19 rfl rfl)
theorem dX9_dayGoes_114 : decode cX9_dayGoes 114 = .ok (.goto 4, 3) := dk_167 0 4 (dk_at dksX9_dayGoes_4 20 rfl rfl)
theorem dX9_dayGoes_117 : decode cX9_dayGoes 117 = .ok (.iconst 0, 1) := dk_3 (dk_at dksX9_dayGoes_4 23 rfl rfl)
theorem dX9_dayGoes_118 : decode cX9_dayGoes 118 = .ok (.invokestatic 154, 3) := dk_184 0 154 (dk_at dksX9_dayGoes_5 0 rfl rfl)
theorem dX9_dayGoes_121 : decode cX9_dayGoes 121 = .ok (.iastore, 1) := dk_79 (dk_at dksX9_dayGoes_5 3 rfl rfl)
theorem dX9_dayGoes_122 : decode cX9_dayGoes 122 = .ok (.aload_n 0, 1) := dk_42 (dk_at dksX9_dayGoes_5 4 rfl rfl)
theorem dX9_dayGoes_123 : decode cX9_dayGoes 123 = .ok (.getfield 63, 3) := dk_180 0 63 (dk_at dksX9_dayGoes_5 5 rfl rfl)
theorem dX9_dayGoes_126 : decode cX9_dayGoes 126 = .ok (.iconst 3, 1) := dk_6 (dk_at dksX9_dayGoes_5 8 rfl rfl)
theorem dX9_dayGoes_127 : decode cX9_dayGoes 127 = .ok (.iload 4, 2) := dk_21 4 (dk_at dksX9_dayGoes_5 9 rfl rfl)
theorem dX9_dayGoes_129 : decode cX9_dayGoes 129 = .ok (.iconst 2, 1) := dk_5 (dk_at dksX9_dayGoes_5 11 rfl rfl)
theorem dX9_dayGoes_130 : decode cX9_dayGoes 130 = .ok (.if_icmp .ne 7, 3) := dk_160 0 7 (dk_at dksX9_dayGoes_5 12 rfl rfl)
theorem dX9_dayGoes_133 : decode cX9_dayGoes 133 = .ok (.iconst 1, 1) := dk_4 (dk_at dksX9_dayGoes_5 15 rfl rfl)
theorem dX9_dayGoes_134 : decode cX9_dayGoes 134 = .ok (.goto 4, 3) := dk_167 0 4 (dk_at dksX9_dayGoes_5 16 rfl rfl)
theorem dX9_dayGoes_137 : decode cX9_dayGoes 137 = .ok (.iconst 0, 1) := dk_3 (dk_at dksX9_dayGoes_5 19 rfl rfl)
theorem dX9_dayGoes_138 : decode cX9_dayGoes 138 = .ok (.invokestatic 154, 3) := dk_184 0 154 (dk_at dksX9_dayGoes_5 20 rfl rfl)
theorem dX9_dayGoes_141 : decode cX9_dayGoes 141 = .ok (.iastore, 1) := dk_79 (dk_at dksX9_dayGoes_5 23 rfl rfl)
theorem dX9_dayGoes_142 : decode cX9_dayGoes 142 = .ok (.aload_n 0, 1) := dk_42 (dk_at dksX9_dayGoes_6 0 rfl rfl)
theorem dX9_dayGoes_143 : decode cX9_dayGoes 143 = .ok (.getfield 63, 3) := dk_180 0 63 (dk_at dksX9_dayGoes_6 1 rfl rfl)
theorem dX9_dayGoes_146 : decode cX9_dayGoes 146 = .ok (.iconst 4, 1) := dk_7 (dk_at dksX9_dayGoes_6 4 rfl rfl)
theorem dX9_dayGoes_147 : decode cX9_dayGoes 147 = .ok (.aload_n 1, 1) := dk_43 (dk_at dksX9_dayGoes_6 5 rfl rfl)
theorem dX9_dayGoes_148 : decode cX9_dayGoes 148 = .ok (.bipush 20, 2) := dk_16 20 (dk_at dksX9_dayGoes_6 6 rfl rfl)
theorem dX9_dayGoes_150 : decode cX9_dayGoes 150 = .ok (.iaload, 1) := dk_46 (dk_at dksX9_dayGoes_6 8 rfl rfl)
theorem dX9_dayGoes_151 : decode cX9_dayGoes 151 = .ok (.bipush 10, 2) := dk_16 10 (dk_at dksX9_dayGoes_6 9 rfl rfl)
theorem dX9_dayGoes_153 : decode cX9_dayGoes 153 = .ok (.irem, 1) := dk_112 (dk_at dksX9_dayGoes_6 11 rfl rfl)
theorem dX9_dayGoes_154 : decode cX9_dayGoes 154 = .ok (.iastore, 1) := dk_79 (dk_at dksX9_dayGoes_6 12 rfl rfl)
theorem dX9_dayGoes_155 : decode cX9_dayGoes 155 = .ok (.aload_n 1, 1) := dk_43 (dk_at dksX9_dayGoes_6 13 rfl rfl)
theorem dX9_dayGoes_156 : decode cX9_dayGoes 156 = .ok (.bipush 17, 2) := dk_16 17 (dk_at dksX9_dayGoes_6 14 rfl rfl)
theorem dX9_dayGoes_158 : decode cX9_dayGoes 158 = .ok (.dup2, 1) := dk_92 (dk_at dksX9_dayGoes_6 16 rfl rfl)
theorem dX9_dayGoes_159 : decode cX9_dayGoes 159 = .ok (.iaload, 1) := dk_46 (dk_at dksX9_dayGoes_6 17 rfl rfl)
theorem dX9_dayGoes_160 : decode cX9_dayGoes 160 = .ok (.iconst 0, 1) := dk_3 (dk_at dksX9_dayGoes_6 18 rfl rfl)
theorem dX9_dayGoes_161 : decode cX9_dayGoes 161 = .ok (.aload_n 1, 1) := dk_43 (dk_at dksX9_dayGoes_6 19 rfl rfl)
theorem dX9_dayGoes_162 : decode cX9_dayGoes 162 = .ok (.bipush 17, 2) := dk_16 17 (dk_at dksX9_dayGoes_6 20 rfl rfl)
theorem dX9_dayGoes_164 : decode cX9_dayGoes 164 = .ok (.iaload, 1) := dk_46 (dk_at dksX9_dayGoes_6 22 rfl rfl)
theorem dX9_dayGoes_165 : decode cX9_dayGoes 165 = .ok (.aload_n 0, 1) := dk_42 (dk_at dksX9_dayGoes_6 23 rfl rfl)
theorem dX9_dayGoes_166 : decode cX9_dayGoes 166 = .ok (.invokevirtual 304, 3) := dk_182 1 48 (dk_at dksX9_dayGoes_7 0 rfl rfl)
theorem dX9_dayGoes_169 : decode cX9_dayGoes 169 = .ok (.invokestatic 145, 3) := dk_184 0 145 (dk_at dksX9_dayGoes_7 3 rfl rfl)
theorem dX9_dayGoes_172 : decode cX9_dayGoes 172 = .ok (.invokestatic 294, 3) := dk_184 1 38 (dk_at dksX9_dayGoes_7 6 rfl rfl)
theorem dX9_dayGoes_175 : decode cX9_dayGoes 175 = .ok (.isub, 1) := dk_100 (dk_at dksX9_dayGoes_7 9 rfl rfl)
theorem dX9_dayGoes_176 : decode cX9_dayGoes 176 = .ok (.iastore, 1) := dk_79 (dk_at dksX9_dayGoes_7 10 rfl rfl)
theorem dX9_dayGoes_177 : decode cX9_dayGoes 177 = .ok (.iconst 0, 1) := dk_3 (dk_at dksX9_dayGoes_7 11 rfl rfl)
theorem dX9_dayGoes_178 : decode cX9_dayGoes 178 = .ok (.istore 5, 2) := dk_54 5 (dk_at dksX9_dayGoes_7 12 rfl rfl)
theorem dX9_dayGoes_180 : decode cX9_dayGoes 180 = .ok (.iload 5, 2) := dk_21 5 (dk_at dksX9_dayGoes_7 14 rfl rfl)
theorem dX9_dayGoes_182 : decode cX9_dayGoes 182 = .ok (.aload_n 0, 1) := dk_42 (dk_at dksX9_dayGoes_7 16 rfl rfl)
theorem dX9_dayGoes_183 : decode cX9_dayGoes 183 = .ok (.getfield 126, 3) := dk_180 0 126 (dk_at dksX9_dayGoes_7 17 rfl rfl)
theorem dX9_dayGoes_186 : decode cX9_dayGoes 186 = .ok (.if_icmp .ge 60, 3) := dk_162 0 60 (dk_at dksX9_dayGoes_7 20 rfl rfl)
theorem dX9_dayGoes_189 : decode cX9_dayGoes 189 = .ok (.aload_n 1, 1) := dk_43 (dk_at dksX9_dayGoes_7 23 rfl rfl)
theorem dX9_dayGoes_190 : decode cX9_dayGoes 190 = .ok (.bipush 8, 2) := dk_16 8 (dk_at dksX9_dayGoes_8 0 rfl rfl)
theorem dX9_dayGoes_192 : decode cX9_dayGoes 192 = .ok (.iload 5, 2) := dk_21 5 (dk_at dksX9_dayGoes_8 2 rfl rfl)
theorem dX9_dayGoes_194 : decode cX9_dayGoes 194 = .ok (.iadd, 1) := dk_96 (dk_at dksX9_dayGoes_8 4 rfl rfl)
theorem dX9_dayGoes_195 : decode cX9_dayGoes 195 = .ok (.iaload, 1) := dk_46 (dk_at dksX9_dayGoes_8 5 rfl rfl)
theorem dX9_dayGoes_196 : decode cX9_dayGoes 196 = .ok (.ifCond .ne 12, 3) := dk_154 0 12 (dk_at dksX9_dayGoes_8 6 rfl rfl)
theorem dX9_dayGoes_199 : decode cX9_dayGoes 199 = .ok (.iload_n 3, 1) := dk_29 (dk_at dksX9_dayGoes_8 9 rfl rfl)
theorem dX9_dayGoes_200 : decode cX9_dayGoes 200 = .ok (.iconst 3, 1) := dk_6 (dk_at dksX9_dayGoes_8 10 rfl rfl)
theorem dX9_dayGoes_201 : decode cX9_dayGoes 201 = .ok (.if_icmp .ge 7, 3) := dk_162 0 7 (dk_at dksX9_dayGoes_8 11 rfl rfl)
theorem dX9_dayGoes_204 : decode cX9_dayGoes 204 = .ok (.iconst 1, 1) := dk_4 (dk_at dksX9_dayGoes_8 14 rfl rfl)
theorem dX9_dayGoes_205 : decode cX9_dayGoes 205 = .ok (.goto 4, 3) := dk_167 0 4 (dk_at dksX9_dayGoes_8 15 rfl rfl)
theorem dX9_dayGoes_208 : decode cX9_dayGoes 208 = .ok (.iconst 0, 1) := dk_3 (dk_at dksX9_dayGoes_8 18 rfl rfl)
theorem dX9_dayGoes_209 : decode cX9_dayGoes 209 = .ok (.istore 6, 2) := dk_54 6 (dk_at dksX9_dayGoes_8 19 rfl rfl)
theorem dX9_dayGoes_211 : decode cX9_dayGoes 211 = .ok (.aload_n 1, 1) := dk_43 (dk_at dksX9_dayGoes_8 21 rfl rfl)
theorem dX9_dayGoes_212 : decode cX9_dayGoes 212 = .ok (.iload 5, 2) := dk_21 5 (dk_at dksX9_dayGoes_8 22 rfl rfl)
theorem dX9_dayGoes_214 : decode cX9_dayGoes 214 = .ok (.iload 6, 2) := dk_21 6 (dk_at dksX9_dayGoes_9 0 rfl rfl)
theorem dX9_dayGoes_216 : decode cX9_dayGoes 216 = .ok (.ifCond .eq 19, 3) := dk_153 0 19 (dk_at dksX9_dayGoes_9 2 rfl rfl)
theorem dX9_dayGoes_219 : decode cX9_dayGoes 219 = .ok (.bipush 99, 2) := dk_16 99 (dk_at dksX9_dayGoes_9 5 rfl rfl)
theorem dX9_dayGoes_221 : decode cX9_dayGoes 221 = .ok (.aload_n 1, 1) := dk_43 (dk_at dksX9_dayGoes_9 7 rfl rfl)
theorem dX9_dayGoes_222 : decode cX9_dayGoes 222 = .ok (.iload 5, 2) := dk_21 5 (dk_at dksX9_dayGoes_9 8 rfl rfl)
theorem dX9_dayGoes_224 : decode cX9_dayGoes 224 = .ok (.iaload, 1) := dk_46 (dk_at dksX9_dayGoes_9 10 rfl rfl)
theorem dX9_dayGoes_225 : decode cX9_dayGoes 225 = .ok (.iconst 3, 1) := dk_6 (dk_at dksX9_dayGoes_9 11 rfl rfl)
theorem dX9_dayGoes_226 : decode cX9_dayGoes 226 = .ok (.iadd, 1) := dk_96 (dk_at dksX9_dayGoes_9 12 rfl rfl)
theorem dX9_dayGoes_227 : decode cX9_dayGoes 227 = .ok (.iload_n 3, 1) := dk_29 (dk_at dksX9_dayGoes_9 13 rfl rfl)
theorem dX9_dayGoes_228 : decode cX9_dayGoes 228 = .ok (.isub, 1) := dk_100 (dk_at dksX9_dayGoes_9 14 rfl rfl)
theorem dX9_dayGoes_229 : decode cX9_dayGoes 229 = .ok (.invokestatic 145, 3) := dk_184 0 145 (dk_at dksX9_dayGoes_9 15 rfl rfl)
theorem dX9_dayGoes_232 : decode cX9_dayGoes 232 = .ok (.goto 7, 3) := dk_167 0 7 (dk_at dksX9_dayGoes_9 18 rfl rfl)
theorem dX9_dayGoes_235 : decode cX9_dayGoes 235 = .ok (.aload_n 1, 1) := dk_43 (dk_at dksX9_dayGoes_9 21 rfl rfl)
theorem dX9_dayGoes_236 : decode cX9_dayGoes 236 = .ok (.iload 5, 2) := dk_21 5 (dk_at dksX9_dayGoes_9 22 rfl rfl)
theorem dX9_dayGoes_238 : decode cX9_dayGoes 238 = .ok (.iaload, 1) := dk_46 (dk_at dksX9_dayGoes_10 0 rfl rfl)
theorem dX9_dayGoes_239 : decode cX9_dayGoes 239 = .ok (.iastore, 1) := dk_79 (dk_at dksX9_dayGoes_10 1 rfl rfl)
theorem dX9_dayGoes_240 : decode cX9_dayGoes 240 = .ok (.iinc 5 1, 3) := dk_132 5 1 (dk_at dksX9_dayGoes_10 2 rfl rfl)
theorem dX9_dayGoes_243 : decode cX9_dayGoes 243 = .ok (.goto (-63), 3) := dk_167 255 193 (dk_at dksX9_dayGoes_10 5 rfl rfl)
theorem dX9_dayGoes_246 : decode cX9_dayGoes 246 = .ok (.aload_n 1, 1) := dk_43 (dk_at dksX9_dayGoes_10 8 rfl rfl)
theorem dX9_dayGoes_247 : decode cX9_dayGoes 247 = .ok (.bipush 16, 2) := dk_16 16 (dk_at dksX9_dayGoes_10 9 rfl rfl)
theorem dX9_dayGoes_249 : decode cX9_dayGoes 249 = .ok (.iload 4, 2) := dk_21 4 (dk_at dksX9_dayGoes_10 11 rfl rfl)
theorem dX9_dayGoes_251 : decode cX9_dayGoes 251 = .ok (.iconst 3, 1) := dk_6 (dk_at dksX9_dayGoes_10 13 rfl rfl)
theorem dX9_dayGoes_252 : decode cX9_dayGoes 252 = .ok (.if_icmp .ne 19, 3) := dk_160 0 19 (dk_at dksX9_dayGoes_10 14 rfl rfl)
theorem dX9_dayGoes_255 : decode cX9_dayGoes 255 = .ok (.sipush 999, 3) := dk_17 3 231 (dk_at dksX9_dayGoes_10 17 rfl rfl)
theorem dX9_dayGoes_258 : decode cX9_dayGoes 258 = .ok (.aload_n 1, 1) := dk_43 (dk_at dksX9_dayGoes_10 20 rfl rfl)
theorem dX9_dayGoes_259 : decode cX9_dayGoes 259 = .ok (.bipush 16, 2) := dk_16 16 (dk_at dksX9_dayGoes_10 21 rfl rfl)
theorem dX9_dayGoes_261 : decode cX9_dayGoes 261 = .ok (.iaload, 1) := dk_46 (dk_at dksX9_dayGoes_10 23 rfl rfl)
theorem dX9_dayGoes_262 : decode cX9_dayGoes 262 = .ok (.bipush 20, 2) := dk_16 20 (dk_at dksX9_dayGoes_11 0 rfl rfl)
theorem dX9_dayGoes_264 : decode cX9_dayGoes 264 = .ok (.iadd, 1) := dk_96 (dk_at dksX9_dayGoes_11 2 rfl rfl)
theorem dX9_dayGoes_265 : decode cX9_dayGoes 265 = .ok (.invokestatic 145, 3) := dk_184 0 145 (dk_at dksX9_dayGoes_11 3 rfl rfl)
theorem dX9_dayGoes_268 : decode cX9_dayGoes 268 = .ok (.goto 7, 3) := dk_167 0 7 (dk_at dksX9_dayGoes_11 6 rfl rfl)
theorem dX9_dayGoes_271 : decode cX9_dayGoes 271 = .ok (.aload_n 1, 1) := dk_43 (dk_at dksX9_dayGoes_11 9 rfl rfl)
theorem dX9_dayGoes_272 : decode cX9_dayGoes 272 = .ok (.bipush 16, 2) := dk_16 16 (dk_at dksX9_dayGoes_11 10 rfl rfl)
theorem dX9_dayGoes_274 : decode cX9_dayGoes 274 = .ok (.iaload, 1) := dk_46 (dk_at dksX9_dayGoes_11 12 rfl rfl)
theorem dX9_dayGoes_275 : decode cX9_dayGoes 275 = .ok (.iastore, 1) := dk_79 (dk_at dksX9_dayGoes_11 13 rfl rfl)
theorem dX9_dayGoes_276 : decode cX9_dayGoes 276 = .ok (.aload_n 1, 1) := dk_43 (dk_at dksX9_dayGoes_11 14 rfl rfl)
theorem dX9_dayGoes_277 : decode cX9_dayGoes 277 = .ok (.bipush 20, 2) := dk_16 20 (dk_at dksX9_dayGoes_11 15 rfl rfl)
theorem dX9_dayGoes_279 : decode cX9_dayGoes 279 = .ok (.dup2, 1) := dk_92 (dk_at dksX9_dayGoes_11 17 rfl rfl)
theorem dX9_dayGoes_280 : decode cX9_dayGoes 280 = .ok (.iaload, 1) := dk_46 (dk_at dksX9_dayGoes_11 18 rfl rfl)
theorem dX9_dayGoes_281 : decode cX9_dayGoes 281 = .ok (.iconst 1, 1) := dk_4 (dk_at dksX9_dayGoes_11 19 rfl rfl)
theorem dX9_dayGoes_282 : decode cX9_dayGoes 282 = .ok (.iadd, 1) := dk_96 (dk_at dksX9_dayGoes_11 20 rfl rfl)
theorem dX9_dayGoes_283 : decode cX9_dayGoes 283 = .ok (.iastore, 1) := dk_79 (dk_at dksX9_dayGoes_11 21 rfl rfl)
theorem dX9_dayGoes_284 : decode cX9_dayGoes 284 = .ok (.iload_n 2, 1) := dk_28 (dk_at dksX9_dayGoes_11 22 rfl rfl)
theorem dX9_dayGoes_285 : decode cX9_dayGoes 285 = .ok (.ireturn, 1) := dk_172 (dk_at dksX9_dayGoes_11 23 rfl rfl)
abbrev cX9_canGive : ByteArray := prog_15_method_47_code
def yX9_canGive : MethodName := ⟨RX9, "canGive", "([I)Z"⟩
def dkwX9_canGive_1 : List UInt8 := [16, 17, 46, 104, 96, 161, 0, 7, 4, 167, 0, 4, 3, 172]
abbrev dktX9_canGive_1 : List UInt8 := dkwX9_canGive_1 ++ []
def dkwX9_canGive_0 : List UInt8 := [43, 16, 16, 46, 43, 16, 18, 46, 42, 43, 3, 182, 0, 253, 184, 1, 5, 104, 43, 16, 19, 46, 43]
abbrev dktX9_canGive_0 : List UInt8 := dkwX9_canGive_0 ++ dktX9_canGive_1
theorem dksX9_canGive_0 : cX9_canGive.data.toList.drop 0 = dktX9_canGive_0 := by decide +kernel
theorem dksX9_canGive_1 : cX9_canGive.data.toList.drop 23 = dktX9_canGive_1 := dk_seg dksX9_canGive_0 23 rfl rfl
theorem dX9_canGive_0 : decode cX9_canGive 0 = .ok (.aload_n 1, 1) := dk_43 (dk_at dksX9_canGive_0 0 rfl rfl)
theorem dX9_canGive_1 : decode cX9_canGive 1 = .ok (.bipush 16, 2) := dk_16 16 (dk_at dksX9_canGive_0 1 rfl rfl)
theorem dX9_canGive_3 : decode cX9_canGive 3 = .ok (.iaload, 1) := dk_46 (dk_at dksX9_canGive_0 3 rfl rfl)
theorem dX9_canGive_4 : decode cX9_canGive 4 = .ok (.aload_n 1, 1) := dk_43 (dk_at dksX9_canGive_0 4 rfl rfl)
theorem dX9_canGive_5 : decode cX9_canGive 5 = .ok (.bipush 18, 2) := dk_16 18 (dk_at dksX9_canGive_0 5 rfl rfl)
theorem dX9_canGive_7 : decode cX9_canGive 7 = .ok (.iaload, 1) := dk_46 (dk_at dksX9_canGive_0 7 rfl rfl)
theorem dX9_canGive_8 : decode cX9_canGive 8 = .ok (.aload_n 0, 1) := dk_42 (dk_at dksX9_canGive_0 8 rfl rfl)
theorem dX9_canGive_9 : decode cX9_canGive 9 = .ok (.aload_n 1, 1) := dk_43 (dk_at dksX9_canGive_0 9 rfl rfl)
theorem dX9_canGive_10 : decode cX9_canGive 10 = .ok (.iconst 0, 1) := dk_3 (dk_at dksX9_canGive_0 10 rfl rfl)
theorem dX9_canGive_11 : decode cX9_canGive 11 = .ok (.invokevirtual 253, 3) := dk_182 0 253 (dk_at dksX9_canGive_0 11 rfl rfl)
theorem dX9_canGive_14 : decode cX9_canGive 14 = .ok (.invokestatic 261, 3) := dk_184 1 5 (dk_at dksX9_canGive_0 14 rfl rfl)
theorem dX9_canGive_17 : decode cX9_canGive 17 = .ok (.imul, 1) := dk_104 (dk_at dksX9_canGive_0 17 rfl rfl)
theorem dX9_canGive_18 : decode cX9_canGive 18 = .ok (.aload_n 1, 1) := dk_43 (dk_at dksX9_canGive_0 18 rfl rfl)
theorem dX9_canGive_19 : decode cX9_canGive 19 = .ok (.bipush 19, 2) := dk_16 19 (dk_at dksX9_canGive_0 19 rfl rfl)
theorem dX9_canGive_21 : decode cX9_canGive 21 = .ok (.iaload, 1) := dk_46 (dk_at dksX9_canGive_0 21 rfl rfl)
theorem dX9_canGive_22 : decode cX9_canGive 22 = .ok (.aload_n 1, 1) := dk_43 (dk_at dksX9_canGive_0 22 rfl rfl)
theorem dX9_canGive_23 : decode cX9_canGive 23 = .ok (.bipush 17, 2) := dk_16 17 (dk_at dksX9_canGive_1 0 rfl rfl)
theorem dX9_canGive_25 : decode cX9_canGive 25 = .ok (.iaload, 1) := dk_46 (dk_at dksX9_canGive_1 2 rfl rfl)
theorem dX9_canGive_26 : decode cX9_canGive 26 = .ok (.imul, 1) := dk_104 (dk_at dksX9_canGive_1 3 rfl rfl)
theorem dX9_canGive_27 : decode cX9_canGive 27 = .ok (.iadd, 1) := dk_96 (dk_at dksX9_canGive_1 4 rfl rfl)
theorem dX9_canGive_28 : decode cX9_canGive 28 = .ok (.if_icmp .lt 7, 3) := dk_161 0 7 (dk_at dksX9_canGive_1 5 rfl rfl)
theorem dX9_canGive_31 : decode cX9_canGive 31 = .ok (.iconst 1, 1) := dk_4 (dk_at dksX9_canGive_1 8 rfl rfl)
theorem dX9_canGive_32 : decode cX9_canGive 32 = .ok (.goto 4, 3) := dk_167 0 4 (dk_at dksX9_canGive_1 9 rfl rfl)
theorem dX9_canGive_35 : decode cX9_canGive 35 = .ok (.iconst 0, 1) := dk_3 (dk_at dksX9_canGive_1 12 rfl rfl)
theorem dX9_canGive_36 : decode cX9_canGive 36 = .ok (.ireturn, 1) := dk_172 (dk_at dksX9_canGive_1 13 rfl rfl)
abbrev cX9_ruled : ByteArray := prog_15_method_35_code
def yX9_ruled : MethodName := ⟨RX9, "ruled", "()I"⟩
def dkwX9_ruled_7 : List UInt8 := [4, 167, 0, 4, 3, 184, 0, 154, 104, 96, 104, 16, 10, 108, 167, 0, 9, 42, 180, 0, 60, 3, 46, 172]
abbrev dktX9_ruled_7 : List UInt8 := dkwX9_ruled_7 ++ []
def dkwX9_ruled_6 : List UInt8 := [180, 0, 63, 5, 46, 5, 42, 180, 0, 63, 6, 46, 104, 96, 7, 42, 180, 0, 63, 4, 46, 154, 0, 7]
abbrev dktX9_ruled_6 : List UInt8 := dkwX9_ruled_6 ++ dktX9_ruled_7
def dkwX9_ruled_5 : List UInt8 := [132, 1, 1, 132, 2, 1, 167, 255, 138, 42, 180, 0, 239, 154, 0, 51, 42, 180, 0, 63, 3, 46, 42]
abbrev dktX9_ruled_5 : List UInt8 := dkwX9_ruled_5 ++ dktX9_ruled_6
def dkwX9_ruled_4 : List UInt8 := [27, 29, 17, 3, 232, 161, 0, 16, 42, 180, 0, 63, 29, 17, 3, 232, 100, 46, 167, 0, 4, 29, 79]
abbrev dktX9_ruled_4 : List UInt8 := dkwX9_ruled_4 ++ dktX9_ruled_5
def dkwX9_ruled_3 : List UInt8 := [180, 0, 60, 27, 4, 100, 46, 42, 180, 0, 60, 27, 46, 184, 0, 249, 79, 167, 0, 33, 42, 180, 0, 60]
abbrev dktX9_ruled_3 : List UInt8 := dkwX9_ruled_3 ++ dktX9_ruled_4
def dkwX9_ruled_2 : List UInt8 := [17, 7, 208, 161, 0, 39, 132, 1, 255, 42, 180, 0, 60, 27, 4, 100, 29, 17, 7, 208, 100, 42]
abbrev dktX9_ruled_2 : List UInt8 := dkwX9_ruled_2 ++ dktX9_ruled_3
def dkwX9_ruled_1 : List UInt8 := [160, 0, 23, 42, 180, 0, 60, 27, 4, 100, 42, 180, 0, 60, 27, 4, 100, 46, 116, 79, 167, 0, 76, 29]
abbrev dktX9_ruled_1 : List UInt8 := dkwX9_ruled_1 ++ dktX9_ruled_2
def dkwX9_ruled_0 : List UInt8 := [3, 60, 3, 61, 28, 42, 180, 0, 239, 162, 0, 116, 42, 180, 0, 54, 28, 46, 62, 29, 17, 11, 184]
abbrev dktX9_ruled_0 : List UInt8 := dkwX9_ruled_0 ++ dktX9_ruled_1
theorem dksX9_ruled_0 : cX9_ruled.data.toList.drop 0 = dktX9_ruled_0 := by decide +kernel
theorem dksX9_ruled_1 : cX9_ruled.data.toList.drop 23 = dktX9_ruled_1 := dk_seg dksX9_ruled_0 23 rfl rfl
theorem dksX9_ruled_2 : cX9_ruled.data.toList.drop 47 = dktX9_ruled_2 := dk_seg dksX9_ruled_1 24 rfl rfl
theorem dksX9_ruled_3 : cX9_ruled.data.toList.drop 69 = dktX9_ruled_3 := dk_seg dksX9_ruled_2 22 rfl rfl
theorem dksX9_ruled_4 : cX9_ruled.data.toList.drop 93 = dktX9_ruled_4 := dk_seg dksX9_ruled_3 24 rfl rfl
theorem dksX9_ruled_5 : cX9_ruled.data.toList.drop 116 = dktX9_ruled_5 := dk_seg dksX9_ruled_4 23 rfl rfl
theorem dksX9_ruled_6 : cX9_ruled.data.toList.drop 139 = dktX9_ruled_6 := dk_seg dksX9_ruled_5 23 rfl rfl
theorem dksX9_ruled_7 : cX9_ruled.data.toList.drop 163 = dktX9_ruled_7 := dk_seg dksX9_ruled_6 24 rfl rfl
theorem dX9_ruled_0 : decode cX9_ruled 0 = .ok (.iconst 0, 1) := dk_3 (dk_at dksX9_ruled_0 0 rfl rfl)
theorem dX9_ruled_1 : decode cX9_ruled 1 = .ok (.istore_n 1, 1) := dk_60 (dk_at dksX9_ruled_0 1 rfl rfl)
theorem dX9_ruled_2 : decode cX9_ruled 2 = .ok (.iconst 0, 1) := dk_3 (dk_at dksX9_ruled_0 2 rfl rfl)
theorem dX9_ruled_3 : decode cX9_ruled 3 = .ok (.istore_n 2, 1) := dk_61 (dk_at dksX9_ruled_0 3 rfl rfl)
theorem dX9_ruled_4 : decode cX9_ruled 4 = .ok (.iload_n 2, 1) := dk_28 (dk_at dksX9_ruled_0 4 rfl rfl)
theorem dX9_ruled_5 : decode cX9_ruled 5 = .ok (.aload_n 0, 1) := dk_42 (dk_at dksX9_ruled_0 5 rfl rfl)
theorem dX9_ruled_6 : decode cX9_ruled 6 = .ok (.getfield 239, 3) := dk_180 0 239 (dk_at dksX9_ruled_0 6 rfl rfl)
theorem dX9_ruled_9 : decode cX9_ruled 9 = .ok (.if_icmp .ge 116, 3) := dk_162 0 116 (dk_at dksX9_ruled_0 9 rfl rfl)
theorem dX9_ruled_12 : decode cX9_ruled 12 = .ok (.aload_n 0, 1) := dk_42 (dk_at dksX9_ruled_0 12 rfl rfl)
theorem dX9_ruled_13 : decode cX9_ruled 13 = .ok (.getfield 54, 3) := dk_180 0 54 (dk_at dksX9_ruled_0 13 rfl rfl)
theorem dX9_ruled_16 : decode cX9_ruled 16 = .ok (.iload_n 2, 1) := dk_28 (dk_at dksX9_ruled_0 16 rfl rfl)
theorem dX9_ruled_17 : decode cX9_ruled 17 = .ok (.iaload, 1) := dk_46 (dk_at dksX9_ruled_0 17 rfl rfl)
theorem dX9_ruled_18 : decode cX9_ruled 18 = .ok (.istore_n 3, 1) := dk_62 (dk_at dksX9_ruled_0 18 rfl rfl)
theorem dX9_ruled_19 : decode cX9_ruled 19 = .ok (.iload_n 3, 1) := dk_29 (dk_at dksX9_ruled_0 19 rfl rfl)
theorem dX9_ruled_20 : decode cX9_ruled 20 = .ok (.sipush 3000, 3) := dk_17 11 184 (dk_at dksX9_ruled_0 20 rfl rfl)
theorem dX9_ruled_23 : decode cX9_ruled 23 = .ok (.if_icmp .ne 23, 3) := dk_160 0 23 (dk_at dksX9_ruled_1 0 rfl rfl)
theorem dX9_ruled_26 : decode cX9_ruled 26 = .ok (.aload_n 0, 1) := dk_42 (dk_at dksX9_ruled_1 3 rfl rfl)
theorem dX9_ruled_27 : decode cX9_ruled 27 = .ok (.getfield 60, 3) := dk_180 0 60 (dk_at dksX9_ruled_1 4 rfl rfl)
theorem dX9_ruled_30 : decode cX9_ruled 30 = .ok (.iload_n 1, 1) := dk_27 (dk_at dksX9_ruled_1 7 rfl rfl)
theorem dX9_ruled_31 : decode cX9_ruled 31 = .ok (.iconst 1, 1) := dk_4 (dk_at dksX9_ruled_1 8 rfl rfl)
theorem dX9_ruled_32 : decode cX9_ruled 32 = .ok (.isub, 1) := dk_100 (dk_at dksX9_ruled_1 9 rfl rfl)
theorem dX9_ruled_33 : decode cX9_ruled 33 = .ok (.aload_n 0, 1) := dk_42 (dk_at dksX9_ruled_1 10 rfl rfl)
theorem dX9_ruled_34 : decode cX9_ruled 34 = .ok (.getfield 60, 3) := dk_180 0 60 (dk_at dksX9_ruled_1 11 rfl rfl)
theorem dX9_ruled_37 : decode cX9_ruled 37 = .ok (.iload_n 1, 1) := dk_27 (dk_at dksX9_ruled_1 14 rfl rfl)
theorem dX9_ruled_38 : decode cX9_ruled 38 = .ok (.iconst 1, 1) := dk_4 (dk_at dksX9_ruled_1 15 rfl rfl)
theorem dX9_ruled_39 : decode cX9_ruled 39 = .ok (.isub, 1) := dk_100 (dk_at dksX9_ruled_1 16 rfl rfl)
theorem dX9_ruled_40 : decode cX9_ruled 40 = .ok (.iaload, 1) := dk_46 (dk_at dksX9_ruled_1 17 rfl rfl)
theorem dX9_ruled_41 : decode cX9_ruled 41 = .ok (.ineg, 1) := dk_116 (dk_at dksX9_ruled_1 18 rfl rfl)
theorem dX9_ruled_42 : decode cX9_ruled 42 = .ok (.iastore, 1) := dk_79 (dk_at dksX9_ruled_1 19 rfl rfl)
theorem dX9_ruled_43 : decode cX9_ruled 43 = .ok (.goto 76, 3) := dk_167 0 76 (dk_at dksX9_ruled_1 20 rfl rfl)
theorem dX9_ruled_46 : decode cX9_ruled 46 = .ok (.iload_n 3, 1) := dk_29 (dk_at dksX9_ruled_1 23 rfl rfl)
theorem dX9_ruled_47 : decode cX9_ruled 47 = .ok (.sipush 2000, 3) := dk_17 7 208 (dk_at dksX9_ruled_2 0 rfl rfl)
theorem dX9_ruled_50 : decode cX9_ruled 50 = .ok (.if_icmp .lt 39, 3) := dk_161 0 39 (dk_at dksX9_ruled_2 3 rfl rfl)
theorem dX9_ruled_53 : decode cX9_ruled 53 = .ok (.iinc 1 (-1), 3) := dk_132 1 255 (dk_at dksX9_ruled_2 6 rfl rfl)
theorem dX9_ruled_56 : decode cX9_ruled 56 = .ok (.aload_n 0, 1) := dk_42 (dk_at dksX9_ruled_2 9 rfl rfl)
theorem dX9_ruled_57 : decode cX9_ruled 57 = .ok (.getfield 60, 3) := dk_180 0 60 (dk_at dksX9_ruled_2 10 rfl rfl)
theorem dX9_ruled_60 : decode cX9_ruled 60 = .ok (.iload_n 1, 1) := dk_27 (dk_at dksX9_ruled_2 13 rfl rfl)
theorem dX9_ruled_61 : decode cX9_ruled 61 = .ok (.iconst 1, 1) := dk_4 (dk_at dksX9_ruled_2 14 rfl rfl)
theorem dX9_ruled_62 : decode cX9_ruled 62 = .ok (.isub, 1) := dk_100 (dk_at dksX9_ruled_2 15 rfl rfl)
theorem dX9_ruled_63 : decode cX9_ruled 63 = .ok (.iload_n 3, 1) := dk_29 (dk_at dksX9_ruled_2 16 rfl rfl)
theorem dX9_ruled_64 : decode cX9_ruled 64 = .ok (.sipush 2000, 3) := dk_17 7 208 (dk_at dksX9_ruled_2 17 rfl rfl)
theorem dX9_ruled_67 : decode cX9_ruled 67 = .ok (.isub, 1) := dk_100 (dk_at dksX9_ruled_2 20 rfl rfl)
theorem dX9_ruled_68 : decode cX9_ruled 68 = .ok (.aload_n 0, 1) := dk_42 (dk_at dksX9_ruled_2 21 rfl rfl)
theorem dX9_ruled_69 : decode cX9_ruled 69 = .ok (.getfield 60, 3) := dk_180 0 60 (dk_at dksX9_ruled_3 0 rfl rfl)
theorem dX9_ruled_72 : decode cX9_ruled 72 = .ok (.iload_n 1, 1) := dk_27 (dk_at dksX9_ruled_3 3 rfl rfl)
theorem dX9_ruled_73 : decode cX9_ruled 73 = .ok (.iconst 1, 1) := dk_4 (dk_at dksX9_ruled_3 4 rfl rfl)
theorem dX9_ruled_74 : decode cX9_ruled 74 = .ok (.isub, 1) := dk_100 (dk_at dksX9_ruled_3 5 rfl rfl)
theorem dX9_ruled_75 : decode cX9_ruled 75 = .ok (.iaload, 1) := dk_46 (dk_at dksX9_ruled_3 6 rfl rfl)
theorem dX9_ruled_76 : decode cX9_ruled 76 = .ok (.aload_n 0, 1) := dk_42 (dk_at dksX9_ruled_3 7 rfl rfl)
theorem dX9_ruled_77 : decode cX9_ruled 77 = .ok (.getfield 60, 3) := dk_180 0 60 (dk_at dksX9_ruled_3 8 rfl rfl)
theorem dX9_ruled_80 : decode cX9_ruled 80 = .ok (.iload_n 1, 1) := dk_27 (dk_at dksX9_ruled_3 11 rfl rfl)
theorem dX9_ruled_81 : decode cX9_ruled 81 = .ok (.iaload, 1) := dk_46 (dk_at dksX9_ruled_3 12 rfl rfl)
theorem dX9_ruled_82 : decode cX9_ruled 82 = .ok (.invokestatic 249, 3) := dk_184 0 249 (dk_at dksX9_ruled_3 13 rfl rfl)
theorem dX9_ruled_85 : decode cX9_ruled 85 = .ok (.iastore, 1) := dk_79 (dk_at dksX9_ruled_3 16 rfl rfl)
theorem dX9_ruled_86 : decode cX9_ruled 86 = .ok (.goto 33, 3) := dk_167 0 33 (dk_at dksX9_ruled_3 17 rfl rfl)
theorem dX9_ruled_89 : decode cX9_ruled 89 = .ok (.aload_n 0, 1) := dk_42 (dk_at dksX9_ruled_3 20 rfl rfl)
theorem dX9_ruled_90 : decode cX9_ruled 90 = .ok (.getfield 60, 3) := dk_180 0 60 (dk_at dksX9_ruled_3 21 rfl rfl)
theorem dX9_ruled_93 : decode cX9_ruled 93 = .ok (.iload_n 1, 1) := dk_27 (dk_at dksX9_ruled_4 0 rfl rfl)
theorem dX9_ruled_94 : decode cX9_ruled 94 = .ok (.iload_n 3, 1) := dk_29 (dk_at dksX9_ruled_4 1 rfl rfl)
theorem dX9_ruled_95 : decode cX9_ruled 95 = .ok (.sipush 1000, 3) := dk_17 3 232 (dk_at dksX9_ruled_4 2 rfl rfl)
theorem dX9_ruled_98 : decode cX9_ruled 98 = .ok (.if_icmp .lt 16, 3) := dk_161 0 16 (dk_at dksX9_ruled_4 5 rfl rfl)
theorem dX9_ruled_101 : decode cX9_ruled 101 = .ok (.aload_n 0, 1) := dk_42 (dk_at dksX9_ruled_4 8 rfl rfl)
theorem dX9_ruled_102 : decode cX9_ruled 102 = .ok (.getfield 63, 3) := dk_180 0 63 (dk_at dksX9_ruled_4 9 rfl rfl)
theorem dX9_ruled_105 : decode cX9_ruled 105 = .ok (.iload_n 3, 1) := dk_29 (dk_at dksX9_ruled_4 12 rfl rfl)
theorem dX9_ruled_106 : decode cX9_ruled 106 = .ok (.sipush 1000, 3) := dk_17 3 232 (dk_at dksX9_ruled_4 13 rfl rfl)
theorem dX9_ruled_109 : decode cX9_ruled 109 = .ok (.isub, 1) := dk_100 (dk_at dksX9_ruled_4 16 rfl rfl)
theorem dX9_ruled_110 : decode cX9_ruled 110 = .ok (.iaload, 1) := dk_46 (dk_at dksX9_ruled_4 17 rfl rfl)
theorem dX9_ruled_111 : decode cX9_ruled 111 = .ok (.goto 4, 3) := dk_167 0 4 (dk_at dksX9_ruled_4 18 rfl rfl)
theorem dX9_ruled_114 : decode cX9_ruled 114 = .ok (.iload_n 3, 1) := dk_29 (dk_at dksX9_ruled_4 21 rfl rfl)
theorem dX9_ruled_115 : decode cX9_ruled 115 = .ok (.iastore, 1) := dk_79 (dk_at dksX9_ruled_4 22 rfl rfl)
theorem dX9_ruled_116 : decode cX9_ruled 116 = .ok (.iinc 1 1, 3) := dk_132 1 1 (dk_at dksX9_ruled_5 0 rfl rfl)
theorem dX9_ruled_119 : decode cX9_ruled 119 = .ok (.iinc 2 1, 3) := dk_132 2 1 (dk_at dksX9_ruled_5 3 rfl rfl)
theorem dX9_ruled_122 : decode cX9_ruled 122 = .ok (.goto (-118), 3) := dk_167 255 138 (dk_at dksX9_ruled_5 6 rfl rfl)
theorem dX9_ruled_125 : decode cX9_ruled 125 = .ok (.aload_n 0, 1) := dk_42 (dk_at dksX9_ruled_5 9 rfl rfl)
theorem dX9_ruled_126 : decode cX9_ruled 126 = .ok (.getfield 239, 3) := dk_180 0 239 (dk_at dksX9_ruled_5 10 rfl rfl)
theorem dX9_ruled_129 : decode cX9_ruled 129 = .ok (.ifCond .ne 51, 3) := dk_154 0 51 (dk_at dksX9_ruled_5 13 rfl rfl)
theorem dX9_ruled_132 : decode cX9_ruled 132 = .ok (.aload_n 0, 1) := dk_42 (dk_at dksX9_ruled_5 16 rfl rfl)
theorem dX9_ruled_133 : decode cX9_ruled 133 = .ok (.getfield 63, 3) := dk_180 0 63 (dk_at dksX9_ruled_5 17 rfl rfl)
theorem dX9_ruled_136 : decode cX9_ruled 136 = .ok (.iconst 0, 1) := dk_3 (dk_at dksX9_ruled_5 20 rfl rfl)
theorem dX9_ruled_137 : decode cX9_ruled 137 = .ok (.iaload, 1) := dk_46 (dk_at dksX9_ruled_5 21 rfl rfl)
theorem dX9_ruled_138 : decode cX9_ruled 138 = .ok (.aload_n 0, 1) := dk_42 (dk_at dksX9_ruled_5 22 rfl rfl)
theorem dX9_ruled_139 : decode cX9_ruled 139 = .ok (.getfield 63, 3) := dk_180 0 63 (dk_at dksX9_ruled_6 0 rfl rfl)
theorem dX9_ruled_142 : decode cX9_ruled 142 = .ok (.iconst 2, 1) := dk_5 (dk_at dksX9_ruled_6 3 rfl rfl)
theorem dX9_ruled_143 : decode cX9_ruled 143 = .ok (.iaload, 1) := dk_46 (dk_at dksX9_ruled_6 4 rfl rfl)
theorem dX9_ruled_144 : decode cX9_ruled 144 = .ok (.iconst 2, 1) := dk_5 (dk_at dksX9_ruled_6 5 rfl rfl)
theorem dX9_ruled_145 : decode cX9_ruled 145 = .ok (.aload_n 0, 1) := dk_42 (dk_at dksX9_ruled_6 6 rfl rfl)
theorem dX9_ruled_146 : decode cX9_ruled 146 = .ok (.getfield 63, 3) := dk_180 0 63 (dk_at dksX9_ruled_6 7 rfl rfl)
theorem dX9_ruled_149 : decode cX9_ruled 149 = .ok (.iconst 3, 1) := dk_6 (dk_at dksX9_ruled_6 10 rfl rfl)
theorem dX9_ruled_150 : decode cX9_ruled 150 = .ok (.iaload, 1) := dk_46 (dk_at dksX9_ruled_6 11 rfl rfl)
theorem dX9_ruled_151 : decode cX9_ruled 151 = .ok (.imul, 1) := dk_104 (dk_at dksX9_ruled_6 12 rfl rfl)
theorem dX9_ruled_152 : decode cX9_ruled 152 = .ok (.iadd, 1) := dk_96 (dk_at dksX9_ruled_6 13 rfl rfl)
theorem dX9_ruled_153 : decode cX9_ruled 153 = .ok (.iconst 4, 1) := dk_7 (dk_at dksX9_ruled_6 14 rfl rfl)
theorem dX9_ruled_154 : decode cX9_ruled 154 = .ok (.aload_n 0, 1) := dk_42 (dk_at dksX9_ruled_6 15 rfl rfl)
theorem dX9_ruled_155 : decode cX9_ruled 155 = .ok (.getfield 63, 3) := dk_180 0 63 (dk_at dksX9_ruled_6 16 rfl rfl)
theorem dX9_ruled_158 : decode cX9_ruled 158 = .ok (.iconst 1, 1) := dk_4 (dk_at dksX9_ruled_6 19 rfl rfl)
theorem dX9_ruled_159 : decode cX9_ruled 159 = .ok (.iaload, 1) := dk_46 (dk_at dksX9_ruled_6 20 rfl rfl)
theorem dX9_ruled_160 : decode cX9_ruled 160 = .ok (.ifCond .ne 7, 3) := dk_154 0 7 (dk_at dksX9_ruled_6 21 rfl rfl)
theorem dX9_ruled_163 : decode cX9_ruled 163 = .ok (.iconst 1, 1) := dk_4 (dk_at dksX9_ruled_7 0 rfl rfl)
theorem dX9_ruled_164 : decode cX9_ruled 164 = .ok (.goto 4, 3) := dk_167 0 4 (dk_at dksX9_ruled_7 1 rfl rfl)
theorem dX9_ruled_167 : decode cX9_ruled 167 = .ok (.iconst 0, 1) := dk_3 (dk_at dksX9_ruled_7 4 rfl rfl)
theorem dX9_ruled_168 : decode cX9_ruled 168 = .ok (.invokestatic 154, 3) := dk_184 0 154 (dk_at dksX9_ruled_7 5 rfl rfl)
theorem dX9_ruled_171 : decode cX9_ruled 171 = .ok (.imul, 1) := dk_104 (dk_at dksX9_ruled_7 8 rfl rfl)
theorem dX9_ruled_172 : decode cX9_ruled 172 = .ok (.iadd, 1) := dk_96 (dk_at dksX9_ruled_7 9 rfl rfl)
theorem dX9_ruled_173 : decode cX9_ruled 173 = .ok (.imul, 1) := dk_104 (dk_at dksX9_ruled_7 10 rfl rfl)
theorem dX9_ruled_174 : decode cX9_ruled 174 = .ok (.bipush 10, 2) := dk_16 10 (dk_at dksX9_ruled_7 11 rfl rfl)
theorem dX9_ruled_176 : decode cX9_ruled 176 = .ok (.idiv, 1) := dk_108 (dk_at dksX9_ruled_7 13 rfl rfl)
theorem dX9_ruled_177 : decode cX9_ruled 177 = .ok (.goto 9, 3) := dk_167 0 9 (dk_at dksX9_ruled_7 14 rfl rfl)
theorem dX9_ruled_180 : decode cX9_ruled 180 = .ok (.aload_n 0, 1) := dk_42 (dk_at dksX9_ruled_7 17 rfl rfl)
theorem dX9_ruled_181 : decode cX9_ruled 181 = .ok (.getfield 60, 3) := dk_180 0 60 (dk_at dksX9_ruled_7 18 rfl rfl)
theorem dX9_ruled_184 : decode cX9_ruled 184 = .ok (.iconst 0, 1) := dk_3 (dk_at dksX9_ruled_7 21 rfl rfl)
theorem dX9_ruled_185 : decode cX9_ruled 185 = .ok (.iaload, 1) := dk_46 (dk_at dksX9_ruled_7 22 rfl rfl)
theorem dX9_ruled_186 : decode cX9_ruled 186 = .ok (.ireturn, 1) := dk_172 (dk_at dksX9_ruled_7 23 rfl rfl)
abbrev cX9_worked : ByteArray := prog_15_method_34_code
def yX9_worked : MethodName := ⟨RX9, "worked", "(III)I"⟩
def dkwX9_worked_4 : List UInt8 := [100, 172, 27, 28, 104, 172, 28, 154, 0, 7, 3, 167, 0, 6, 27, 28, 108, 172]
abbrev dktX9_worked_4 : List UInt8 := dkwX9_worked_4 ++ []
def dkwX9_worked_3 : List UInt8 := [184, 0, 154, 172, 27, 28, 160, 0, 7, 4, 167, 0, 4, 3, 184, 0, 154, 172, 27, 28, 96, 172, 27, 28]
abbrev dktX9_worked_3 : List UInt8 := dkwX9_worked_3 ++ dktX9_worked_4
def dkwX9_worked_2 : List UInt8 := [27, 28, 162, 0, 7, 4, 167, 0, 4, 3, 184, 0, 154, 172, 27, 28, 164, 0, 7, 4, 167, 0, 4, 3]
abbrev dktX9_worked_2 : List UInt8 := dkwX9_worked_2 ++ dktX9_worked_3
def dkwX9_worked_1 : List UInt8 := [170, 0, 0, 0, 0, 0, 93, 0, 0, 0, 0, 0, 0, 0, 5, 0, 0, 0, 39, 0, 0, 0, 53, 0, 0, 0, 67, 0, 0, 0, 81, 0, 0, 0, 85, 0, 0, 0, 89]
abbrev dktX9_worked_1 : List UInt8 := dkwX9_worked_1 ++ dktX9_worked_2
def dkwX9_worked_0 : List UInt8 := [26]
abbrev dktX9_worked_0 : List UInt8 := dkwX9_worked_0 ++ dktX9_worked_1
theorem dksX9_worked_0 : cX9_worked.data.toList.drop 0 = dktX9_worked_0 := by decide +kernel
theorem dksX9_worked_1 : cX9_worked.data.toList.drop 1 = dktX9_worked_1 := dk_seg dksX9_worked_0 1 rfl rfl
theorem dksX9_worked_2 : cX9_worked.data.toList.drop 40 = dktX9_worked_2 := dk_seg dksX9_worked_1 39 rfl rfl
theorem dksX9_worked_3 : cX9_worked.data.toList.drop 64 = dktX9_worked_3 := dk_seg dksX9_worked_2 24 rfl rfl
theorem dksX9_worked_4 : cX9_worked.data.toList.drop 88 = dktX9_worked_4 := dk_seg dksX9_worked_3 24 rfl rfl
theorem dX9_worked_0 : decode cX9_worked 0 = .ok (.iload_n 0, 1) := dk_26 (dk_at dksX9_worked_0 0 rfl rfl)
theorem dX9_worked_1 : decode cX9_worked 1 = .ok (.tableswitch 93 0 5 #[39, 53, 67, 81, 85, 89], 39) := by decide +kernel
theorem dX9_worked_40 : decode cX9_worked 40 = .ok (.iload_n 1, 1) := dk_27 (dk_at dksX9_worked_2 0 rfl rfl)
theorem dX9_worked_41 : decode cX9_worked 41 = .ok (.iload_n 2, 1) := dk_28 (dk_at dksX9_worked_2 1 rfl rfl)
theorem dX9_worked_42 : decode cX9_worked 42 = .ok (.if_icmp .ge 7, 3) := dk_162 0 7 (dk_at dksX9_worked_2 2 rfl rfl)
theorem dX9_worked_45 : decode cX9_worked 45 = .ok (.iconst 1, 1) := dk_4 (dk_at dksX9_worked_2 5 rfl rfl)
theorem dX9_worked_46 : decode cX9_worked 46 = .ok (.goto 4, 3) := dk_167 0 4 (dk_at dksX9_worked_2 6 rfl rfl)
theorem dX9_worked_49 : decode cX9_worked 49 = .ok (.iconst 0, 1) := dk_3 (dk_at dksX9_worked_2 9 rfl rfl)
theorem dX9_worked_50 : decode cX9_worked 50 = .ok (.invokestatic 154, 3) := dk_184 0 154 (dk_at dksX9_worked_2 10 rfl rfl)
theorem dX9_worked_53 : decode cX9_worked 53 = .ok (.ireturn, 1) := dk_172 (dk_at dksX9_worked_2 13 rfl rfl)
theorem dX9_worked_54 : decode cX9_worked 54 = .ok (.iload_n 1, 1) := dk_27 (dk_at dksX9_worked_2 14 rfl rfl)
theorem dX9_worked_55 : decode cX9_worked 55 = .ok (.iload_n 2, 1) := dk_28 (dk_at dksX9_worked_2 15 rfl rfl)
theorem dX9_worked_56 : decode cX9_worked 56 = .ok (.if_icmp .le 7, 3) := dk_164 0 7 (dk_at dksX9_worked_2 16 rfl rfl)
theorem dX9_worked_59 : decode cX9_worked 59 = .ok (.iconst 1, 1) := dk_4 (dk_at dksX9_worked_2 19 rfl rfl)
theorem dX9_worked_60 : decode cX9_worked 60 = .ok (.goto 4, 3) := dk_167 0 4 (dk_at dksX9_worked_2 20 rfl rfl)
theorem dX9_worked_63 : decode cX9_worked 63 = .ok (.iconst 0, 1) := dk_3 (dk_at dksX9_worked_2 23 rfl rfl)
theorem dX9_worked_64 : decode cX9_worked 64 = .ok (.invokestatic 154, 3) := dk_184 0 154 (dk_at dksX9_worked_3 0 rfl rfl)
theorem dX9_worked_67 : decode cX9_worked 67 = .ok (.ireturn, 1) := dk_172 (dk_at dksX9_worked_3 3 rfl rfl)
theorem dX9_worked_68 : decode cX9_worked 68 = .ok (.iload_n 1, 1) := dk_27 (dk_at dksX9_worked_3 4 rfl rfl)
theorem dX9_worked_69 : decode cX9_worked 69 = .ok (.iload_n 2, 1) := dk_28 (dk_at dksX9_worked_3 5 rfl rfl)
theorem dX9_worked_70 : decode cX9_worked 70 = .ok (.if_icmp .ne 7, 3) := dk_160 0 7 (dk_at dksX9_worked_3 6 rfl rfl)
theorem dX9_worked_73 : decode cX9_worked 73 = .ok (.iconst 1, 1) := dk_4 (dk_at dksX9_worked_3 9 rfl rfl)
theorem dX9_worked_74 : decode cX9_worked 74 = .ok (.goto 4, 3) := dk_167 0 4 (dk_at dksX9_worked_3 10 rfl rfl)
theorem dX9_worked_77 : decode cX9_worked 77 = .ok (.iconst 0, 1) := dk_3 (dk_at dksX9_worked_3 13 rfl rfl)
theorem dX9_worked_78 : decode cX9_worked 78 = .ok (.invokestatic 154, 3) := dk_184 0 154 (dk_at dksX9_worked_3 14 rfl rfl)
theorem dX9_worked_81 : decode cX9_worked 81 = .ok (.ireturn, 1) := dk_172 (dk_at dksX9_worked_3 17 rfl rfl)
theorem dX9_worked_82 : decode cX9_worked 82 = .ok (.iload_n 1, 1) := dk_27 (dk_at dksX9_worked_3 18 rfl rfl)
theorem dX9_worked_83 : decode cX9_worked 83 = .ok (.iload_n 2, 1) := dk_28 (dk_at dksX9_worked_3 19 rfl rfl)
theorem dX9_worked_84 : decode cX9_worked 84 = .ok (.iadd, 1) := dk_96 (dk_at dksX9_worked_3 20 rfl rfl)
theorem dX9_worked_85 : decode cX9_worked 85 = .ok (.ireturn, 1) := dk_172 (dk_at dksX9_worked_3 21 rfl rfl)
theorem dX9_worked_86 : decode cX9_worked 86 = .ok (.iload_n 1, 1) := dk_27 (dk_at dksX9_worked_3 22 rfl rfl)
theorem dX9_worked_87 : decode cX9_worked 87 = .ok (.iload_n 2, 1) := dk_28 (dk_at dksX9_worked_3 23 rfl rfl)
theorem dX9_worked_88 : decode cX9_worked 88 = .ok (.isub, 1) := dk_100 (dk_at dksX9_worked_4 0 rfl rfl)
theorem dX9_worked_89 : decode cX9_worked 89 = .ok (.ireturn, 1) := dk_172 (dk_at dksX9_worked_4 1 rfl rfl)
theorem dX9_worked_90 : decode cX9_worked 90 = .ok (.iload_n 1, 1) := dk_27 (dk_at dksX9_worked_4 2 rfl rfl)
theorem dX9_worked_91 : decode cX9_worked 91 = .ok (.iload_n 2, 1) := dk_28 (dk_at dksX9_worked_4 3 rfl rfl)
theorem dX9_worked_92 : decode cX9_worked 92 = .ok (.imul, 1) := dk_104 (dk_at dksX9_worked_4 4 rfl rfl)
theorem dX9_worked_93 : decode cX9_worked 93 = .ok (.ireturn, 1) := dk_172 (dk_at dksX9_worked_4 5 rfl rfl)
theorem dX9_worked_94 : decode cX9_worked 94 = .ok (.iload_n 2, 1) := dk_28 (dk_at dksX9_worked_4 6 rfl rfl)
theorem dX9_worked_95 : decode cX9_worked 95 = .ok (.ifCond .ne 7, 3) := dk_154 0 7 (dk_at dksX9_worked_4 7 rfl rfl)
theorem dX9_worked_98 : decode cX9_worked 98 = .ok (.iconst 0, 1) := dk_3 (dk_at dksX9_worked_4 10 rfl rfl)
theorem dX9_worked_99 : decode cX9_worked 99 = .ok (.goto 6, 3) := dk_167 0 6 (dk_at dksX9_worked_4 11 rfl rfl)
theorem dX9_worked_102 : decode cX9_worked 102 = .ok (.iload_n 1, 1) := dk_27 (dk_at dksX9_worked_4 14 rfl rfl)
theorem dX9_worked_103 : decode cX9_worked 103 = .ok (.iload_n 2, 1) := dk_28 (dk_at dksX9_worked_4 15 rfl rfl)
theorem dX9_worked_104 : decode cX9_worked 104 = .ok (.idiv, 1) := dk_108 (dk_at dksX9_worked_4 16 rfl rfl)
theorem dX9_worked_105 : decode cX9_worked 105 = .ok (.ireturn, 1) := dk_172 (dk_at dksX9_worked_4 17 rfl rfl)
abbrev cX9_enters : ByteArray := prog_15_method_8_code
def yX9_enters : MethodName := ⟨RX9, "enters", "(J)V"⟩
def dkwX9_enters_0 : List UInt8 := [42, 180, 0, 9, 42, 180, 0, 119, 31, 80, 42, 89, 180, 0, 119, 4, 96, 181, 0, 119, 177]
abbrev dktX9_enters_0 : List UInt8 := dkwX9_enters_0 ++ []
theorem dksX9_enters_0 : cX9_enters.data.toList.drop 0 = dktX9_enters_0 := by decide +kernel
theorem dX9_enters_0 : decode cX9_enters 0 = .ok (.aload_n 0, 1) := dk_42 (dk_at dksX9_enters_0 0 rfl rfl)
theorem dX9_enters_1 : decode cX9_enters 1 = .ok (.getfield 9, 3) := dk_180 0 9 (dk_at dksX9_enters_0 1 rfl rfl)
theorem dX9_enters_4 : decode cX9_enters 4 = .ok (.aload_n 0, 1) := dk_42 (dk_at dksX9_enters_0 4 rfl rfl)
theorem dX9_enters_5 : decode cX9_enters 5 = .ok (.getfield 119, 3) := dk_180 0 119 (dk_at dksX9_enters_0 5 rfl rfl)
theorem dX9_enters_8 : decode cX9_enters 8 = .ok (.lload_n 1, 1) := dk_31 (dk_at dksX9_enters_0 8 rfl rfl)
theorem dX9_enters_9 : decode cX9_enters 9 = .ok (.lastore, 1) := dk_80 (dk_at dksX9_enters_0 9 rfl rfl)
theorem dX9_enters_10 : decode cX9_enters 10 = .ok (.aload_n 0, 1) := dk_42 (dk_at dksX9_enters_0 10 rfl rfl)
theorem dX9_enters_11 : decode cX9_enters 11 = .ok (.dup, 1) := dk_89 (dk_at dksX9_enters_0 11 rfl rfl)
theorem dX9_enters_12 : decode cX9_enters 12 = .ok (.getfield 119, 3) := dk_180 0 119 (dk_at dksX9_enters_0 12 rfl rfl)
theorem dX9_enters_15 : decode cX9_enters 15 = .ok (.iconst 1, 1) := dk_4 (dk_at dksX9_enters_0 15 rfl rfl)
theorem dX9_enters_16 : decode cX9_enters 16 = .ok (.iadd, 1) := dk_96 (dk_at dksX9_enters_0 16 rfl rfl)
theorem dX9_enters_17 : decode cX9_enters 17 = .ok (.putfield 119, 3) := dk_181 0 119 (dk_at dksX9_enters_0 17 rfl rfl)
theorem dX9_enters_20 : decode cX9_enters 20 = .ok (.return_, 1) := dk_177 (dk_at dksX9_enters_0 20 rfl rfl)
abbrev cX9_isMutiny : ByteArray := prog_15_method_39_code
def yX9_isMutiny : MethodName := ⟨RX9, "isMutiny", "([I)Z"⟩
def dkwX9_isMutiny_0 : List UInt8 := [42, 43, 42, 43, 3, 2, 182, 1, 14, 182, 1, 18, 172]
abbrev dktX9_isMutiny_0 : List UInt8 := dkwX9_isMutiny_0 ++ []
theorem dksX9_isMutiny_0 : cX9_isMutiny.data.toList.drop 0 = dktX9_isMutiny_0 := by decide +kernel
theorem dX9_isMutiny_0 : decode cX9_isMutiny 0 = .ok (.aload_n 0, 1) := dk_42 (dk_at dksX9_isMutiny_0 0 rfl rfl)
theorem dX9_isMutiny_1 : decode cX9_isMutiny 1 = .ok (.aload_n 1, 1) := dk_43 (dk_at dksX9_isMutiny_0 1 rfl rfl)
theorem dX9_isMutiny_2 : decode cX9_isMutiny 2 = .ok (.aload_n 0, 1) := dk_42 (dk_at dksX9_isMutiny_0 2 rfl rfl)
theorem dX9_isMutiny_3 : decode cX9_isMutiny 3 = .ok (.aload_n 1, 1) := dk_43 (dk_at dksX9_isMutiny_0 3 rfl rfl)
theorem dX9_isMutiny_4 : decode cX9_isMutiny 4 = .ok (.iconst 0, 1) := dk_3 (dk_at dksX9_isMutiny_0 4 rfl rfl)
theorem dX9_isMutiny_5 : decode cX9_isMutiny 5 = .ok (.iconst (-1), 1) := dk_2 (dk_at dksX9_isMutiny_0 5 rfl rfl)
theorem dX9_isMutiny_6 : decode cX9_isMutiny 6 = .ok (.invokevirtual 270, 3) := dk_182 1 14 (dk_at dksX9_isMutiny_0 6 rfl rfl)
theorem dX9_isMutiny_9 : decode cX9_isMutiny 9 = .ok (.invokevirtual 274, 3) := dk_182 1 18 (dk_at dksX9_isMutiny_0 9 rfl rfl)
theorem dX9_isMutiny_12 : decode cX9_isMutiny 12 = .ok (.ireturn, 1) := dk_172 (dk_at dksX9_isMutiny_0 12 rfl rfl)
abbrev cX9_isMutiny_2 : ByteArray := prog_15_method_38_code
def yX9_isMutiny_2 : MethodName := ⟨RX9, "isMutiny", "([II)Z"⟩
def dkwX9_isMutiny_2_0 : List UInt8 := [5, 28, 184, 1, 5, 104, 42, 43, 3, 182, 0, 253, 184, 1, 5, 164, 0, 7, 4, 167, 0, 4, 3, 172]
abbrev dktX9_isMutiny_2_0 : List UInt8 := dkwX9_isMutiny_2_0 ++ []
theorem dksX9_isMutiny_2_0 : cX9_isMutiny_2.data.toList.drop 0 = dktX9_isMutiny_2_0 := by decide +kernel
theorem dX9_isMutiny_2_0 : decode cX9_isMutiny_2 0 = .ok (.iconst 2, 1) := dk_5 (dk_at dksX9_isMutiny_2_0 0 rfl rfl)
theorem dX9_isMutiny_2_1 : decode cX9_isMutiny_2 1 = .ok (.iload_n 2, 1) := dk_28 (dk_at dksX9_isMutiny_2_0 1 rfl rfl)
theorem dX9_isMutiny_2_2 : decode cX9_isMutiny_2 2 = .ok (.invokestatic 261, 3) := dk_184 1 5 (dk_at dksX9_isMutiny_2_0 2 rfl rfl)
theorem dX9_isMutiny_2_5 : decode cX9_isMutiny_2 5 = .ok (.imul, 1) := dk_104 (dk_at dksX9_isMutiny_2_0 5 rfl rfl)
theorem dX9_isMutiny_2_6 : decode cX9_isMutiny_2 6 = .ok (.aload_n 0, 1) := dk_42 (dk_at dksX9_isMutiny_2_0 6 rfl rfl)
theorem dX9_isMutiny_2_7 : decode cX9_isMutiny_2 7 = .ok (.aload_n 1, 1) := dk_43 (dk_at dksX9_isMutiny_2_0 7 rfl rfl)
theorem dX9_isMutiny_2_8 : decode cX9_isMutiny_2 8 = .ok (.iconst 0, 1) := dk_3 (dk_at dksX9_isMutiny_2_0 8 rfl rfl)
theorem dX9_isMutiny_2_9 : decode cX9_isMutiny_2 9 = .ok (.invokevirtual 253, 3) := dk_182 0 253 (dk_at dksX9_isMutiny_2_0 9 rfl rfl)
theorem dX9_isMutiny_2_12 : decode cX9_isMutiny_2 12 = .ok (.invokestatic 261, 3) := dk_184 1 5 (dk_at dksX9_isMutiny_2_0 12 rfl rfl)
theorem dX9_isMutiny_2_15 : decode cX9_isMutiny_2 15 = .ok (.if_icmp .le 7, 3) := dk_164 0 7 (dk_at dksX9_isMutiny_2_0 15 rfl rfl)
theorem dX9_isMutiny_2_18 : decode cX9_isMutiny_2 18 = .ok (.iconst 1, 1) := dk_4 (dk_at dksX9_isMutiny_2_0 18 rfl rfl)
theorem dX9_isMutiny_2_19 : decode cX9_isMutiny_2 19 = .ok (.goto 4, 3) := dk_167 0 4 (dk_at dksX9_isMutiny_2_0 19 rfl rfl)
theorem dX9_isMutiny_2_22 : decode cX9_isMutiny_2 22 = .ok (.iconst 0, 1) := dk_3 (dk_at dksX9_isMutiny_2_0 22 rfl rfl)
theorem dX9_isMutiny_2_23 : decode cX9_isMutiny_2 23 = .ok (.ireturn, 1) := dk_172 (dk_at dksX9_isMutiny_2_0 23 rfl rfl)
abbrev cX9_fill : ByteArray := prog_15_method_58_code
def yX9_fill : MethodName := ⟨RX9, "fill", "(I)I"⟩
def dkwX9_fill_0 : List UInt8 := [42, 3, 181, 0, 112, 42, 182, 1, 64, 42, 42, 42, 180, 0, 39, 27, 182, 1, 80, 182, 1, 70, 172]
abbrev dktX9_fill_0 : List UInt8 := dkwX9_fill_0 ++ []
theorem dksX9_fill_0 : cX9_fill.data.toList.drop 0 = dktX9_fill_0 := by decide +kernel
theorem dX9_fill_0 : decode cX9_fill 0 = .ok (.aload_n 0, 1) := dk_42 (dk_at dksX9_fill_0 0 rfl rfl)
theorem dX9_fill_1 : decode cX9_fill 1 = .ok (.iconst 0, 1) := dk_3 (dk_at dksX9_fill_0 1 rfl rfl)
theorem dX9_fill_2 : decode cX9_fill 2 = .ok (.putfield 112, 3) := dk_181 0 112 (dk_at dksX9_fill_0 2 rfl rfl)
theorem dX9_fill_5 : decode cX9_fill 5 = .ok (.aload_n 0, 1) := dk_42 (dk_at dksX9_fill_0 5 rfl rfl)
theorem dX9_fill_6 : decode cX9_fill 6 = .ok (.invokevirtual 320, 3) := dk_182 1 64 (dk_at dksX9_fill_0 6 rfl rfl)
theorem dX9_fill_9 : decode cX9_fill 9 = .ok (.aload_n 0, 1) := dk_42 (dk_at dksX9_fill_0 9 rfl rfl)
theorem dX9_fill_10 : decode cX9_fill 10 = .ok (.aload_n 0, 1) := dk_42 (dk_at dksX9_fill_0 10 rfl rfl)
theorem dX9_fill_11 : decode cX9_fill 11 = .ok (.aload_n 0, 1) := dk_42 (dk_at dksX9_fill_0 11 rfl rfl)
theorem dX9_fill_12 : decode cX9_fill 12 = .ok (.getfield 39, 3) := dk_180 0 39 (dk_at dksX9_fill_0 12 rfl rfl)
theorem dX9_fill_15 : decode cX9_fill 15 = .ok (.iload_n 1, 1) := dk_27 (dk_at dksX9_fill_0 15 rfl rfl)
theorem dX9_fill_16 : decode cX9_fill 16 = .ok (.invokevirtual 336, 3) := dk_182 1 80 (dk_at dksX9_fill_0 16 rfl rfl)
theorem dX9_fill_19 : decode cX9_fill 19 = .ok (.invokevirtual 326, 3) := dk_182 1 70 (dk_at dksX9_fill_0 19 rfl rfl)
theorem dX9_fill_22 : decode cX9_fill 22 = .ok (.ireturn, 1) := dk_172 (dk_at dksX9_fill_0 22 rfl rfl)
abbrev cX9_fills : ByteArray := prog_15_method_51_code
def yX9_fills : MethodName := ⟨RX9, "fills", "([II)I"⟩
def dkwX9_fills_1 : List UInt8 := [28, 96, 184, 0, 145, 79, 43, 16, 16, 46, 172]
abbrev dktX9_fills_1 : List UInt8 := dkwX9_fills_1 ++ []
def dkwX9_fills_0 : List UInt8 := [28, 133, 10, 20, 1, 56, 184, 0, 129, 154, 0, 5, 2, 172, 43, 16, 16, 17, 3, 231, 43, 16, 16, 46]
abbrev dktX9_fills_0 : List UInt8 := dkwX9_fills_0 ++ dktX9_fills_1
theorem dksX9_fills_0 : cX9_fills.data.toList.drop 0 = dktX9_fills_0 := by decide +kernel
theorem dksX9_fills_1 : cX9_fills.data.toList.drop 24 = dktX9_fills_1 := dk_seg dksX9_fills_0 24 rfl rfl
theorem dX9_fills_0 : decode cX9_fills 0 = .ok (.iload_n 2, 1) := dk_28 (dk_at dksX9_fills_0 0 rfl rfl)
theorem dX9_fills_1 : decode cX9_fills 1 = .ok (.i2l, 1) := dk_133 (dk_at dksX9_fills_0 1 rfl rfl)
theorem dX9_fills_2 : decode cX9_fills 2 = .ok (.lconst 1, 1) := dk_10 (dk_at dksX9_fills_0 2 rfl rfl)
theorem dX9_fills_3 : decode cX9_fills 3 = .ok (.ldc2_w 312, 3) := dk_20 1 56 (dk_at dksX9_fills_0 3 rfl rfl)
theorem dX9_fills_6 : decode cX9_fills 6 = .ok (.invokestatic 129, 3) := dk_184 0 129 (dk_at dksX9_fills_0 6 rfl rfl)
theorem dX9_fills_9 : decode cX9_fills 9 = .ok (.ifCond .ne 5, 3) := dk_154 0 5 (dk_at dksX9_fills_0 9 rfl rfl)
theorem dX9_fills_12 : decode cX9_fills 12 = .ok (.iconst (-1), 1) := dk_2 (dk_at dksX9_fills_0 12 rfl rfl)
theorem dX9_fills_13 : decode cX9_fills 13 = .ok (.ireturn, 1) := dk_172 (dk_at dksX9_fills_0 13 rfl rfl)
theorem dX9_fills_14 : decode cX9_fills 14 = .ok (.aload_n 1, 1) := dk_43 (dk_at dksX9_fills_0 14 rfl rfl)
theorem dX9_fills_15 : decode cX9_fills 15 = .ok (.bipush 16, 2) := dk_16 16 (dk_at dksX9_fills_0 15 rfl rfl)
theorem dX9_fills_17 : decode cX9_fills 17 = .ok (.sipush 999, 3) := dk_17 3 231 (dk_at dksX9_fills_0 17 rfl rfl)
theorem dX9_fills_20 : decode cX9_fills 20 = .ok (.aload_n 1, 1) := dk_43 (dk_at dksX9_fills_0 20 rfl rfl)
theorem dX9_fills_21 : decode cX9_fills 21 = .ok (.bipush 16, 2) := dk_16 16 (dk_at dksX9_fills_0 21 rfl rfl)
theorem dX9_fills_23 : decode cX9_fills 23 = .ok (.iaload, 1) := dk_46 (dk_at dksX9_fills_0 23 rfl rfl)
theorem dX9_fills_24 : decode cX9_fills 24 = .ok (.iload_n 2, 1) := dk_28 (dk_at dksX9_fills_1 0 rfl rfl)
theorem dX9_fills_25 : decode cX9_fills 25 = .ok (.iadd, 1) := dk_96 (dk_at dksX9_fills_1 1 rfl rfl)
theorem dX9_fills_26 : decode cX9_fills 26 = .ok (.invokestatic 145, 3) := dk_184 0 145 (dk_at dksX9_fills_1 2 rfl rfl)
theorem dX9_fills_29 : decode cX9_fills 29 = .ok (.iastore, 1) := dk_79 (dk_at dksX9_fills_1 5 rfl rfl)
theorem dX9_fills_30 : decode cX9_fills 30 = .ok (.aload_n 1, 1) := dk_43 (dk_at dksX9_fills_1 6 rfl rfl)
theorem dX9_fills_31 : decode cX9_fills 31 = .ok (.bipush 16, 2) := dk_16 16 (dk_at dksX9_fills_1 7 rfl rfl)
theorem dX9_fills_33 : decode cX9_fills 33 = .ok (.iaload, 1) := dk_46 (dk_at dksX9_fills_1 9 rfl rfl)
theorem dX9_fills_34 : decode cX9_fills 34 = .ok (.ireturn, 1) := dk_172 (dk_at dksX9_fills_1 10 rfl rfl)
abbrev cX9_plant : ByteArray := prog_15_method_59_code
def yX9_plant : MethodName := ⟨RX9, "plant", "(I)I"⟩
def dkwX9_plant_0 : List UInt8 := [42, 3, 181, 0, 112, 42, 182, 1, 64, 42, 42, 27, 182, 1, 83, 182, 1, 70, 172]
abbrev dktX9_plant_0 : List UInt8 := dkwX9_plant_0 ++ []
theorem dksX9_plant_0 : cX9_plant.data.toList.drop 0 = dktX9_plant_0 := by decide +kernel
theorem dX9_plant_0 : decode cX9_plant 0 = .ok (.aload_n 0, 1) := dk_42 (dk_at dksX9_plant_0 0 rfl rfl)
theorem dX9_plant_1 : decode cX9_plant 1 = .ok (.iconst 0, 1) := dk_3 (dk_at dksX9_plant_0 1 rfl rfl)
theorem dX9_plant_2 : decode cX9_plant 2 = .ok (.putfield 112, 3) := dk_181 0 112 (dk_at dksX9_plant_0 2 rfl rfl)
theorem dX9_plant_5 : decode cX9_plant 5 = .ok (.aload_n 0, 1) := dk_42 (dk_at dksX9_plant_0 5 rfl rfl)
theorem dX9_plant_6 : decode cX9_plant 6 = .ok (.invokevirtual 320, 3) := dk_182 1 64 (dk_at dksX9_plant_0 6 rfl rfl)
theorem dX9_plant_9 : decode cX9_plant 9 = .ok (.aload_n 0, 1) := dk_42 (dk_at dksX9_plant_0 9 rfl rfl)
theorem dX9_plant_10 : decode cX9_plant 10 = .ok (.aload_n 0, 1) := dk_42 (dk_at dksX9_plant_0 10 rfl rfl)
theorem dX9_plant_11 : decode cX9_plant 11 = .ok (.iload_n 1, 1) := dk_27 (dk_at dksX9_plant_0 11 rfl rfl)
theorem dX9_plant_12 : decode cX9_plant 12 = .ok (.invokevirtual 339, 3) := dk_182 1 83 (dk_at dksX9_plant_0 12 rfl rfl)
theorem dX9_plant_15 : decode cX9_plant 15 = .ok (.invokevirtual 326, 3) := dk_182 1 70 (dk_at dksX9_plant_0 15 rfl rfl)
theorem dX9_plant_18 : decode cX9_plant 18 = .ok (.ireturn, 1) := dk_172 (dk_at dksX9_plant_0 18 rfl rfl)
abbrev cX9_plants : ByteArray := prog_15_method_52_code
def yX9_plants : MethodName := ⟨RX9, "plants", "(I)I"⟩
def dkwX9_plants_1 : List UInt8 := [180, 0, 39, 16, 17, 46, 27, 96, 184, 0, 145, 79, 42, 180, 0, 39, 16, 17, 46, 172]
abbrev dktX9_plants_1 : List UInt8 := dkwX9_plants_1 ++ []
def dkwX9_plants_0 : List UInt8 := [27, 133, 10, 20, 1, 56, 184, 0, 129, 154, 0, 5, 2, 172, 42, 180, 0, 39, 16, 17, 16, 99, 42]
abbrev dktX9_plants_0 : List UInt8 := dkwX9_plants_0 ++ dktX9_plants_1
theorem dksX9_plants_0 : cX9_plants.data.toList.drop 0 = dktX9_plants_0 := by decide +kernel
theorem dksX9_plants_1 : cX9_plants.data.toList.drop 23 = dktX9_plants_1 := dk_seg dksX9_plants_0 23 rfl rfl
theorem dX9_plants_0 : decode cX9_plants 0 = .ok (.iload_n 1, 1) := dk_27 (dk_at dksX9_plants_0 0 rfl rfl)
theorem dX9_plants_1 : decode cX9_plants 1 = .ok (.i2l, 1) := dk_133 (dk_at dksX9_plants_0 1 rfl rfl)
theorem dX9_plants_2 : decode cX9_plants 2 = .ok (.lconst 1, 1) := dk_10 (dk_at dksX9_plants_0 2 rfl rfl)
theorem dX9_plants_3 : decode cX9_plants 3 = .ok (.ldc2_w 312, 3) := dk_20 1 56 (dk_at dksX9_plants_0 3 rfl rfl)
theorem dX9_plants_6 : decode cX9_plants 6 = .ok (.invokestatic 129, 3) := dk_184 0 129 (dk_at dksX9_plants_0 6 rfl rfl)
theorem dX9_plants_9 : decode cX9_plants 9 = .ok (.ifCond .ne 5, 3) := dk_154 0 5 (dk_at dksX9_plants_0 9 rfl rfl)
theorem dX9_plants_12 : decode cX9_plants 12 = .ok (.iconst (-1), 1) := dk_2 (dk_at dksX9_plants_0 12 rfl rfl)
theorem dX9_plants_13 : decode cX9_plants 13 = .ok (.ireturn, 1) := dk_172 (dk_at dksX9_plants_0 13 rfl rfl)
theorem dX9_plants_14 : decode cX9_plants 14 = .ok (.aload_n 0, 1) := dk_42 (dk_at dksX9_plants_0 14 rfl rfl)
theorem dX9_plants_15 : decode cX9_plants 15 = .ok (.getfield 39, 3) := dk_180 0 39 (dk_at dksX9_plants_0 15 rfl rfl)
theorem dX9_plants_18 : decode cX9_plants 18 = .ok (.bipush 17, 2) := dk_16 17 (dk_at dksX9_plants_0 18 rfl rfl)
theorem dX9_plants_20 : decode cX9_plants 20 = .ok (.bipush 99, 2) := dk_16 99 (dk_at dksX9_plants_0 20 rfl rfl)
theorem dX9_plants_22 : decode cX9_plants 22 = .ok (.aload_n 0, 1) := dk_42 (dk_at dksX9_plants_0 22 rfl rfl)
theorem dX9_plants_23 : decode cX9_plants 23 = .ok (.getfield 39, 3) := dk_180 0 39 (dk_at dksX9_plants_1 0 rfl rfl)
theorem dX9_plants_26 : decode cX9_plants 26 = .ok (.bipush 17, 2) := dk_16 17 (dk_at dksX9_plants_1 3 rfl rfl)
theorem dX9_plants_28 : decode cX9_plants 28 = .ok (.iaload, 1) := dk_46 (dk_at dksX9_plants_1 5 rfl rfl)
theorem dX9_plants_29 : decode cX9_plants 29 = .ok (.iload_n 1, 1) := dk_27 (dk_at dksX9_plants_1 6 rfl rfl)
theorem dX9_plants_30 : decode cX9_plants 30 = .ok (.iadd, 1) := dk_96 (dk_at dksX9_plants_1 7 rfl rfl)
theorem dX9_plants_31 : decode cX9_plants 31 = .ok (.invokestatic 145, 3) := dk_184 0 145 (dk_at dksX9_plants_1 8 rfl rfl)
theorem dX9_plants_34 : decode cX9_plants 34 = .ok (.iastore, 1) := dk_79 (dk_at dksX9_plants_1 11 rfl rfl)
theorem dX9_plants_35 : decode cX9_plants 35 = .ok (.aload_n 0, 1) := dk_42 (dk_at dksX9_plants_1 12 rfl rfl)
theorem dX9_plants_36 : decode cX9_plants 36 = .ok (.getfield 39, 3) := dk_180 0 39 (dk_at dksX9_plants_1 13 rfl rfl)
theorem dX9_plants_39 : decode cX9_plants 39 = .ok (.bipush 17, 2) := dk_16 17 (dk_at dksX9_plants_1 16 rfl rfl)
theorem dX9_plants_41 : decode cX9_plants 41 = .ok (.iaload, 1) := dk_46 (dk_at dksX9_plants_1 18 rfl rfl)
theorem dX9_plants_42 : decode cX9_plants 42 = .ok (.ireturn, 1) := dk_172 (dk_at dksX9_plants_1 19 rfl rfl)
abbrev cX9_scold : ByteArray := prog_15_method_60_code
def yX9_scold : MethodName := ⟨RX9, "scold", "(II)I"⟩
def dkwX9_scold_1 : List UInt8 := [28, 182, 1, 86, 182, 1, 70, 172]
abbrev dktX9_scold_1 : List UInt8 := dkwX9_scold_1 ++ []
def dkwX9_scold_0 : List UInt8 := [42, 3, 181, 0, 112, 42, 182, 1, 64, 42, 28, 156, 0, 7, 2, 167, 0, 13, 42, 42, 180, 0, 39, 27]
abbrev dktX9_scold_0 : List UInt8 := dkwX9_scold_0 ++ dktX9_scold_1
theorem dksX9_scold_0 : cX9_scold.data.toList.drop 0 = dktX9_scold_0 := by decide +kernel
theorem dksX9_scold_1 : cX9_scold.data.toList.drop 24 = dktX9_scold_1 := dk_seg dksX9_scold_0 24 rfl rfl
theorem dX9_scold_0 : decode cX9_scold 0 = .ok (.aload_n 0, 1) := dk_42 (dk_at dksX9_scold_0 0 rfl rfl)
theorem dX9_scold_1 : decode cX9_scold 1 = .ok (.iconst 0, 1) := dk_3 (dk_at dksX9_scold_0 1 rfl rfl)
theorem dX9_scold_2 : decode cX9_scold 2 = .ok (.putfield 112, 3) := dk_181 0 112 (dk_at dksX9_scold_0 2 rfl rfl)
theorem dX9_scold_5 : decode cX9_scold 5 = .ok (.aload_n 0, 1) := dk_42 (dk_at dksX9_scold_0 5 rfl rfl)
theorem dX9_scold_6 : decode cX9_scold 6 = .ok (.invokevirtual 320, 3) := dk_182 1 64 (dk_at dksX9_scold_0 6 rfl rfl)
theorem dX9_scold_9 : decode cX9_scold 9 = .ok (.aload_n 0, 1) := dk_42 (dk_at dksX9_scold_0 9 rfl rfl)
theorem dX9_scold_10 : decode cX9_scold 10 = .ok (.iload_n 2, 1) := dk_28 (dk_at dksX9_scold_0 10 rfl rfl)
theorem dX9_scold_11 : decode cX9_scold 11 = .ok (.ifCond .ge 7, 3) := dk_156 0 7 (dk_at dksX9_scold_0 11 rfl rfl)
theorem dX9_scold_14 : decode cX9_scold 14 = .ok (.iconst (-1), 1) := dk_2 (dk_at dksX9_scold_0 14 rfl rfl)
theorem dX9_scold_15 : decode cX9_scold 15 = .ok (.goto 13, 3) := dk_167 0 13 (dk_at dksX9_scold_0 15 rfl rfl)
theorem dX9_scold_18 : decode cX9_scold 18 = .ok (.aload_n 0, 1) := dk_42 (dk_at dksX9_scold_0 18 rfl rfl)
theorem dX9_scold_19 : decode cX9_scold 19 = .ok (.aload_n 0, 1) := dk_42 (dk_at dksX9_scold_0 19 rfl rfl)
theorem dX9_scold_20 : decode cX9_scold 20 = .ok (.getfield 39, 3) := dk_180 0 39 (dk_at dksX9_scold_0 20 rfl rfl)
theorem dX9_scold_23 : decode cX9_scold 23 = .ok (.iload_n 1, 1) := dk_27 (dk_at dksX9_scold_0 23 rfl rfl)
theorem dX9_scold_24 : decode cX9_scold 24 = .ok (.iload_n 2, 1) := dk_28 (dk_at dksX9_scold_1 0 rfl rfl)
theorem dX9_scold_25 : decode cX9_scold 25 = .ok (.invokevirtual 342, 3) := dk_182 1 86 (dk_at dksX9_scold_1 1 rfl rfl)
theorem dX9_scold_28 : decode cX9_scold 28 = .ok (.invokevirtual 326, 3) := dk_182 1 70 (dk_at dksX9_scold_1 4 rfl rfl)
theorem dX9_scold_31 : decode cX9_scold 31 = .ok (.ireturn, 1) := dk_172 (dk_at dksX9_scold_1 7 rfl rfl)
abbrev cX9_grudges : ByteArray := prog_15_method_53_code
def yX9_grudges : MethodName := ⟨RX9, "grudges", "([III)I"⟩
def dkwX9_grudges_2 : List UInt8 := [184, 0, 145, 184, 1, 38, 79, 43, 28, 46, 172]
abbrev dktX9_grudges_2 : List UInt8 := dkwX9_grudges_2 ++ []
def dkwX9_grudges_1 : List UInt8 := [172, 43, 16, 8, 28, 96, 46, 153, 0, 6, 16, 254, 172, 43, 28, 3, 16, 99, 43, 28, 46, 29, 96]
abbrev dktX9_grudges_1 : List UInt8 := dkwX9_grudges_1 ++ dktX9_grudges_2
def dkwX9_grudges_0 : List UInt8 := [42, 28, 182, 1, 22, 153, 0, 18, 29, 184, 1, 58, 133, 10, 20, 1, 54, 184, 0, 129, 154, 0, 5, 2]
abbrev dktX9_grudges_0 : List UInt8 := dkwX9_grudges_0 ++ dktX9_grudges_1
theorem dksX9_grudges_0 : cX9_grudges.data.toList.drop 0 = dktX9_grudges_0 := by decide +kernel
theorem dksX9_grudges_1 : cX9_grudges.data.toList.drop 24 = dktX9_grudges_1 := dk_seg dksX9_grudges_0 24 rfl rfl
theorem dksX9_grudges_2 : cX9_grudges.data.toList.drop 47 = dktX9_grudges_2 := dk_seg dksX9_grudges_1 23 rfl rfl
theorem dX9_grudges_0 : decode cX9_grudges 0 = .ok (.aload_n 0, 1) := dk_42 (dk_at dksX9_grudges_0 0 rfl rfl)
theorem dX9_grudges_1 : decode cX9_grudges 1 = .ok (.iload_n 2, 1) := dk_28 (dk_at dksX9_grudges_0 1 rfl rfl)
theorem dX9_grudges_2 : decode cX9_grudges 2 = .ok (.invokevirtual 278, 3) := dk_182 1 22 (dk_at dksX9_grudges_0 2 rfl rfl)
theorem dX9_grudges_5 : decode cX9_grudges 5 = .ok (.ifCond .eq 18, 3) := dk_153 0 18 (dk_at dksX9_grudges_0 5 rfl rfl)
theorem dX9_grudges_8 : decode cX9_grudges 8 = .ok (.iload_n 3, 1) := dk_29 (dk_at dksX9_grudges_0 8 rfl rfl)
theorem dX9_grudges_9 : decode cX9_grudges 9 = .ok (.invokestatic 314, 3) := dk_184 1 58 (dk_at dksX9_grudges_0 9 rfl rfl)
theorem dX9_grudges_12 : decode cX9_grudges 12 = .ok (.i2l, 1) := dk_133 (dk_at dksX9_grudges_0 12 rfl rfl)
theorem dX9_grudges_13 : decode cX9_grudges 13 = .ok (.lconst 1, 1) := dk_10 (dk_at dksX9_grudges_0 13 rfl rfl)
theorem dX9_grudges_14 : decode cX9_grudges 14 = .ok (.ldc2_w 310, 3) := dk_20 1 54 (dk_at dksX9_grudges_0 14 rfl rfl)
theorem dX9_grudges_17 : decode cX9_grudges 17 = .ok (.invokestatic 129, 3) := dk_184 0 129 (dk_at dksX9_grudges_0 17 rfl rfl)
theorem dX9_grudges_20 : decode cX9_grudges 20 = .ok (.ifCond .ne 5, 3) := dk_154 0 5 (dk_at dksX9_grudges_0 20 rfl rfl)
theorem dX9_grudges_23 : decode cX9_grudges 23 = .ok (.iconst (-1), 1) := dk_2 (dk_at dksX9_grudges_0 23 rfl rfl)
theorem dX9_grudges_24 : decode cX9_grudges 24 = .ok (.ireturn, 1) := dk_172 (dk_at dksX9_grudges_1 0 rfl rfl)
theorem dX9_grudges_25 : decode cX9_grudges 25 = .ok (.aload_n 1, 1) := dk_43 (dk_at dksX9_grudges_1 1 rfl rfl)
theorem dX9_grudges_26 : decode cX9_grudges 26 = .ok (.bipush 8, 2) := dk_16 8 (dk_at dksX9_grudges_1 2 rfl rfl)
theorem dX9_grudges_28 : decode cX9_grudges 28 = .ok (.iload_n 2, 1) := dk_28 (dk_at dksX9_grudges_1 4 rfl rfl)
theorem dX9_grudges_29 : decode cX9_grudges 29 = .ok (.iadd, 1) := dk_96 (dk_at dksX9_grudges_1 5 rfl rfl)
theorem dX9_grudges_30 : decode cX9_grudges 30 = .ok (.iaload, 1) := dk_46 (dk_at dksX9_grudges_1 6 rfl rfl)
theorem dX9_grudges_31 : decode cX9_grudges 31 = .ok (.ifCond .eq 6, 3) := dk_153 0 6 (dk_at dksX9_grudges_1 7 rfl rfl)
theorem dX9_grudges_34 : decode cX9_grudges 34 = .ok (.bipush (-2), 2) := dk_16 254 (dk_at dksX9_grudges_1 10 rfl rfl)
theorem dX9_grudges_36 : decode cX9_grudges 36 = .ok (.ireturn, 1) := dk_172 (dk_at dksX9_grudges_1 12 rfl rfl)
theorem dX9_grudges_37 : decode cX9_grudges 37 = .ok (.aload_n 1, 1) := dk_43 (dk_at dksX9_grudges_1 13 rfl rfl)
theorem dX9_grudges_38 : decode cX9_grudges 38 = .ok (.iload_n 2, 1) := dk_28 (dk_at dksX9_grudges_1 14 rfl rfl)
theorem dX9_grudges_39 : decode cX9_grudges 39 = .ok (.iconst 0, 1) := dk_3 (dk_at dksX9_grudges_1 15 rfl rfl)
theorem dX9_grudges_40 : decode cX9_grudges 40 = .ok (.bipush 99, 2) := dk_16 99 (dk_at dksX9_grudges_1 16 rfl rfl)
theorem dX9_grudges_42 : decode cX9_grudges 42 = .ok (.aload_n 1, 1) := dk_43 (dk_at dksX9_grudges_1 18 rfl rfl)
theorem dX9_grudges_43 : decode cX9_grudges 43 = .ok (.iload_n 2, 1) := dk_28 (dk_at dksX9_grudges_1 19 rfl rfl)
theorem dX9_grudges_44 : decode cX9_grudges 44 = .ok (.iaload, 1) := dk_46 (dk_at dksX9_grudges_1 20 rfl rfl)
theorem dX9_grudges_45 : decode cX9_grudges 45 = .ok (.iload_n 3, 1) := dk_29 (dk_at dksX9_grudges_1 21 rfl rfl)
theorem dX9_grudges_46 : decode cX9_grudges 46 = .ok (.iadd, 1) := dk_96 (dk_at dksX9_grudges_1 22 rfl rfl)
theorem dX9_grudges_47 : decode cX9_grudges 47 = .ok (.invokestatic 145, 3) := dk_184 0 145 (dk_at dksX9_grudges_2 0 rfl rfl)
theorem dX9_grudges_50 : decode cX9_grudges 50 = .ok (.invokestatic 294, 3) := dk_184 1 38 (dk_at dksX9_grudges_2 3 rfl rfl)
theorem dX9_grudges_53 : decode cX9_grudges 53 = .ok (.iastore, 1) := dk_79 (dk_at dksX9_grudges_2 6 rfl rfl)
theorem dX9_grudges_54 : decode cX9_grudges 54 = .ok (.aload_n 1, 1) := dk_43 (dk_at dksX9_grudges_2 7 rfl rfl)
theorem dX9_grudges_55 : decode cX9_grudges 55 = .ok (.iload_n 2, 1) := dk_28 (dk_at dksX9_grudges_2 8 rfl rfl)
theorem dX9_grudges_56 : decode cX9_grudges 56 = .ok (.iaload, 1) := dk_46 (dk_at dksX9_grudges_2 9 rfl rfl)
theorem dX9_grudges_57 : decode cX9_grudges 57 = .ok (.ireturn, 1) := dk_172 (dk_at dksX9_grudges_2 10 rfl rfl)
abbrev cX9_soothe : ByteArray := prog_15_method_61_code
def yX9_soothe : MethodName := ⟨RX9, "soothe", "(II)I"⟩
def dkwX9_soothe_1 : List UInt8 := [28, 116, 182, 1, 86, 182, 1, 70, 172]
abbrev dktX9_soothe_1 : List UInt8 := dkwX9_soothe_1 ++ []
def dkwX9_soothe_0 : List UInt8 := [42, 3, 181, 0, 112, 42, 182, 1, 64, 42, 28, 156, 0, 7, 2, 167, 0, 14, 42, 42, 180, 0, 39, 27]
abbrev dktX9_soothe_0 : List UInt8 := dkwX9_soothe_0 ++ dktX9_soothe_1
theorem dksX9_soothe_0 : cX9_soothe.data.toList.drop 0 = dktX9_soothe_0 := by decide +kernel
theorem dksX9_soothe_1 : cX9_soothe.data.toList.drop 24 = dktX9_soothe_1 := dk_seg dksX9_soothe_0 24 rfl rfl
theorem dX9_soothe_0 : decode cX9_soothe 0 = .ok (.aload_n 0, 1) := dk_42 (dk_at dksX9_soothe_0 0 rfl rfl)
theorem dX9_soothe_1 : decode cX9_soothe 1 = .ok (.iconst 0, 1) := dk_3 (dk_at dksX9_soothe_0 1 rfl rfl)
theorem dX9_soothe_2 : decode cX9_soothe 2 = .ok (.putfield 112, 3) := dk_181 0 112 (dk_at dksX9_soothe_0 2 rfl rfl)
theorem dX9_soothe_5 : decode cX9_soothe 5 = .ok (.aload_n 0, 1) := dk_42 (dk_at dksX9_soothe_0 5 rfl rfl)
theorem dX9_soothe_6 : decode cX9_soothe 6 = .ok (.invokevirtual 320, 3) := dk_182 1 64 (dk_at dksX9_soothe_0 6 rfl rfl)
theorem dX9_soothe_9 : decode cX9_soothe 9 = .ok (.aload_n 0, 1) := dk_42 (dk_at dksX9_soothe_0 9 rfl rfl)
theorem dX9_soothe_10 : decode cX9_soothe 10 = .ok (.iload_n 2, 1) := dk_28 (dk_at dksX9_soothe_0 10 rfl rfl)
theorem dX9_soothe_11 : decode cX9_soothe 11 = .ok (.ifCond .ge 7, 3) := dk_156 0 7 (dk_at dksX9_soothe_0 11 rfl rfl)
theorem dX9_soothe_14 : decode cX9_soothe 14 = .ok (.iconst (-1), 1) := dk_2 (dk_at dksX9_soothe_0 14 rfl rfl)
theorem dX9_soothe_15 : decode cX9_soothe 15 = .ok (.goto 14, 3) := dk_167 0 14 (dk_at dksX9_soothe_0 15 rfl rfl)
theorem dX9_soothe_18 : decode cX9_soothe 18 = .ok (.aload_n 0, 1) := dk_42 (dk_at dksX9_soothe_0 18 rfl rfl)
theorem dX9_soothe_19 : decode cX9_soothe 19 = .ok (.aload_n 0, 1) := dk_42 (dk_at dksX9_soothe_0 19 rfl rfl)
theorem dX9_soothe_20 : decode cX9_soothe 20 = .ok (.getfield 39, 3) := dk_180 0 39 (dk_at dksX9_soothe_0 20 rfl rfl)
theorem dX9_soothe_23 : decode cX9_soothe 23 = .ok (.iload_n 1, 1) := dk_27 (dk_at dksX9_soothe_0 23 rfl rfl)
theorem dX9_soothe_24 : decode cX9_soothe 24 = .ok (.iload_n 2, 1) := dk_28 (dk_at dksX9_soothe_1 0 rfl rfl)
theorem dX9_soothe_25 : decode cX9_soothe 25 = .ok (.ineg, 1) := dk_116 (dk_at dksX9_soothe_1 1 rfl rfl)
theorem dX9_soothe_26 : decode cX9_soothe 26 = .ok (.invokevirtual 342, 3) := dk_182 1 86 (dk_at dksX9_soothe_1 2 rfl rfl)
theorem dX9_soothe_29 : decode cX9_soothe 29 = .ok (.invokevirtual 326, 3) := dk_182 1 70 (dk_at dksX9_soothe_1 5 rfl rfl)
theorem dX9_soothe_32 : decode cX9_soothe 32 = .ok (.ireturn, 1) := dk_172 (dk_at dksX9_soothe_1 8 rfl rfl)
abbrev cX9_runs : ByteArray := prog_15_method_62_code
def yX9_runs : MethodName := ⟨RX9, "runs", "(I)I"⟩
def dkwX9_runs_0 : List UInt8 := [42, 3, 181, 0, 112, 42, 182, 1, 64, 42, 42, 27, 182, 1, 89, 182, 1, 70, 172]
abbrev dktX9_runs_0 : List UInt8 := dkwX9_runs_0 ++ []
theorem dksX9_runs_0 : cX9_runs.data.toList.drop 0 = dktX9_runs_0 := by decide +kernel
theorem dX9_runs_0 : decode cX9_runs 0 = .ok (.aload_n 0, 1) := dk_42 (dk_at dksX9_runs_0 0 rfl rfl)
theorem dX9_runs_1 : decode cX9_runs 1 = .ok (.iconst 0, 1) := dk_3 (dk_at dksX9_runs_0 1 rfl rfl)
theorem dX9_runs_2 : decode cX9_runs 2 = .ok (.putfield 112, 3) := dk_181 0 112 (dk_at dksX9_runs_0 2 rfl rfl)
theorem dX9_runs_5 : decode cX9_runs 5 = .ok (.aload_n 0, 1) := dk_42 (dk_at dksX9_runs_0 5 rfl rfl)
theorem dX9_runs_6 : decode cX9_runs 6 = .ok (.invokevirtual 320, 3) := dk_182 1 64 (dk_at dksX9_runs_0 6 rfl rfl)
theorem dX9_runs_9 : decode cX9_runs 9 = .ok (.aload_n 0, 1) := dk_42 (dk_at dksX9_runs_0 9 rfl rfl)
theorem dX9_runs_10 : decode cX9_runs 10 = .ok (.aload_n 0, 1) := dk_42 (dk_at dksX9_runs_0 10 rfl rfl)
theorem dX9_runs_11 : decode cX9_runs 11 = .ok (.iload_n 1, 1) := dk_27 (dk_at dksX9_runs_0 11 rfl rfl)
theorem dX9_runs_12 : decode cX9_runs 12 = .ok (.invokevirtual 345, 3) := dk_182 1 89 (dk_at dksX9_runs_0 12 rfl rfl)
theorem dX9_runs_15 : decode cX9_runs 15 = .ok (.invokevirtual 326, 3) := dk_182 1 70 (dk_at dksX9_runs_0 15 rfl rfl)
theorem dX9_runs_18 : decode cX9_runs 18 = .ok (.ireturn, 1) := dk_172 (dk_at dksX9_runs_0 18 rfl rfl)
abbrev cX9_runsOff : ByteArray := prog_15_method_54_code
def yX9_runsOff : MethodName := ⟨RX9, "runsOff", "(I)I"⟩
def dkwX9_runsOff_4 : List UInt8 := [184, 0, 145, 79, 28, 184, 0, 154, 172]
abbrev dktX9_runsOff_4 : List UInt8 := dkwX9_runsOff_4 ++ []
def dkwX9_runsOff_3 : List UInt8 := [153, 0, 12, 42, 180, 0, 39, 27, 46, 167, 0, 17, 16, 99, 42, 180, 0, 39, 27, 46, 16, 10, 96]
abbrev dktX9_runsOff_3 : List UInt8 := dkwX9_runsOff_3 ++ dktX9_runsOff_4
def dkwX9_runsOff_2 : List UInt8 := [180, 0, 39, 16, 8, 27, 96, 28, 153, 0, 7, 4, 167, 0, 4, 3, 79, 42, 180, 0, 39, 27, 28]
abbrev dktX9_runsOff_2 : List UInt8 := dkwX9_runsOff_2 ++ dktX9_runsOff_3
def dkwX9_runsOff_1 : List UInt8 := [16, 254, 172, 42, 180, 0, 39, 16, 8, 27, 96, 46, 154, 0, 7, 4, 167, 0, 4, 3, 61, 42]
abbrev dktX9_runsOff_1 : List UInt8 := dkwX9_runsOff_1 ++ dktX9_runsOff_2
def dkwX9_runsOff_0 : List UInt8 := [42, 27, 182, 1, 22, 154, 0, 5, 2, 172, 42, 180, 0, 39, 16, 8, 27, 96, 46, 5, 160, 0, 6]
abbrev dktX9_runsOff_0 : List UInt8 := dkwX9_runsOff_0 ++ dktX9_runsOff_1
theorem dksX9_runsOff_0 : cX9_runsOff.data.toList.drop 0 = dktX9_runsOff_0 := by decide +kernel
theorem dksX9_runsOff_1 : cX9_runsOff.data.toList.drop 23 = dktX9_runsOff_1 := dk_seg dksX9_runsOff_0 23 rfl rfl
theorem dksX9_runsOff_2 : cX9_runsOff.data.toList.drop 45 = dktX9_runsOff_2 := dk_seg dksX9_runsOff_1 22 rfl rfl
theorem dksX9_runsOff_3 : cX9_runsOff.data.toList.drop 68 = dktX9_runsOff_3 := dk_seg dksX9_runsOff_2 23 rfl rfl
theorem dksX9_runsOff_4 : cX9_runsOff.data.toList.drop 91 = dktX9_runsOff_4 := dk_seg dksX9_runsOff_3 23 rfl rfl
theorem dX9_runsOff_0 : decode cX9_runsOff 0 = .ok (.aload_n 0, 1) := dk_42 (dk_at dksX9_runsOff_0 0 rfl rfl)
theorem dX9_runsOff_1 : decode cX9_runsOff 1 = .ok (.iload_n 1, 1) := dk_27 (dk_at dksX9_runsOff_0 1 rfl rfl)
theorem dX9_runsOff_2 : decode cX9_runsOff 2 = .ok (.invokevirtual 278, 3) := dk_182 1 22 (dk_at dksX9_runsOff_0 2 rfl rfl)
theorem dX9_runsOff_5 : decode cX9_runsOff 5 = .ok (.ifCond .ne 5, 3) := dk_154 0 5 (dk_at dksX9_runsOff_0 5 rfl rfl)
theorem dX9_runsOff_8 : decode cX9_runsOff 8 = .ok (.iconst (-1), 1) := dk_2 (dk_at dksX9_runsOff_0 8 rfl rfl)
theorem dX9_runsOff_9 : decode cX9_runsOff 9 = .ok (.ireturn, 1) := dk_172 (dk_at dksX9_runsOff_0 9 rfl rfl)
theorem dX9_runsOff_10 : decode cX9_runsOff 10 = .ok (.aload_n 0, 1) := dk_42 (dk_at dksX9_runsOff_0 10 rfl rfl)
theorem dX9_runsOff_11 : decode cX9_runsOff 11 = .ok (.getfield 39, 3) := dk_180 0 39 (dk_at dksX9_runsOff_0 11 rfl rfl)
theorem dX9_runsOff_14 : decode cX9_runsOff 14 = .ok (.bipush 8, 2) := dk_16 8 (dk_at dksX9_runsOff_0 14 rfl rfl)
theorem dX9_runsOff_16 : decode cX9_runsOff 16 = .ok (.iload_n 1, 1) := dk_27 (dk_at dksX9_runsOff_0 16 rfl rfl)
theorem dX9_runsOff_17 : decode cX9_runsOff 17 = .ok (.iadd, 1) := dk_96 (dk_at dksX9_runsOff_0 17 rfl rfl)
theorem dX9_runsOff_18 : decode cX9_runsOff 18 = .ok (.iaload, 1) := dk_46 (dk_at dksX9_runsOff_0 18 rfl rfl)
theorem dX9_runsOff_19 : decode cX9_runsOff 19 = .ok (.iconst 2, 1) := dk_5 (dk_at dksX9_runsOff_0 19 rfl rfl)
theorem dX9_runsOff_20 : decode cX9_runsOff 20 = .ok (.if_icmp .ne 6, 3) := dk_160 0 6 (dk_at dksX9_runsOff_0 20 rfl rfl)
theorem dX9_runsOff_23 : decode cX9_runsOff 23 = .ok (.bipush (-2), 2) := dk_16 254 (dk_at dksX9_runsOff_1 0 rfl rfl)
theorem dX9_runsOff_25 : decode cX9_runsOff 25 = .ok (.ireturn, 1) := dk_172 (dk_at dksX9_runsOff_1 2 rfl rfl)
theorem dX9_runsOff_26 : decode cX9_runsOff 26 = .ok (.aload_n 0, 1) := dk_42 (dk_at dksX9_runsOff_1 3 rfl rfl)
theorem dX9_runsOff_27 : decode cX9_runsOff 27 = .ok (.getfield 39, 3) := dk_180 0 39 (dk_at dksX9_runsOff_1 4 rfl rfl)
theorem dX9_runsOff_30 : decode cX9_runsOff 30 = .ok (.bipush 8, 2) := dk_16 8 (dk_at dksX9_runsOff_1 7 rfl rfl)
theorem dX9_runsOff_32 : decode cX9_runsOff 32 = .ok (.iload_n 1, 1) := dk_27 (dk_at dksX9_runsOff_1 9 rfl rfl)
theorem dX9_runsOff_33 : decode cX9_runsOff 33 = .ok (.iadd, 1) := dk_96 (dk_at dksX9_runsOff_1 10 rfl rfl)
theorem dX9_runsOff_34 : decode cX9_runsOff 34 = .ok (.iaload, 1) := dk_46 (dk_at dksX9_runsOff_1 11 rfl rfl)
theorem dX9_runsOff_35 : decode cX9_runsOff 35 = .ok (.ifCond .ne 7, 3) := dk_154 0 7 (dk_at dksX9_runsOff_1 12 rfl rfl)
theorem dX9_runsOff_38 : decode cX9_runsOff 38 = .ok (.iconst 1, 1) := dk_4 (dk_at dksX9_runsOff_1 15 rfl rfl)
theorem dX9_runsOff_39 : decode cX9_runsOff 39 = .ok (.goto 4, 3) := dk_167 0 4 (dk_at dksX9_runsOff_1 16 rfl rfl)
theorem dX9_runsOff_42 : decode cX9_runsOff 42 = .ok (.iconst 0, 1) := dk_3 (dk_at dksX9_runsOff_1 19 rfl rfl)
theorem dX9_runsOff_43 : decode cX9_runsOff 43 = .ok (.istore_n 2, 1) := dk_61 (dk_at dksX9_runsOff_1 20 rfl rfl)
theorem dX9_runsOff_44 : decode cX9_runsOff 44 = .ok (.aload_n 0, 1) := dk_42 (dk_at dksX9_runsOff_1 21 rfl rfl)
theorem dX9_runsOff_45 : decode cX9_runsOff 45 = .ok (.getfield 39, 3) := dk_180 0 39 (dk_at dksX9_runsOff_2 0 rfl rfl)
theorem dX9_runsOff_48 : decode cX9_runsOff 48 = .ok (.bipush 8, 2) := dk_16 8 (dk_at dksX9_runsOff_2 3 rfl rfl)
theorem dX9_runsOff_50 : decode cX9_runsOff 50 = .ok (.iload_n 1, 1) := dk_27 (dk_at dksX9_runsOff_2 5 rfl rfl)
theorem dX9_runsOff_51 : decode cX9_runsOff 51 = .ok (.iadd, 1) := dk_96 (dk_at dksX9_runsOff_2 6 rfl rfl)
theorem dX9_runsOff_52 : decode cX9_runsOff 52 = .ok (.iload_n 2, 1) := dk_28 (dk_at dksX9_runsOff_2 7 rfl rfl)
theorem dX9_runsOff_53 : decode cX9_runsOff 53 = .ok (.ifCond .eq 7, 3) := dk_153 0 7 (dk_at dksX9_runsOff_2 8 rfl rfl)
theorem dX9_runsOff_56 : decode cX9_runsOff 56 = .ok (.iconst 1, 1) := dk_4 (dk_at dksX9_runsOff_2 11 rfl rfl)
theorem dX9_runsOff_57 : decode cX9_runsOff 57 = .ok (.goto 4, 3) := dk_167 0 4 (dk_at dksX9_runsOff_2 12 rfl rfl)
theorem dX9_runsOff_60 : decode cX9_runsOff 60 = .ok (.iconst 0, 1) := dk_3 (dk_at dksX9_runsOff_2 15 rfl rfl)
theorem dX9_runsOff_61 : decode cX9_runsOff 61 = .ok (.iastore, 1) := dk_79 (dk_at dksX9_runsOff_2 16 rfl rfl)
theorem dX9_runsOff_62 : decode cX9_runsOff 62 = .ok (.aload_n 0, 1) := dk_42 (dk_at dksX9_runsOff_2 17 rfl rfl)
theorem dX9_runsOff_63 : decode cX9_runsOff 63 = .ok (.getfield 39, 3) := dk_180 0 39 (dk_at dksX9_runsOff_2 18 rfl rfl)
theorem dX9_runsOff_66 : decode cX9_runsOff 66 = .ok (.iload_n 1, 1) := dk_27 (dk_at dksX9_runsOff_2 21 rfl rfl)
theorem dX9_runsOff_67 : decode cX9_runsOff 67 = .ok (.iload_n 2, 1) := dk_28 (dk_at dksX9_runsOff_2 22 rfl rfl)
theorem dX9_runsOff_68 : decode cX9_runsOff 68 = .ok (.ifCond .eq 12, 3) := dk_153 0 12 (dk_at dksX9_runsOff_3 0 rfl rfl)
theorem dX9_runsOff_71 : decode cX9_runsOff 71 = .ok (.aload_n 0, 1) := dk_42 (dk_at dksX9_runsOff_3 3 rfl rfl)
theorem dX9_runsOff_72 : decode cX9_runsOff 72 = .ok (.getfield 39, 3) := dk_180 0 39 (dk_at dksX9_runsOff_3 4 rfl rfl)
theorem dX9_runsOff_75 : decode cX9_runsOff 75 = .ok (.iload_n 1, 1) := dk_27 (dk_at dksX9_runsOff_3 7 rfl rfl)
theorem dX9_runsOff_76 : decode cX9_runsOff 76 = .ok (.iaload, 1) := dk_46 (dk_at dksX9_runsOff_3 8 rfl rfl)
theorem dX9_runsOff_77 : decode cX9_runsOff 77 = .ok (.goto 17, 3) := dk_167 0 17 (dk_at dksX9_runsOff_3 9 rfl rfl)
theorem dX9_runsOff_80 : decode cX9_runsOff 80 = .ok (.bipush 99, 2) := dk_16 99 (dk_at dksX9_runsOff_3 12 rfl rfl)
theorem dX9_runsOff_82 : decode cX9_runsOff 82 = .ok (.aload_n 0, 1) := dk_42 (dk_at dksX9_runsOff_3 14 rfl rfl)
theorem dX9_runsOff_83 : decode cX9_runsOff 83 = .ok (.getfield 39, 3) := dk_180 0 39 (dk_at dksX9_runsOff_3 15 rfl rfl)
theorem dX9_runsOff_86 : decode cX9_runsOff 86 = .ok (.iload_n 1, 1) := dk_27 (dk_at dksX9_runsOff_3 18 rfl rfl)
theorem dX9_runsOff_87 : decode cX9_runsOff 87 = .ok (.iaload, 1) := dk_46 (dk_at dksX9_runsOff_3 19 rfl rfl)
theorem dX9_runsOff_88 : decode cX9_runsOff 88 = .ok (.bipush 10, 2) := dk_16 10 (dk_at dksX9_runsOff_3 20 rfl rfl)
theorem dX9_runsOff_90 : decode cX9_runsOff 90 = .ok (.iadd, 1) := dk_96 (dk_at dksX9_runsOff_3 22 rfl rfl)
theorem dX9_runsOff_91 : decode cX9_runsOff 91 = .ok (.invokestatic 145, 3) := dk_184 0 145 (dk_at dksX9_runsOff_4 0 rfl rfl)
theorem dX9_runsOff_94 : decode cX9_runsOff 94 = .ok (.iastore, 1) := dk_79 (dk_at dksX9_runsOff_4 3 rfl rfl)
theorem dX9_runsOff_95 : decode cX9_runsOff 95 = .ok (.iload_n 2, 1) := dk_28 (dk_at dksX9_runsOff_4 4 rfl rfl)
theorem dX9_runsOff_96 : decode cX9_runsOff 96 = .ok (.invokestatic 154, 3) := dk_184 0 154 (dk_at dksX9_runsOff_4 5 rfl rfl)
theorem dX9_runsOff_99 : decode cX9_runsOff 99 = .ok (.ireturn, 1) := dk_172 (dk_at dksX9_runsOff_4 8 rfl rfl)
abbrev cX9_put : ByteArray := prog_15_method_63_code
def yX9_put : MethodName := ⟨RX9, "put", "()I"⟩
def dkwX9_put_1 : List UInt8 := [155, 0, 17, 42, 3, 181, 0, 119, 42, 42, 180, 1, 61, 133, 182, 0, 122, 27, 172]
abbrev dktX9_put_1 : List UInt8 := dkwX9_put_1 ++ []
def dkwX9_put_0 : List UInt8 := [42, 3, 181, 0, 112, 42, 182, 1, 64, 42, 42, 42, 180, 0, 39, 182, 1, 92, 182, 1, 70, 60, 27]
abbrev dktX9_put_0 : List UInt8 := dkwX9_put_0 ++ dktX9_put_1
theorem dksX9_put_0 : cX9_put.data.toList.drop 0 = dktX9_put_0 := by decide +kernel
theorem dksX9_put_1 : cX9_put.data.toList.drop 23 = dktX9_put_1 := dk_seg dksX9_put_0 23 rfl rfl
theorem dX9_put_0 : decode cX9_put 0 = .ok (.aload_n 0, 1) := dk_42 (dk_at dksX9_put_0 0 rfl rfl)
theorem dX9_put_1 : decode cX9_put 1 = .ok (.iconst 0, 1) := dk_3 (dk_at dksX9_put_0 1 rfl rfl)
theorem dX9_put_2 : decode cX9_put 2 = .ok (.putfield 112, 3) := dk_181 0 112 (dk_at dksX9_put_0 2 rfl rfl)
theorem dX9_put_5 : decode cX9_put 5 = .ok (.aload_n 0, 1) := dk_42 (dk_at dksX9_put_0 5 rfl rfl)
theorem dX9_put_6 : decode cX9_put 6 = .ok (.invokevirtual 320, 3) := dk_182 1 64 (dk_at dksX9_put_0 6 rfl rfl)
theorem dX9_put_9 : decode cX9_put 9 = .ok (.aload_n 0, 1) := dk_42 (dk_at dksX9_put_0 9 rfl rfl)
theorem dX9_put_10 : decode cX9_put 10 = .ok (.aload_n 0, 1) := dk_42 (dk_at dksX9_put_0 10 rfl rfl)
theorem dX9_put_11 : decode cX9_put 11 = .ok (.aload_n 0, 1) := dk_42 (dk_at dksX9_put_0 11 rfl rfl)
theorem dX9_put_12 : decode cX9_put 12 = .ok (.getfield 39, 3) := dk_180 0 39 (dk_at dksX9_put_0 12 rfl rfl)
theorem dX9_put_15 : decode cX9_put 15 = .ok (.invokevirtual 348, 3) := dk_182 1 92 (dk_at dksX9_put_0 15 rfl rfl)
theorem dX9_put_18 : decode cX9_put 18 = .ok (.invokevirtual 326, 3) := dk_182 1 70 (dk_at dksX9_put_0 18 rfl rfl)
theorem dX9_put_21 : decode cX9_put 21 = .ok (.istore_n 1, 1) := dk_60 (dk_at dksX9_put_0 21 rfl rfl)
theorem dX9_put_22 : decode cX9_put 22 = .ok (.iload_n 1, 1) := dk_27 (dk_at dksX9_put_0 22 rfl rfl)
theorem dX9_put_23 : decode cX9_put 23 = .ok (.ifCond .lt 17, 3) := dk_155 0 17 (dk_at dksX9_put_1 0 rfl rfl)
theorem dX9_put_26 : decode cX9_put 26 = .ok (.aload_n 0, 1) := dk_42 (dk_at dksX9_put_1 3 rfl rfl)
theorem dX9_put_27 : decode cX9_put 27 = .ok (.iconst 0, 1) := dk_3 (dk_at dksX9_put_1 4 rfl rfl)
theorem dX9_put_28 : decode cX9_put 28 = .ok (.putfield 119, 3) := dk_181 0 119 (dk_at dksX9_put_1 5 rfl rfl)
theorem dX9_put_31 : decode cX9_put 31 = .ok (.aload_n 0, 1) := dk_42 (dk_at dksX9_put_1 8 rfl rfl)
theorem dX9_put_32 : decode cX9_put 32 = .ok (.aload_n 0, 1) := dk_42 (dk_at dksX9_put_1 9 rfl rfl)
theorem dX9_put_33 : decode cX9_put 33 = .ok (.getfield 317, 3) := dk_180 1 61 (dk_at dksX9_put_1 10 rfl rfl)
theorem dX9_put_36 : decode cX9_put 36 = .ok (.i2l, 1) := dk_133 (dk_at dksX9_put_1 13 rfl rfl)
theorem dX9_put_37 : decode cX9_put 37 = .ok (.invokevirtual 122, 3) := dk_182 0 122 (dk_at dksX9_put_1 14 rfl rfl)
theorem dX9_put_40 : decode cX9_put 40 = .ok (.iload_n 1, 1) := dk_27 (dk_at dksX9_put_1 17 rfl rfl)
theorem dX9_put_41 : decode cX9_put 41 = .ok (.ireturn, 1) := dk_172 (dk_at dksX9_put_1 18 rfl rfl)
abbrev cX9_puts : ByteArray := prog_15_method_55_code
def yX9_puts : MethodName := ⟨RX9, "puts", "([I)I"⟩
def dkwX9_puts_3 : List UInt8 := [132, 3, 1, 167, 255, 218, 42, 180, 1, 61, 184, 1, 5, 172]
abbrev dktX9_puts_3 : List UInt8 := dkwX9_puts_3 ++ []
def dkwX9_puts_2 : List UInt8 := [96, 42, 180, 1, 61, 29, 184, 1, 1, 153, 0, 7, 5, 167, 0, 9, 43, 16, 8, 29, 96, 46, 79]
abbrev dktX9_puts_2 : List UInt8 := dkwX9_puts_2 ++ dktX9_puts_3
def dkwX9_puts_1 : List UInt8 := [182, 0, 253, 28, 2, 130, 126, 181, 1, 61, 3, 62, 29, 42, 180, 0, 126, 162, 0, 36, 43, 16, 8, 29]
abbrev dktX9_puts_1 : List UInt8 := dkwX9_puts_1 ++ dktX9_puts_2
def dkwX9_puts_0 : List UInt8 := [42, 43, 3, 2, 182, 1, 14, 61, 42, 43, 28, 182, 1, 18, 154, 0, 6, 16, 254, 172, 42, 42, 43, 3]
abbrev dktX9_puts_0 : List UInt8 := dkwX9_puts_0 ++ dktX9_puts_1
theorem dksX9_puts_0 : cX9_puts.data.toList.drop 0 = dktX9_puts_0 := by decide +kernel
theorem dksX9_puts_1 : cX9_puts.data.toList.drop 24 = dktX9_puts_1 := dk_seg dksX9_puts_0 24 rfl rfl
theorem dksX9_puts_2 : cX9_puts.data.toList.drop 48 = dktX9_puts_2 := dk_seg dksX9_puts_1 24 rfl rfl
theorem dksX9_puts_3 : cX9_puts.data.toList.drop 71 = dktX9_puts_3 := dk_seg dksX9_puts_2 23 rfl rfl
theorem dX9_puts_0 : decode cX9_puts 0 = .ok (.aload_n 0, 1) := dk_42 (dk_at dksX9_puts_0 0 rfl rfl)
theorem dX9_puts_1 : decode cX9_puts 1 = .ok (.aload_n 1, 1) := dk_43 (dk_at dksX9_puts_0 1 rfl rfl)
theorem dX9_puts_2 : decode cX9_puts 2 = .ok (.iconst 0, 1) := dk_3 (dk_at dksX9_puts_0 2 rfl rfl)
theorem dX9_puts_3 : decode cX9_puts 3 = .ok (.iconst (-1), 1) := dk_2 (dk_at dksX9_puts_0 3 rfl rfl)
theorem dX9_puts_4 : decode cX9_puts 4 = .ok (.invokevirtual 270, 3) := dk_182 1 14 (dk_at dksX9_puts_0 4 rfl rfl)
theorem dX9_puts_7 : decode cX9_puts 7 = .ok (.istore_n 2, 1) := dk_61 (dk_at dksX9_puts_0 7 rfl rfl)
theorem dX9_puts_8 : decode cX9_puts 8 = .ok (.aload_n 0, 1) := dk_42 (dk_at dksX9_puts_0 8 rfl rfl)
theorem dX9_puts_9 : decode cX9_puts 9 = .ok (.aload_n 1, 1) := dk_43 (dk_at dksX9_puts_0 9 rfl rfl)
theorem dX9_puts_10 : decode cX9_puts 10 = .ok (.iload_n 2, 1) := dk_28 (dk_at dksX9_puts_0 10 rfl rfl)
theorem dX9_puts_11 : decode cX9_puts 11 = .ok (.invokevirtual 274, 3) := dk_182 1 18 (dk_at dksX9_puts_0 11 rfl rfl)
theorem dX9_puts_14 : decode cX9_puts 14 = .ok (.ifCond .ne 6, 3) := dk_154 0 6 (dk_at dksX9_puts_0 14 rfl rfl)
theorem dX9_puts_17 : decode cX9_puts 17 = .ok (.bipush (-2), 2) := dk_16 254 (dk_at dksX9_puts_0 17 rfl rfl)
theorem dX9_puts_19 : decode cX9_puts 19 = .ok (.ireturn, 1) := dk_172 (dk_at dksX9_puts_0 19 rfl rfl)
theorem dX9_puts_20 : decode cX9_puts 20 = .ok (.aload_n 0, 1) := dk_42 (dk_at dksX9_puts_0 20 rfl rfl)
theorem dX9_puts_21 : decode cX9_puts 21 = .ok (.aload_n 0, 1) := dk_42 (dk_at dksX9_puts_0 21 rfl rfl)
theorem dX9_puts_22 : decode cX9_puts 22 = .ok (.aload_n 1, 1) := dk_43 (dk_at dksX9_puts_0 22 rfl rfl)
theorem dX9_puts_23 : decode cX9_puts 23 = .ok (.iconst 0, 1) := dk_3 (dk_at dksX9_puts_0 23 rfl rfl)
theorem dX9_puts_24 : decode cX9_puts 24 = .ok (.invokevirtual 253, 3) := dk_182 0 253 (dk_at dksX9_puts_1 0 rfl rfl)
theorem dX9_puts_27 : decode cX9_puts 27 = .ok (.iload_n 2, 1) := dk_28 (dk_at dksX9_puts_1 3 rfl rfl)
theorem dX9_puts_28 : decode cX9_puts 28 = .ok (.iconst (-1), 1) := dk_2 (dk_at dksX9_puts_1 4 rfl rfl)
theorem dX9_puts_29 : decode cX9_puts 29 = .ok (.ixor, 1) := dk_130 (dk_at dksX9_puts_1 5 rfl rfl)
theorem dX9_puts_30 : decode cX9_puts 30 = .ok (.iand, 1) := dk_126 (dk_at dksX9_puts_1 6 rfl rfl)
theorem dX9_puts_31 : decode cX9_puts 31 = .ok (.putfield 317, 3) := dk_181 1 61 (dk_at dksX9_puts_1 7 rfl rfl)
theorem dX9_puts_34 : decode cX9_puts 34 = .ok (.iconst 0, 1) := dk_3 (dk_at dksX9_puts_1 10 rfl rfl)
theorem dX9_puts_35 : decode cX9_puts 35 = .ok (.istore_n 3, 1) := dk_62 (dk_at dksX9_puts_1 11 rfl rfl)
theorem dX9_puts_36 : decode cX9_puts 36 = .ok (.iload_n 3, 1) := dk_29 (dk_at dksX9_puts_1 12 rfl rfl)
theorem dX9_puts_37 : decode cX9_puts 37 = .ok (.aload_n 0, 1) := dk_42 (dk_at dksX9_puts_1 13 rfl rfl)
theorem dX9_puts_38 : decode cX9_puts 38 = .ok (.getfield 126, 3) := dk_180 0 126 (dk_at dksX9_puts_1 14 rfl rfl)
theorem dX9_puts_41 : decode cX9_puts 41 = .ok (.if_icmp .ge 36, 3) := dk_162 0 36 (dk_at dksX9_puts_1 17 rfl rfl)
theorem dX9_puts_44 : decode cX9_puts 44 = .ok (.aload_n 1, 1) := dk_43 (dk_at dksX9_puts_1 20 rfl rfl)
theorem dX9_puts_45 : decode cX9_puts 45 = .ok (.bipush 8, 2) := dk_16 8 (dk_at dksX9_puts_1 21 rfl rfl)
theorem dX9_puts_47 : decode cX9_puts 47 = .ok (.iload_n 3, 1) := dk_29 (dk_at dksX9_puts_1 23 rfl rfl)
theorem dX9_puts_48 : decode cX9_puts 48 = .ok (.iadd, 1) := dk_96 (dk_at dksX9_puts_2 0 rfl rfl)
theorem dX9_puts_49 : decode cX9_puts 49 = .ok (.aload_n 0, 1) := dk_42 (dk_at dksX9_puts_2 1 rfl rfl)
theorem dX9_puts_50 : decode cX9_puts 50 = .ok (.getfield 317, 3) := dk_180 1 61 (dk_at dksX9_puts_2 2 rfl rfl)
theorem dX9_puts_53 : decode cX9_puts 53 = .ok (.iload_n 3, 1) := dk_29 (dk_at dksX9_puts_2 5 rfl rfl)
theorem dX9_puts_54 : decode cX9_puts 54 = .ok (.invokestatic 257, 3) := dk_184 1 1 (dk_at dksX9_puts_2 6 rfl rfl)
theorem dX9_puts_57 : decode cX9_puts 57 = .ok (.ifCond .eq 7, 3) := dk_153 0 7 (dk_at dksX9_puts_2 9 rfl rfl)
theorem dX9_puts_60 : decode cX9_puts 60 = .ok (.iconst 2, 1) := dk_5 (dk_at dksX9_puts_2 12 rfl rfl)
theorem dX9_puts_61 : decode cX9_puts 61 = .ok (.goto 9, 3) := dk_167 0 9 (dk_at dksX9_puts_2 13 rfl rfl)
theorem dX9_puts_64 : decode cX9_puts 64 = .ok (.aload_n 1, 1) := dk_43 (dk_at dksX9_puts_2 16 rfl rfl)
theorem dX9_puts_65 : decode cX9_puts 65 = .ok (.bipush 8, 2) := dk_16 8 (dk_at dksX9_puts_2 17 rfl rfl)
theorem dX9_puts_67 : decode cX9_puts 67 = .ok (.iload_n 3, 1) := dk_29 (dk_at dksX9_puts_2 19 rfl rfl)
theorem dX9_puts_68 : decode cX9_puts 68 = .ok (.iadd, 1) := dk_96 (dk_at dksX9_puts_2 20 rfl rfl)
theorem dX9_puts_69 : decode cX9_puts 69 = .ok (.iaload, 1) := dk_46 (dk_at dksX9_puts_2 21 rfl rfl)
theorem dX9_puts_70 : decode cX9_puts 70 = .ok (.iastore, 1) := dk_79 (dk_at dksX9_puts_2 22 rfl rfl)
theorem dX9_puts_71 : decode cX9_puts 71 = .ok (.iinc 3 1, 3) := dk_132 3 1 (dk_at dksX9_puts_3 0 rfl rfl)
theorem dX9_puts_74 : decode cX9_puts 74 = .ok (.goto (-38), 3) := dk_167 255 218 (dk_at dksX9_puts_3 3 rfl rfl)
theorem dX9_puts_77 : decode cX9_puts 77 = .ok (.aload_n 0, 1) := dk_42 (dk_at dksX9_puts_3 6 rfl rfl)
theorem dX9_puts_78 : decode cX9_puts 78 = .ok (.getfield 317, 3) := dk_180 1 61 (dk_at dksX9_puts_3 7 rfl rfl)
theorem dX9_puts_81 : decode cX9_puts 81 = .ok (.invokestatic 261, 3) := dk_184 1 5 (dk_at dksX9_puts_3 10 rfl rfl)
theorem dX9_puts_84 : decode cX9_puts 84 = .ok (.ireturn, 1) := dk_172 (dk_at dksX9_puts_3 13 rfl rfl)
abbrev cX9_log : ByteArray := prog_15_method_66_code
def yX9_log : MethodName := ⟨RX9, "log", "()I"⟩
def dkwX9_log_6 : List UInt8 := [3, 172]
abbrev dktX9_log_6 : List UInt8 := dkwX9_log_6 ++ []
def dkwX9_log_5 : List UInt8 := [180, 0, 39, 16, 17, 46, 133, 182, 0, 122, 21, 4, 158, 0, 12, 42, 21, 4, 182, 1, 41, 167, 0, 4]
abbrev dktX9_log_5 : List UInt8 := dkwX9_log_5 ++ dktX9_log_6
def dkwX9_log_4 : List UInt8 := [21, 4, 42, 180, 1, 96, 162, 0, 7, 4, 167, 0, 4, 3, 184, 0, 154, 133, 182, 0, 122, 42, 42]
abbrev dktX9_log_4 : List UInt8 := dkwX9_log_4 ++ dktX9_log_5
def dkwX9_log_3 : List UInt8 := [162, 0, 18, 42, 21, 4, 182, 1, 106, 153, 0, 9, 132, 4, 1, 167, 255, 235, 42, 3, 181, 0, 119, 42]
abbrev dktX9_log_3 : List UInt8 := dkwX9_log_3 ++ dktX9_log_4
def dkwX9_log_2 : List UInt8 := [182, 0, 200, 62, 29, 156, 0, 5, 29, 172, 42, 182, 1, 64, 3, 54, 4, 21, 4, 42, 180, 1, 96]
abbrev dktX9_log_2 : List UInt8 := dkwX9_log_2 ++ dktX9_log_3
def dkwX9_log_1 : List UInt8 := [180, 0, 139, 42, 180, 0, 151, 162, 0, 11, 42, 182, 1, 103, 61, 167, 255, 236, 42, 27, 16, 60, 28]
abbrev dktX9_log_1 : List UInt8 := dkwX9_log_1 ++ dktX9_log_2
def dkwX9_log_0 : List UInt8 := [42, 3, 181, 0, 112, 42, 16, 60, 182, 0, 190, 60, 42, 3, 181, 1, 96, 4, 61, 28, 153, 0, 22, 42]
abbrev dktX9_log_0 : List UInt8 := dkwX9_log_0 ++ dktX9_log_1
theorem dksX9_log_0 : cX9_log.data.toList.drop 0 = dktX9_log_0 := by decide +kernel
theorem dksX9_log_1 : cX9_log.data.toList.drop 24 = dktX9_log_1 := dk_seg dksX9_log_0 24 rfl rfl
theorem dksX9_log_2 : cX9_log.data.toList.drop 47 = dktX9_log_2 := dk_seg dksX9_log_1 23 rfl rfl
theorem dksX9_log_3 : cX9_log.data.toList.drop 70 = dktX9_log_3 := dk_seg dksX9_log_2 23 rfl rfl
theorem dksX9_log_4 : cX9_log.data.toList.drop 94 = dktX9_log_4 := dk_seg dksX9_log_3 24 rfl rfl
theorem dksX9_log_5 : cX9_log.data.toList.drop 117 = dktX9_log_5 := dk_seg dksX9_log_4 23 rfl rfl
theorem dksX9_log_6 : cX9_log.data.toList.drop 141 = dktX9_log_6 := dk_seg dksX9_log_5 24 rfl rfl
theorem dX9_log_0 : decode cX9_log 0 = .ok (.aload_n 0, 1) := dk_42 (dk_at dksX9_log_0 0 rfl rfl)
theorem dX9_log_1 : decode cX9_log 1 = .ok (.iconst 0, 1) := dk_3 (dk_at dksX9_log_0 1 rfl rfl)
theorem dX9_log_2 : decode cX9_log 2 = .ok (.putfield 112, 3) := dk_181 0 112 (dk_at dksX9_log_0 2 rfl rfl)
theorem dX9_log_5 : decode cX9_log 5 = .ok (.aload_n 0, 1) := dk_42 (dk_at dksX9_log_0 5 rfl rfl)
theorem dX9_log_6 : decode cX9_log 6 = .ok (.bipush 60, 2) := dk_16 60 (dk_at dksX9_log_0 6 rfl rfl)
theorem dX9_log_8 : decode cX9_log 8 = .ok (.invokevirtual 190, 3) := dk_182 0 190 (dk_at dksX9_log_0 8 rfl rfl)
theorem dX9_log_11 : decode cX9_log 11 = .ok (.istore_n 1, 1) := dk_60 (dk_at dksX9_log_0 11 rfl rfl)
theorem dX9_log_12 : decode cX9_log 12 = .ok (.aload_n 0, 1) := dk_42 (dk_at dksX9_log_0 12 rfl rfl)
theorem dX9_log_13 : decode cX9_log 13 = .ok (.iconst 0, 1) := dk_3 (dk_at dksX9_log_0 13 rfl rfl)
theorem dX9_log_14 : decode cX9_log 14 = .ok (.putfield 352, 3) := dk_181 1 96 (dk_at dksX9_log_0 14 rfl rfl)
theorem dX9_log_17 : decode cX9_log 17 = .ok (.iconst 1, 1) := dk_4 (dk_at dksX9_log_0 17 rfl rfl)
theorem dX9_log_18 : decode cX9_log 18 = .ok (.istore_n 2, 1) := dk_61 (dk_at dksX9_log_0 18 rfl rfl)
theorem dX9_log_19 : decode cX9_log 19 = .ok (.iload_n 2, 1) := dk_28 (dk_at dksX9_log_0 19 rfl rfl)
theorem dX9_log_20 : decode cX9_log 20 = .ok (.ifCond .eq 22, 3) := dk_153 0 22 (dk_at dksX9_log_0 20 rfl rfl)
theorem dX9_log_23 : decode cX9_log 23 = .ok (.aload_n 0, 1) := dk_42 (dk_at dksX9_log_0 23 rfl rfl)
theorem dX9_log_24 : decode cX9_log 24 = .ok (.getfield 139, 3) := dk_180 0 139 (dk_at dksX9_log_1 0 rfl rfl)
theorem dX9_log_27 : decode cX9_log 27 = .ok (.aload_n 0, 1) := dk_42 (dk_at dksX9_log_1 3 rfl rfl)
theorem dX9_log_28 : decode cX9_log 28 = .ok (.getfield 151, 3) := dk_180 0 151 (dk_at dksX9_log_1 4 rfl rfl)
theorem dX9_log_31 : decode cX9_log 31 = .ok (.if_icmp .ge 11, 3) := dk_162 0 11 (dk_at dksX9_log_1 7 rfl rfl)
theorem dX9_log_34 : decode cX9_log 34 = .ok (.aload_n 0, 1) := dk_42 (dk_at dksX9_log_1 10 rfl rfl)
theorem dX9_log_35 : decode cX9_log 35 = .ok (.invokevirtual 359, 3) := dk_182 1 103 (dk_at dksX9_log_1 11 rfl rfl)
theorem dX9_log_38 : decode cX9_log 38 = .ok (.istore_n 2, 1) := dk_61 (dk_at dksX9_log_1 14 rfl rfl)
theorem dX9_log_39 : decode cX9_log 39 = .ok (.goto (-20), 3) := dk_167 255 236 (dk_at dksX9_log_1 15 rfl rfl)
theorem dX9_log_42 : decode cX9_log 42 = .ok (.aload_n 0, 1) := dk_42 (dk_at dksX9_log_1 18 rfl rfl)
theorem dX9_log_43 : decode cX9_log 43 = .ok (.iload_n 1, 1) := dk_27 (dk_at dksX9_log_1 19 rfl rfl)
theorem dX9_log_44 : decode cX9_log 44 = .ok (.bipush 60, 2) := dk_16 60 (dk_at dksX9_log_1 20 rfl rfl)
theorem dX9_log_46 : decode cX9_log 46 = .ok (.iload_n 2, 1) := dk_28 (dk_at dksX9_log_1 22 rfl rfl)
theorem dX9_log_47 : decode cX9_log 47 = .ok (.invokevirtual 200, 3) := dk_182 0 200 (dk_at dksX9_log_2 0 rfl rfl)
theorem dX9_log_50 : decode cX9_log 50 = .ok (.istore_n 3, 1) := dk_62 (dk_at dksX9_log_2 3 rfl rfl)
theorem dX9_log_51 : decode cX9_log 51 = .ok (.iload_n 3, 1) := dk_29 (dk_at dksX9_log_2 4 rfl rfl)
theorem dX9_log_52 : decode cX9_log 52 = .ok (.ifCond .ge 5, 3) := dk_156 0 5 (dk_at dksX9_log_2 5 rfl rfl)
theorem dX9_log_55 : decode cX9_log 55 = .ok (.iload_n 3, 1) := dk_29 (dk_at dksX9_log_2 8 rfl rfl)
theorem dX9_log_56 : decode cX9_log 56 = .ok (.ireturn, 1) := dk_172 (dk_at dksX9_log_2 9 rfl rfl)
theorem dX9_log_57 : decode cX9_log 57 = .ok (.aload_n 0, 1) := dk_42 (dk_at dksX9_log_2 10 rfl rfl)
theorem dX9_log_58 : decode cX9_log 58 = .ok (.invokevirtual 320, 3) := dk_182 1 64 (dk_at dksX9_log_2 11 rfl rfl)
theorem dX9_log_61 : decode cX9_log 61 = .ok (.iconst 0, 1) := dk_3 (dk_at dksX9_log_2 14 rfl rfl)
theorem dX9_log_62 : decode cX9_log 62 = .ok (.istore 4, 2) := dk_54 4 (dk_at dksX9_log_2 15 rfl rfl)
theorem dX9_log_64 : decode cX9_log 64 = .ok (.iload 4, 2) := dk_21 4 (dk_at dksX9_log_2 17 rfl rfl)
theorem dX9_log_66 : decode cX9_log 66 = .ok (.aload_n 0, 1) := dk_42 (dk_at dksX9_log_2 19 rfl rfl)
theorem dX9_log_67 : decode cX9_log 67 = .ok (.getfield 352, 3) := dk_180 1 96 (dk_at dksX9_log_2 20 rfl rfl)
theorem dX9_log_70 : decode cX9_log 70 = .ok (.if_icmp .ge 18, 3) := dk_162 0 18 (dk_at dksX9_log_3 0 rfl rfl)
theorem dX9_log_73 : decode cX9_log 73 = .ok (.aload_n 0, 1) := dk_42 (dk_at dksX9_log_3 3 rfl rfl)
theorem dX9_log_74 : decode cX9_log 74 = .ok (.iload 4, 2) := dk_21 4 (dk_at dksX9_log_3 4 rfl rfl)
theorem dX9_log_76 : decode cX9_log 76 = .ok (.invokevirtual 362, 3) := dk_182 1 106 (dk_at dksX9_log_3 6 rfl rfl)
theorem dX9_log_79 : decode cX9_log 79 = .ok (.ifCond .eq 9, 3) := dk_153 0 9 (dk_at dksX9_log_3 9 rfl rfl)
theorem dX9_log_82 : decode cX9_log 82 = .ok (.iinc 4 1, 3) := dk_132 4 1 (dk_at dksX9_log_3 12 rfl rfl)
theorem dX9_log_85 : decode cX9_log 85 = .ok (.goto (-21), 3) := dk_167 255 235 (dk_at dksX9_log_3 15 rfl rfl)
theorem dX9_log_88 : decode cX9_log 88 = .ok (.aload_n 0, 1) := dk_42 (dk_at dksX9_log_3 18 rfl rfl)
theorem dX9_log_89 : decode cX9_log 89 = .ok (.iconst 0, 1) := dk_3 (dk_at dksX9_log_3 19 rfl rfl)
theorem dX9_log_90 : decode cX9_log 90 = .ok (.putfield 119, 3) := dk_181 0 119 (dk_at dksX9_log_3 20 rfl rfl)
theorem dX9_log_93 : decode cX9_log 93 = .ok (.aload_n 0, 1) := dk_42 (dk_at dksX9_log_3 23 rfl rfl)
theorem dX9_log_94 : decode cX9_log 94 = .ok (.iload 4, 2) := dk_21 4 (dk_at dksX9_log_4 0 rfl rfl)
theorem dX9_log_96 : decode cX9_log 96 = .ok (.aload_n 0, 1) := dk_42 (dk_at dksX9_log_4 2 rfl rfl)
theorem dX9_log_97 : decode cX9_log 97 = .ok (.getfield 352, 3) := dk_180 1 96 (dk_at dksX9_log_4 3 rfl rfl)
theorem dX9_log_100 : decode cX9_log 100 = .ok (.if_icmp .ge 7, 3) := dk_162 0 7 (dk_at dksX9_log_4 6 rfl rfl)
theorem dX9_log_103 : decode cX9_log 103 = .ok (.iconst 1, 1) := dk_4 (dk_at dksX9_log_4 9 rfl rfl)
theorem dX9_log_104 : decode cX9_log 104 = .ok (.goto 4, 3) := dk_167 0 4 (dk_at dksX9_log_4 10 rfl rfl)
theorem dX9_log_107 : decode cX9_log 107 = .ok (.iconst 0, 1) := dk_3 (dk_at dksX9_log_4 13 rfl rfl)
theorem dX9_log_108 : decode cX9_log 108 = .ok (.invokestatic 154, 3) := dk_184 0 154 (dk_at dksX9_log_4 14 rfl rfl)
theorem dX9_log_111 : decode cX9_log 111 = .ok (.i2l, 1) := dk_133 (dk_at dksX9_log_4 17 rfl rfl)
theorem dX9_log_112 : decode cX9_log 112 = .ok (.invokevirtual 122, 3) := dk_182 0 122 (dk_at dksX9_log_4 18 rfl rfl)
theorem dX9_log_115 : decode cX9_log 115 = .ok (.aload_n 0, 1) := dk_42 (dk_at dksX9_log_4 21 rfl rfl)
theorem dX9_log_116 : decode cX9_log 116 = .ok (.aload_n 0, 1) := dk_42 (dk_at dksX9_log_4 22 rfl rfl)
theorem dX9_log_117 : decode cX9_log 117 = .ok (.getfield 39, 3) := dk_180 0 39 (dk_at dksX9_log_5 0 rfl rfl)
theorem dX9_log_120 : decode cX9_log 120 = .ok (.bipush 17, 2) := dk_16 17 (dk_at dksX9_log_5 3 rfl rfl)
theorem dX9_log_122 : decode cX9_log 122 = .ok (.iaload, 1) := dk_46 (dk_at dksX9_log_5 5 rfl rfl)
theorem dX9_log_123 : decode cX9_log 123 = .ok (.i2l, 1) := dk_133 (dk_at dksX9_log_5 6 rfl rfl)
theorem dX9_log_124 : decode cX9_log 124 = .ok (.invokevirtual 122, 3) := dk_182 0 122 (dk_at dksX9_log_5 7 rfl rfl)
theorem dX9_log_127 : decode cX9_log 127 = .ok (.iload 4, 2) := dk_21 4 (dk_at dksX9_log_5 10 rfl rfl)
theorem dX9_log_129 : decode cX9_log 129 = .ok (.ifCond .le 12, 3) := dk_158 0 12 (dk_at dksX9_log_5 12 rfl rfl)
theorem dX9_log_132 : decode cX9_log 132 = .ok (.aload_n 0, 1) := dk_42 (dk_at dksX9_log_5 15 rfl rfl)
theorem dX9_log_133 : decode cX9_log 133 = .ok (.iload 4, 2) := dk_21 4 (dk_at dksX9_log_5 16 rfl rfl)
theorem dX9_log_135 : decode cX9_log 135 = .ok (.invokevirtual 297, 3) := dk_182 1 41 (dk_at dksX9_log_5 18 rfl rfl)
theorem dX9_log_138 : decode cX9_log 138 = .ok (.goto 4, 3) := dk_167 0 4 (dk_at dksX9_log_5 21 rfl rfl)
theorem dX9_log_141 : decode cX9_log 141 = .ok (.iconst 0, 1) := dk_3 (dk_at dksX9_log_6 0 rfl rfl)
theorem dX9_log_142 : decode cX9_log 142 = .ok (.ireturn, 1) := dk_172 (dk_at dksX9_log_6 1 rfl rfl)
abbrev cX9_readsAct : ByteArray := prog_15_method_64_code
def yX9_readsAct : MethodName := ⟨RX9, "readsAct", "()Z"⟩
def dkwX9_readsAct_9 : List UInt8 := [46, 8, 160, 0, 7, 4, 167, 0, 4, 3, 172]
abbrev dktX9_readsAct_9 : List UInt8 := dkwX9_readsAct_9 ++ []
def dkwX9_readsAct_8 : List UInt8 := [182, 0, 212, 79, 42, 180, 0, 72, 27, 46, 155, 0, 7, 4, 167, 0, 4, 3, 172, 42, 180, 0, 69, 27]
abbrev dktX9_readsAct_8 : List UInt8 := dkwX9_readsAct_8 ++ dktX9_readsAct_9
def dkwX9_readsAct_7 : List UInt8 := [180, 0, 75, 27, 46, 155, 0, 7, 4, 167, 0, 4, 3, 172, 42, 180, 0, 72, 27, 42, 19, 1, 101]
abbrev dktX9_readsAct_7 : List UInt8 := dkwX9_readsAct_7 ++ dktX9_readsAct_8
def dkwX9_readsAct_6 : List UInt8 := [42, 180, 0, 72, 27, 46, 156, 0, 7, 2, 167, 0, 10, 42, 4, 16, 9, 182, 0, 187, 79, 42]
abbrev dktX9_readsAct_6 : List UInt8 := dkwX9_readsAct_6 ++ dktX9_readsAct_7
def dkwX9_readsAct_5 : List UInt8 := [4, 167, 0, 4, 3, 172, 42, 180, 0, 72, 27, 42, 19, 1, 101, 182, 0, 212, 79, 42, 180, 0, 75, 27]
abbrev dktX9_readsAct_5 : List UInt8 := dkwX9_readsAct_5 ++ dktX9_readsAct_6
def dkwX9_readsAct_4 : List UInt8 := [3, 172, 42, 180, 0, 72, 27, 42, 4, 16, 9, 182, 0, 187, 79, 42, 180, 0, 72, 27, 46, 155, 0, 7]
abbrev dktX9_readsAct_4 : List UInt8 := dkwX9_readsAct_4 ++ dktX9_readsAct_5
def dkwX9_readsAct_3 : List UInt8 := [42, 180, 0, 72, 27, 42, 4, 182, 0, 183, 79, 42, 180, 0, 72, 27, 46, 155, 0, 7, 4, 167, 0, 4]
abbrev dktX9_readsAct_3 : List UInt8 := dkwX9_readsAct_3 ++ dktX9_readsAct_4
def dkwX9_readsAct_2 : List UInt8 := [170, 0, 0, 0, 0, 182, 0, 0, 0, 0, 0, 0, 0, 7, 0, 0, 0, 46, 0, 0, 0, 72, 0, 0, 0, 100, 0, 0, 0, 100, 0, 0, 0, 154, 0, 0, 0, 182, 0, 0, 0, 46, 0, 0, 0, 46]
abbrev dktX9_readsAct_2 : List UInt8 := dkwX9_readsAct_2 ++ dktX9_readsAct_3
def dkwX9_readsAct_1 : List UInt8 := [96, 181, 1, 96, 42, 180, 0, 69, 27, 46]
abbrev dktX9_readsAct_1 : List UInt8 := dkwX9_readsAct_1 ++ dktX9_readsAct_2
def dkwX9_readsAct_0 : List UInt8 := [42, 180, 1, 96, 60, 42, 180, 0, 69, 27, 42, 19, 1, 99, 182, 0, 212, 79, 42, 89, 180, 1, 96, 4]
abbrev dktX9_readsAct_0 : List UInt8 := dkwX9_readsAct_0 ++ dktX9_readsAct_1
theorem dksX9_readsAct_0 : cX9_readsAct.data.toList.drop 0 = dktX9_readsAct_0 := by decide +kernel
theorem dksX9_readsAct_1 : cX9_readsAct.data.toList.drop 24 = dktX9_readsAct_1 := dk_seg dksX9_readsAct_0 24 rfl rfl
theorem dksX9_readsAct_2 : cX9_readsAct.data.toList.drop 34 = dktX9_readsAct_2 := dk_seg dksX9_readsAct_1 10 rfl rfl
theorem dksX9_readsAct_3 : cX9_readsAct.data.toList.drop 80 = dktX9_readsAct_3 := dk_seg dksX9_readsAct_2 46 rfl rfl
theorem dksX9_readsAct_4 : cX9_readsAct.data.toList.drop 104 = dktX9_readsAct_4 := dk_seg dksX9_readsAct_3 24 rfl rfl
theorem dksX9_readsAct_5 : cX9_readsAct.data.toList.drop 128 = dktX9_readsAct_5 := dk_seg dksX9_readsAct_4 24 rfl rfl
theorem dksX9_readsAct_6 : cX9_readsAct.data.toList.drop 152 = dktX9_readsAct_6 := dk_seg dksX9_readsAct_5 24 rfl rfl
theorem dksX9_readsAct_7 : cX9_readsAct.data.toList.drop 174 = dktX9_readsAct_7 := dk_seg dksX9_readsAct_6 22 rfl rfl
theorem dksX9_readsAct_8 : cX9_readsAct.data.toList.drop 197 = dktX9_readsAct_8 := dk_seg dksX9_readsAct_7 23 rfl rfl
theorem dksX9_readsAct_9 : cX9_readsAct.data.toList.drop 221 = dktX9_readsAct_9 := dk_seg dksX9_readsAct_8 24 rfl rfl
theorem dX9_readsAct_0 : decode cX9_readsAct 0 = .ok (.aload_n 0, 1) := dk_42 (dk_at dksX9_readsAct_0 0 rfl rfl)
theorem dX9_readsAct_1 : decode cX9_readsAct 1 = .ok (.getfield 352, 3) := dk_180 1 96 (dk_at dksX9_readsAct_0 1 rfl rfl)
theorem dX9_readsAct_4 : decode cX9_readsAct 4 = .ok (.istore_n 1, 1) := dk_60 (dk_at dksX9_readsAct_0 4 rfl rfl)
theorem dX9_readsAct_5 : decode cX9_readsAct 5 = .ok (.aload_n 0, 1) := dk_42 (dk_at dksX9_readsAct_0 5 rfl rfl)
theorem dX9_readsAct_6 : decode cX9_readsAct 6 = .ok (.getfield 69, 3) := dk_180 0 69 (dk_at dksX9_readsAct_0 6 rfl rfl)
theorem dX9_readsAct_9 : decode cX9_readsAct 9 = .ok (.iload_n 1, 1) := dk_27 (dk_at dksX9_readsAct_0 9 rfl rfl)
theorem dX9_readsAct_10 : decode cX9_readsAct 10 = .ok (.aload_n 0, 1) := dk_42 (dk_at dksX9_readsAct_0 10 rfl rfl)
theorem dX9_readsAct_11 : decode cX9_readsAct 11 = .ok (.ldc_w 355, 3) := dk_19 1 99 (dk_at dksX9_readsAct_0 11 rfl rfl)
theorem dX9_readsAct_14 : decode cX9_readsAct 14 = .ok (.invokevirtual 212, 3) := dk_182 0 212 (dk_at dksX9_readsAct_0 14 rfl rfl)
theorem dX9_readsAct_17 : decode cX9_readsAct 17 = .ok (.iastore, 1) := dk_79 (dk_at dksX9_readsAct_0 17 rfl rfl)
theorem dX9_readsAct_18 : decode cX9_readsAct 18 = .ok (.aload_n 0, 1) := dk_42 (dk_at dksX9_readsAct_0 18 rfl rfl)
theorem dX9_readsAct_19 : decode cX9_readsAct 19 = .ok (.dup, 1) := dk_89 (dk_at dksX9_readsAct_0 19 rfl rfl)
theorem dX9_readsAct_20 : decode cX9_readsAct 20 = .ok (.getfield 352, 3) := dk_180 1 96 (dk_at dksX9_readsAct_0 20 rfl rfl)
theorem dX9_readsAct_23 : decode cX9_readsAct 23 = .ok (.iconst 1, 1) := dk_4 (dk_at dksX9_readsAct_0 23 rfl rfl)
theorem dX9_readsAct_24 : decode cX9_readsAct 24 = .ok (.iadd, 1) := dk_96 (dk_at dksX9_readsAct_1 0 rfl rfl)
theorem dX9_readsAct_25 : decode cX9_readsAct 25 = .ok (.putfield 352, 3) := dk_181 1 96 (dk_at dksX9_readsAct_1 1 rfl rfl)
theorem dX9_readsAct_28 : decode cX9_readsAct 28 = .ok (.aload_n 0, 1) := dk_42 (dk_at dksX9_readsAct_1 4 rfl rfl)
theorem dX9_readsAct_29 : decode cX9_readsAct 29 = .ok (.getfield 69, 3) := dk_180 0 69 (dk_at dksX9_readsAct_1 5 rfl rfl)
theorem dX9_readsAct_32 : decode cX9_readsAct 32 = .ok (.iload_n 1, 1) := dk_27 (dk_at dksX9_readsAct_1 8 rfl rfl)
theorem dX9_readsAct_33 : decode cX9_readsAct 33 = .ok (.iaload, 1) := dk_46 (dk_at dksX9_readsAct_1 9 rfl rfl)
theorem dX9_readsAct_34 : decode cX9_readsAct 34 = .ok (.tableswitch 182 0 7 #[46, 72, 100, 100, 154, 182, 46, 46], 46) := by decide +kernel
theorem dX9_readsAct_80 : decode cX9_readsAct 80 = .ok (.aload_n 0, 1) := dk_42 (dk_at dksX9_readsAct_3 0 rfl rfl)
theorem dX9_readsAct_81 : decode cX9_readsAct 81 = .ok (.getfield 72, 3) := dk_180 0 72 (dk_at dksX9_readsAct_3 1 rfl rfl)
theorem dX9_readsAct_84 : decode cX9_readsAct 84 = .ok (.iload_n 1, 1) := dk_27 (dk_at dksX9_readsAct_3 4 rfl rfl)
theorem dX9_readsAct_85 : decode cX9_readsAct 85 = .ok (.aload_n 0, 1) := dk_42 (dk_at dksX9_readsAct_3 5 rfl rfl)
theorem dX9_readsAct_86 : decode cX9_readsAct 86 = .ok (.iconst 1, 1) := dk_4 (dk_at dksX9_readsAct_3 6 rfl rfl)
theorem dX9_readsAct_87 : decode cX9_readsAct 87 = .ok (.invokevirtual 183, 3) := dk_182 0 183 (dk_at dksX9_readsAct_3 7 rfl rfl)
theorem dX9_readsAct_90 : decode cX9_readsAct 90 = .ok (.iastore, 1) := dk_79 (dk_at dksX9_readsAct_3 10 rfl rfl)
theorem dX9_readsAct_91 : decode cX9_readsAct 91 = .ok (.aload_n 0, 1) := dk_42 (dk_at dksX9_readsAct_3 11 rfl rfl)
theorem dX9_readsAct_92 : decode cX9_readsAct 92 = .ok (.getfield 72, 3) := dk_180 0 72 (dk_at dksX9_readsAct_3 12 rfl rfl)
theorem dX9_readsAct_95 : decode cX9_readsAct 95 = .ok (.iload_n 1, 1) := dk_27 (dk_at dksX9_readsAct_3 15 rfl rfl)
theorem dX9_readsAct_96 : decode cX9_readsAct 96 = .ok (.iaload, 1) := dk_46 (dk_at dksX9_readsAct_3 16 rfl rfl)
theorem dX9_readsAct_97 : decode cX9_readsAct 97 = .ok (.ifCond .lt 7, 3) := dk_155 0 7 (dk_at dksX9_readsAct_3 17 rfl rfl)
theorem dX9_readsAct_100 : decode cX9_readsAct 100 = .ok (.iconst 1, 1) := dk_4 (dk_at dksX9_readsAct_3 20 rfl rfl)
theorem dX9_readsAct_101 : decode cX9_readsAct 101 = .ok (.goto 4, 3) := dk_167 0 4 (dk_at dksX9_readsAct_3 21 rfl rfl)
theorem dX9_readsAct_104 : decode cX9_readsAct 104 = .ok (.iconst 0, 1) := dk_3 (dk_at dksX9_readsAct_4 0 rfl rfl)
theorem dX9_readsAct_105 : decode cX9_readsAct 105 = .ok (.ireturn, 1) := dk_172 (dk_at dksX9_readsAct_4 1 rfl rfl)
theorem dX9_readsAct_106 : decode cX9_readsAct 106 = .ok (.aload_n 0, 1) := dk_42 (dk_at dksX9_readsAct_4 2 rfl rfl)
theorem dX9_readsAct_107 : decode cX9_readsAct 107 = .ok (.getfield 72, 3) := dk_180 0 72 (dk_at dksX9_readsAct_4 3 rfl rfl)
theorem dX9_readsAct_110 : decode cX9_readsAct 110 = .ok (.iload_n 1, 1) := dk_27 (dk_at dksX9_readsAct_4 6 rfl rfl)
theorem dX9_readsAct_111 : decode cX9_readsAct 111 = .ok (.aload_n 0, 1) := dk_42 (dk_at dksX9_readsAct_4 7 rfl rfl)
theorem dX9_readsAct_112 : decode cX9_readsAct 112 = .ok (.iconst 1, 1) := dk_4 (dk_at dksX9_readsAct_4 8 rfl rfl)
theorem dX9_readsAct_113 : decode cX9_readsAct 113 = .ok (.bipush 9, 2) := dk_16 9 (dk_at dksX9_readsAct_4 9 rfl rfl)
theorem dX9_readsAct_115 : decode cX9_readsAct 115 = .ok (.invokevirtual 187, 3) := dk_182 0 187 (dk_at dksX9_readsAct_4 11 rfl rfl)
theorem dX9_readsAct_118 : decode cX9_readsAct 118 = .ok (.iastore, 1) := dk_79 (dk_at dksX9_readsAct_4 14 rfl rfl)
theorem dX9_readsAct_119 : decode cX9_readsAct 119 = .ok (.aload_n 0, 1) := dk_42 (dk_at dksX9_readsAct_4 15 rfl rfl)
theorem dX9_readsAct_120 : decode cX9_readsAct 120 = .ok (.getfield 72, 3) := dk_180 0 72 (dk_at dksX9_readsAct_4 16 rfl rfl)
theorem dX9_readsAct_123 : decode cX9_readsAct 123 = .ok (.iload_n 1, 1) := dk_27 (dk_at dksX9_readsAct_4 19 rfl rfl)
theorem dX9_readsAct_124 : decode cX9_readsAct 124 = .ok (.iaload, 1) := dk_46 (dk_at dksX9_readsAct_4 20 rfl rfl)
theorem dX9_readsAct_125 : decode cX9_readsAct 125 = .ok (.ifCond .lt 7, 3) := dk_155 0 7 (dk_at dksX9_readsAct_4 21 rfl rfl)
theorem dX9_readsAct_128 : decode cX9_readsAct 128 = .ok (.iconst 1, 1) := dk_4 (dk_at dksX9_readsAct_5 0 rfl rfl)
theorem dX9_readsAct_129 : decode cX9_readsAct 129 = .ok (.goto 4, 3) := dk_167 0 4 (dk_at dksX9_readsAct_5 1 rfl rfl)
theorem dX9_readsAct_132 : decode cX9_readsAct 132 = .ok (.iconst 0, 1) := dk_3 (dk_at dksX9_readsAct_5 4 rfl rfl)
theorem dX9_readsAct_133 : decode cX9_readsAct 133 = .ok (.ireturn, 1) := dk_172 (dk_at dksX9_readsAct_5 5 rfl rfl)
theorem dX9_readsAct_134 : decode cX9_readsAct 134 = .ok (.aload_n 0, 1) := dk_42 (dk_at dksX9_readsAct_5 6 rfl rfl)
theorem dX9_readsAct_135 : decode cX9_readsAct 135 = .ok (.getfield 72, 3) := dk_180 0 72 (dk_at dksX9_readsAct_5 7 rfl rfl)
theorem dX9_readsAct_138 : decode cX9_readsAct 138 = .ok (.iload_n 1, 1) := dk_27 (dk_at dksX9_readsAct_5 10 rfl rfl)
theorem dX9_readsAct_139 : decode cX9_readsAct 139 = .ok (.aload_n 0, 1) := dk_42 (dk_at dksX9_readsAct_5 11 rfl rfl)
theorem dX9_readsAct_140 : decode cX9_readsAct 140 = .ok (.ldc_w 357, 3) := dk_19 1 101 (dk_at dksX9_readsAct_5 12 rfl rfl)
theorem dX9_readsAct_143 : decode cX9_readsAct 143 = .ok (.invokevirtual 212, 3) := dk_182 0 212 (dk_at dksX9_readsAct_5 15 rfl rfl)
theorem dX9_readsAct_146 : decode cX9_readsAct 146 = .ok (.iastore, 1) := dk_79 (dk_at dksX9_readsAct_5 18 rfl rfl)
theorem dX9_readsAct_147 : decode cX9_readsAct 147 = .ok (.aload_n 0, 1) := dk_42 (dk_at dksX9_readsAct_5 19 rfl rfl)
theorem dX9_readsAct_148 : decode cX9_readsAct 148 = .ok (.getfield 75, 3) := dk_180 0 75 (dk_at dksX9_readsAct_5 20 rfl rfl)
theorem dX9_readsAct_151 : decode cX9_readsAct 151 = .ok (.iload_n 1, 1) := dk_27 (dk_at dksX9_readsAct_5 23 rfl rfl)
theorem dX9_readsAct_152 : decode cX9_readsAct 152 = .ok (.aload_n 0, 1) := dk_42 (dk_at dksX9_readsAct_6 0 rfl rfl)
theorem dX9_readsAct_153 : decode cX9_readsAct 153 = .ok (.getfield 72, 3) := dk_180 0 72 (dk_at dksX9_readsAct_6 1 rfl rfl)
theorem dX9_readsAct_156 : decode cX9_readsAct 156 = .ok (.iload_n 1, 1) := dk_27 (dk_at dksX9_readsAct_6 4 rfl rfl)
theorem dX9_readsAct_157 : decode cX9_readsAct 157 = .ok (.iaload, 1) := dk_46 (dk_at dksX9_readsAct_6 5 rfl rfl)
theorem dX9_readsAct_158 : decode cX9_readsAct 158 = .ok (.ifCond .ge 7, 3) := dk_156 0 7 (dk_at dksX9_readsAct_6 6 rfl rfl)
theorem dX9_readsAct_161 : decode cX9_readsAct 161 = .ok (.iconst (-1), 1) := dk_2 (dk_at dksX9_readsAct_6 9 rfl rfl)
theorem dX9_readsAct_162 : decode cX9_readsAct 162 = .ok (.goto 10, 3) := dk_167 0 10 (dk_at dksX9_readsAct_6 10 rfl rfl)
theorem dX9_readsAct_165 : decode cX9_readsAct 165 = .ok (.aload_n 0, 1) := dk_42 (dk_at dksX9_readsAct_6 13 rfl rfl)
theorem dX9_readsAct_166 : decode cX9_readsAct 166 = .ok (.iconst 1, 1) := dk_4 (dk_at dksX9_readsAct_6 14 rfl rfl)
theorem dX9_readsAct_167 : decode cX9_readsAct 167 = .ok (.bipush 9, 2) := dk_16 9 (dk_at dksX9_readsAct_6 15 rfl rfl)
theorem dX9_readsAct_169 : decode cX9_readsAct 169 = .ok (.invokevirtual 187, 3) := dk_182 0 187 (dk_at dksX9_readsAct_6 17 rfl rfl)
theorem dX9_readsAct_172 : decode cX9_readsAct 172 = .ok (.iastore, 1) := dk_79 (dk_at dksX9_readsAct_6 20 rfl rfl)
theorem dX9_readsAct_173 : decode cX9_readsAct 173 = .ok (.aload_n 0, 1) := dk_42 (dk_at dksX9_readsAct_6 21 rfl rfl)
theorem dX9_readsAct_174 : decode cX9_readsAct 174 = .ok (.getfield 75, 3) := dk_180 0 75 (dk_at dksX9_readsAct_7 0 rfl rfl)
theorem dX9_readsAct_177 : decode cX9_readsAct 177 = .ok (.iload_n 1, 1) := dk_27 (dk_at dksX9_readsAct_7 3 rfl rfl)
theorem dX9_readsAct_178 : decode cX9_readsAct 178 = .ok (.iaload, 1) := dk_46 (dk_at dksX9_readsAct_7 4 rfl rfl)
theorem dX9_readsAct_179 : decode cX9_readsAct 179 = .ok (.ifCond .lt 7, 3) := dk_155 0 7 (dk_at dksX9_readsAct_7 5 rfl rfl)
theorem dX9_readsAct_182 : decode cX9_readsAct 182 = .ok (.iconst 1, 1) := dk_4 (dk_at dksX9_readsAct_7 8 rfl rfl)
theorem dX9_readsAct_183 : decode cX9_readsAct 183 = .ok (.goto 4, 3) := dk_167 0 4 (dk_at dksX9_readsAct_7 9 rfl rfl)
theorem dX9_readsAct_186 : decode cX9_readsAct 186 = .ok (.iconst 0, 1) := dk_3 (dk_at dksX9_readsAct_7 12 rfl rfl)
theorem dX9_readsAct_187 : decode cX9_readsAct 187 = .ok (.ireturn, 1) := dk_172 (dk_at dksX9_readsAct_7 13 rfl rfl)
theorem dX9_readsAct_188 : decode cX9_readsAct 188 = .ok (.aload_n 0, 1) := dk_42 (dk_at dksX9_readsAct_7 14 rfl rfl)
theorem dX9_readsAct_189 : decode cX9_readsAct 189 = .ok (.getfield 72, 3) := dk_180 0 72 (dk_at dksX9_readsAct_7 15 rfl rfl)
theorem dX9_readsAct_192 : decode cX9_readsAct 192 = .ok (.iload_n 1, 1) := dk_27 (dk_at dksX9_readsAct_7 18 rfl rfl)
theorem dX9_readsAct_193 : decode cX9_readsAct 193 = .ok (.aload_n 0, 1) := dk_42 (dk_at dksX9_readsAct_7 19 rfl rfl)
theorem dX9_readsAct_194 : decode cX9_readsAct 194 = .ok (.ldc_w 357, 3) := dk_19 1 101 (dk_at dksX9_readsAct_7 20 rfl rfl)
theorem dX9_readsAct_197 : decode cX9_readsAct 197 = .ok (.invokevirtual 212, 3) := dk_182 0 212 (dk_at dksX9_readsAct_8 0 rfl rfl)
theorem dX9_readsAct_200 : decode cX9_readsAct 200 = .ok (.iastore, 1) := dk_79 (dk_at dksX9_readsAct_8 3 rfl rfl)
theorem dX9_readsAct_201 : decode cX9_readsAct 201 = .ok (.aload_n 0, 1) := dk_42 (dk_at dksX9_readsAct_8 4 rfl rfl)
theorem dX9_readsAct_202 : decode cX9_readsAct 202 = .ok (.getfield 72, 3) := dk_180 0 72 (dk_at dksX9_readsAct_8 5 rfl rfl)
theorem dX9_readsAct_205 : decode cX9_readsAct 205 = .ok (.iload_n 1, 1) := dk_27 (dk_at dksX9_readsAct_8 8 rfl rfl)
theorem dX9_readsAct_206 : decode cX9_readsAct 206 = .ok (.iaload, 1) := dk_46 (dk_at dksX9_readsAct_8 9 rfl rfl)
theorem dX9_readsAct_207 : decode cX9_readsAct 207 = .ok (.ifCond .lt 7, 3) := dk_155 0 7 (dk_at dksX9_readsAct_8 10 rfl rfl)
theorem dX9_readsAct_210 : decode cX9_readsAct 210 = .ok (.iconst 1, 1) := dk_4 (dk_at dksX9_readsAct_8 13 rfl rfl)
theorem dX9_readsAct_211 : decode cX9_readsAct 211 = .ok (.goto 4, 3) := dk_167 0 4 (dk_at dksX9_readsAct_8 14 rfl rfl)
theorem dX9_readsAct_214 : decode cX9_readsAct 214 = .ok (.iconst 0, 1) := dk_3 (dk_at dksX9_readsAct_8 17 rfl rfl)
theorem dX9_readsAct_215 : decode cX9_readsAct 215 = .ok (.ireturn, 1) := dk_172 (dk_at dksX9_readsAct_8 18 rfl rfl)
theorem dX9_readsAct_216 : decode cX9_readsAct 216 = .ok (.aload_n 0, 1) := dk_42 (dk_at dksX9_readsAct_8 19 rfl rfl)
theorem dX9_readsAct_217 : decode cX9_readsAct 217 = .ok (.getfield 69, 3) := dk_180 0 69 (dk_at dksX9_readsAct_8 20 rfl rfl)
theorem dX9_readsAct_220 : decode cX9_readsAct 220 = .ok (.iload_n 1, 1) := dk_27 (dk_at dksX9_readsAct_8 23 rfl rfl)
theorem dX9_readsAct_221 : decode cX9_readsAct 221 = .ok (.iaload, 1) := dk_46 (dk_at dksX9_readsAct_9 0 rfl rfl)
theorem dX9_readsAct_222 : decode cX9_readsAct 222 = .ok (.iconst 5, 1) := dk_8 (dk_at dksX9_readsAct_9 1 rfl rfl)
theorem dX9_readsAct_223 : decode cX9_readsAct 223 = .ok (.if_icmp .ne 7, 3) := dk_160 0 7 (dk_at dksX9_readsAct_9 2 rfl rfl)
theorem dX9_readsAct_226 : decode cX9_readsAct 226 = .ok (.iconst 1, 1) := dk_4 (dk_at dksX9_readsAct_9 5 rfl rfl)
theorem dX9_readsAct_227 : decode cX9_readsAct 227 = .ok (.goto 4, 3) := dk_167 0 4 (dk_at dksX9_readsAct_9 6 rfl rfl)
theorem dX9_readsAct_230 : decode cX9_readsAct 230 = .ok (.iconst 0, 1) := dk_3 (dk_at dksX9_readsAct_9 9 rfl rfl)
theorem dX9_readsAct_231 : decode cX9_readsAct 231 = .ok (.ireturn, 1) := dk_172 (dk_at dksX9_readsAct_9 10 rfl rfl)
abbrev cX9_does : ByteArray := prog_15_method_65_code
def yX9_does : MethodName := ⟨RX9, "does", "(I)Z"⟩
def dkwX9_does_7 : List UInt8 := [27, 46, 16, 6, 100, 28, 182, 1, 67, 155, 0, 7, 4, 167, 0, 4, 3, 172]
abbrev dktX9_does_7 : List UInt8 := dkwX9_does_7 ++ []
def dkwX9_does_6 : List UInt8 := [3, 172, 42, 42, 180, 0, 39, 182, 1, 92, 155, 0, 7, 4, 167, 0, 4, 3, 172, 42, 42, 180, 0, 69]
abbrev dktX9_does_6 : List UInt8 := dkwX9_does_6 ++ dktX9_does_7
def dkwX9_does_5 : List UInt8 := [182, 1, 86, 155, 0, 7, 4, 167, 0, 4, 3, 172, 42, 28, 182, 1, 89, 155, 0, 7, 4, 167, 0, 4]
abbrev dktX9_does_5 : List UInt8 := dkwX9_does_5 ++ dktX9_does_6
def dkwX9_does_4 : List UInt8 := [155, 0, 7, 4, 167, 0, 4, 3, 172, 42, 42, 180, 0, 39, 28, 42, 180, 0, 75, 27, 46, 116]
abbrev dktX9_does_4 : List UInt8 := dkwX9_does_4 ++ dktX9_does_5
def dkwX9_does_3 : List UInt8 := [155, 0, 7, 4, 167, 0, 4, 3, 172, 42, 42, 180, 0, 39, 28, 42, 180, 0, 75, 27, 46, 182, 1, 86]
abbrev dktX9_does_3 : List UInt8 := dkwX9_does_3 ++ dktX9_does_4
def dkwX9_does_2 : List UInt8 := [42, 42, 180, 0, 39, 28, 182, 1, 75, 87, 4, 172, 42, 42, 180, 0, 39, 16, 10, 28, 104, 182, 1, 80]
abbrev dktX9_does_2 : List UInt8 := dkwX9_does_2 ++ dktX9_does_3
def dkwX9_does_1 : List UInt8 := [170, 0, 0, 0, 0, 0, 152, 0, 0, 0, 0, 0, 0, 0, 5, 0, 0, 0, 39, 0, 0, 0, 51, 0, 0, 0, 72, 0, 0, 0, 96, 0, 0, 0, 121, 0, 0, 0, 135]
abbrev dktX9_does_1 : List UInt8 := dkwX9_does_1 ++ dktX9_does_2
def dkwX9_does_0 : List UInt8 := [42, 180, 0, 72, 27, 46, 61, 42, 180, 0, 69, 27, 46]
abbrev dktX9_does_0 : List UInt8 := dkwX9_does_0 ++ dktX9_does_1
theorem dksX9_does_0 : cX9_does.data.toList.drop 0 = dktX9_does_0 := by decide +kernel
theorem dksX9_does_1 : cX9_does.data.toList.drop 13 = dktX9_does_1 := dk_seg dksX9_does_0 13 rfl rfl
theorem dksX9_does_2 : cX9_does.data.toList.drop 52 = dktX9_does_2 := dk_seg dksX9_does_1 39 rfl rfl
theorem dksX9_does_3 : cX9_does.data.toList.drop 76 = dktX9_does_3 := dk_seg dksX9_does_2 24 rfl rfl
theorem dksX9_does_4 : cX9_does.data.toList.drop 100 = dktX9_does_4 := dk_seg dksX9_does_3 24 rfl rfl
theorem dksX9_does_5 : cX9_does.data.toList.drop 122 = dktX9_does_5 := dk_seg dksX9_does_4 22 rfl rfl
theorem dksX9_does_6 : cX9_does.data.toList.drop 146 = dktX9_does_6 := dk_seg dksX9_does_5 24 rfl rfl
theorem dksX9_does_7 : cX9_does.data.toList.drop 170 = dktX9_does_7 := dk_seg dksX9_does_6 24 rfl rfl
theorem dX9_does_0 : decode cX9_does 0 = .ok (.aload_n 0, 1) := dk_42 (dk_at dksX9_does_0 0 rfl rfl)
theorem dX9_does_1 : decode cX9_does 1 = .ok (.getfield 72, 3) := dk_180 0 72 (dk_at dksX9_does_0 1 rfl rfl)
theorem dX9_does_4 : decode cX9_does 4 = .ok (.iload_n 1, 1) := dk_27 (dk_at dksX9_does_0 4 rfl rfl)
theorem dX9_does_5 : decode cX9_does 5 = .ok (.iaload, 1) := dk_46 (dk_at dksX9_does_0 5 rfl rfl)
theorem dX9_does_6 : decode cX9_does 6 = .ok (.istore_n 2, 1) := dk_61 (dk_at dksX9_does_0 6 rfl rfl)
theorem dX9_does_7 : decode cX9_does 7 = .ok (.aload_n 0, 1) := dk_42 (dk_at dksX9_does_0 7 rfl rfl)
theorem dX9_does_8 : decode cX9_does 8 = .ok (.getfield 69, 3) := dk_180 0 69 (dk_at dksX9_does_0 8 rfl rfl)
theorem dX9_does_11 : decode cX9_does 11 = .ok (.iload_n 1, 1) := dk_27 (dk_at dksX9_does_0 11 rfl rfl)
theorem dX9_does_12 : decode cX9_does 12 = .ok (.iaload, 1) := dk_46 (dk_at dksX9_does_0 12 rfl rfl)
theorem dX9_does_13 : decode cX9_does 13 = .ok (.tableswitch 152 0 5 #[39, 51, 72, 96, 121, 135], 39) := by decide +kernel
theorem dX9_does_52 : decode cX9_does 52 = .ok (.aload_n 0, 1) := dk_42 (dk_at dksX9_does_2 0 rfl rfl)
theorem dX9_does_53 : decode cX9_does 53 = .ok (.aload_n 0, 1) := dk_42 (dk_at dksX9_does_2 1 rfl rfl)
theorem dX9_does_54 : decode cX9_does 54 = .ok (.getfield 39, 3) := dk_180 0 39 (dk_at dksX9_does_2 2 rfl rfl)
theorem dX9_does_57 : decode cX9_does 57 = .ok (.iload_n 2, 1) := dk_28 (dk_at dksX9_does_2 5 rfl rfl)
theorem dX9_does_58 : decode cX9_does 58 = .ok (.invokevirtual 331, 3) := dk_182 1 75 (dk_at dksX9_does_2 6 rfl rfl)
theorem dX9_does_61 : decode cX9_does 61 = .ok (.pop, 1) := dk_87 (dk_at dksX9_does_2 9 rfl rfl)
theorem dX9_does_62 : decode cX9_does 62 = .ok (.iconst 1, 1) := dk_4 (dk_at dksX9_does_2 10 rfl rfl)
theorem dX9_does_63 : decode cX9_does 63 = .ok (.ireturn, 1) := dk_172 (dk_at dksX9_does_2 11 rfl rfl)
theorem dX9_does_64 : decode cX9_does 64 = .ok (.aload_n 0, 1) := dk_42 (dk_at dksX9_does_2 12 rfl rfl)
theorem dX9_does_65 : decode cX9_does 65 = .ok (.aload_n 0, 1) := dk_42 (dk_at dksX9_does_2 13 rfl rfl)
theorem dX9_does_66 : decode cX9_does 66 = .ok (.getfield 39, 3) := dk_180 0 39 (dk_at dksX9_does_2 14 rfl rfl)
theorem dX9_does_69 : decode cX9_does 69 = .ok (.bipush 10, 2) := dk_16 10 (dk_at dksX9_does_2 17 rfl rfl)
theorem dX9_does_71 : decode cX9_does 71 = .ok (.iload_n 2, 1) := dk_28 (dk_at dksX9_does_2 19 rfl rfl)
theorem dX9_does_72 : decode cX9_does 72 = .ok (.imul, 1) := dk_104 (dk_at dksX9_does_2 20 rfl rfl)
theorem dX9_does_73 : decode cX9_does 73 = .ok (.invokevirtual 336, 3) := dk_182 1 80 (dk_at dksX9_does_2 21 rfl rfl)
theorem dX9_does_76 : decode cX9_does 76 = .ok (.ifCond .lt 7, 3) := dk_155 0 7 (dk_at dksX9_does_3 0 rfl rfl)
theorem dX9_does_79 : decode cX9_does 79 = .ok (.iconst 1, 1) := dk_4 (dk_at dksX9_does_3 3 rfl rfl)
theorem dX9_does_80 : decode cX9_does 80 = .ok (.goto 4, 3) := dk_167 0 4 (dk_at dksX9_does_3 4 rfl rfl)
theorem dX9_does_83 : decode cX9_does 83 = .ok (.iconst 0, 1) := dk_3 (dk_at dksX9_does_3 7 rfl rfl)
theorem dX9_does_84 : decode cX9_does 84 = .ok (.ireturn, 1) := dk_172 (dk_at dksX9_does_3 8 rfl rfl)
theorem dX9_does_85 : decode cX9_does 85 = .ok (.aload_n 0, 1) := dk_42 (dk_at dksX9_does_3 9 rfl rfl)
theorem dX9_does_86 : decode cX9_does 86 = .ok (.aload_n 0, 1) := dk_42 (dk_at dksX9_does_3 10 rfl rfl)
theorem dX9_does_87 : decode cX9_does 87 = .ok (.getfield 39, 3) := dk_180 0 39 (dk_at dksX9_does_3 11 rfl rfl)
theorem dX9_does_90 : decode cX9_does 90 = .ok (.iload_n 2, 1) := dk_28 (dk_at dksX9_does_3 14 rfl rfl)
theorem dX9_does_91 : decode cX9_does 91 = .ok (.aload_n 0, 1) := dk_42 (dk_at dksX9_does_3 15 rfl rfl)
theorem dX9_does_92 : decode cX9_does 92 = .ok (.getfield 75, 3) := dk_180 0 75 (dk_at dksX9_does_3 16 rfl rfl)
theorem dX9_does_95 : decode cX9_does 95 = .ok (.iload_n 1, 1) := dk_27 (dk_at dksX9_does_3 19 rfl rfl)
theorem dX9_does_96 : decode cX9_does 96 = .ok (.iaload, 1) := dk_46 (dk_at dksX9_does_3 20 rfl rfl)
theorem dX9_does_97 : decode cX9_does 97 = .ok (.invokevirtual 342, 3) := dk_182 1 86 (dk_at dksX9_does_3 21 rfl rfl)
theorem dX9_does_100 : decode cX9_does 100 = .ok (.ifCond .lt 7, 3) := dk_155 0 7 (dk_at dksX9_does_4 0 rfl rfl)
theorem dX9_does_103 : decode cX9_does 103 = .ok (.iconst 1, 1) := dk_4 (dk_at dksX9_does_4 3 rfl rfl)
theorem dX9_does_104 : decode cX9_does 104 = .ok (.goto 4, 3) := dk_167 0 4 (dk_at dksX9_does_4 4 rfl rfl)
theorem dX9_does_107 : decode cX9_does 107 = .ok (.iconst 0, 1) := dk_3 (dk_at dksX9_does_4 7 rfl rfl)
theorem dX9_does_108 : decode cX9_does 108 = .ok (.ireturn, 1) := dk_172 (dk_at dksX9_does_4 8 rfl rfl)
theorem dX9_does_109 : decode cX9_does 109 = .ok (.aload_n 0, 1) := dk_42 (dk_at dksX9_does_4 9 rfl rfl)
theorem dX9_does_110 : decode cX9_does 110 = .ok (.aload_n 0, 1) := dk_42 (dk_at dksX9_does_4 10 rfl rfl)
theorem dX9_does_111 : decode cX9_does 111 = .ok (.getfield 39, 3) := dk_180 0 39 (dk_at dksX9_does_4 11 rfl rfl)
theorem dX9_does_114 : decode cX9_does 114 = .ok (.iload_n 2, 1) := dk_28 (dk_at dksX9_does_4 14 rfl rfl)
theorem dX9_does_115 : decode cX9_does 115 = .ok (.aload_n 0, 1) := dk_42 (dk_at dksX9_does_4 15 rfl rfl)
theorem dX9_does_116 : decode cX9_does 116 = .ok (.getfield 75, 3) := dk_180 0 75 (dk_at dksX9_does_4 16 rfl rfl)
theorem dX9_does_119 : decode cX9_does 119 = .ok (.iload_n 1, 1) := dk_27 (dk_at dksX9_does_4 19 rfl rfl)
theorem dX9_does_120 : decode cX9_does 120 = .ok (.iaload, 1) := dk_46 (dk_at dksX9_does_4 20 rfl rfl)
theorem dX9_does_121 : decode cX9_does 121 = .ok (.ineg, 1) := dk_116 (dk_at dksX9_does_4 21 rfl rfl)
theorem dX9_does_122 : decode cX9_does 122 = .ok (.invokevirtual 342, 3) := dk_182 1 86 (dk_at dksX9_does_5 0 rfl rfl)
theorem dX9_does_125 : decode cX9_does 125 = .ok (.ifCond .lt 7, 3) := dk_155 0 7 (dk_at dksX9_does_5 3 rfl rfl)
theorem dX9_does_128 : decode cX9_does 128 = .ok (.iconst 1, 1) := dk_4 (dk_at dksX9_does_5 6 rfl rfl)
theorem dX9_does_129 : decode cX9_does 129 = .ok (.goto 4, 3) := dk_167 0 4 (dk_at dksX9_does_5 7 rfl rfl)
theorem dX9_does_132 : decode cX9_does 132 = .ok (.iconst 0, 1) := dk_3 (dk_at dksX9_does_5 10 rfl rfl)
theorem dX9_does_133 : decode cX9_does 133 = .ok (.ireturn, 1) := dk_172 (dk_at dksX9_does_5 11 rfl rfl)
theorem dX9_does_134 : decode cX9_does 134 = .ok (.aload_n 0, 1) := dk_42 (dk_at dksX9_does_5 12 rfl rfl)
theorem dX9_does_135 : decode cX9_does 135 = .ok (.iload_n 2, 1) := dk_28 (dk_at dksX9_does_5 13 rfl rfl)
theorem dX9_does_136 : decode cX9_does 136 = .ok (.invokevirtual 345, 3) := dk_182 1 89 (dk_at dksX9_does_5 14 rfl rfl)
theorem dX9_does_139 : decode cX9_does 139 = .ok (.ifCond .lt 7, 3) := dk_155 0 7 (dk_at dksX9_does_5 17 rfl rfl)
theorem dX9_does_142 : decode cX9_does 142 = .ok (.iconst 1, 1) := dk_4 (dk_at dksX9_does_5 20 rfl rfl)
theorem dX9_does_143 : decode cX9_does 143 = .ok (.goto 4, 3) := dk_167 0 4 (dk_at dksX9_does_5 21 rfl rfl)
theorem dX9_does_146 : decode cX9_does 146 = .ok (.iconst 0, 1) := dk_3 (dk_at dksX9_does_6 0 rfl rfl)
theorem dX9_does_147 : decode cX9_does 147 = .ok (.ireturn, 1) := dk_172 (dk_at dksX9_does_6 1 rfl rfl)
theorem dX9_does_148 : decode cX9_does 148 = .ok (.aload_n 0, 1) := dk_42 (dk_at dksX9_does_6 2 rfl rfl)
theorem dX9_does_149 : decode cX9_does 149 = .ok (.aload_n 0, 1) := dk_42 (dk_at dksX9_does_6 3 rfl rfl)
theorem dX9_does_150 : decode cX9_does 150 = .ok (.getfield 39, 3) := dk_180 0 39 (dk_at dksX9_does_6 4 rfl rfl)
theorem dX9_does_153 : decode cX9_does 153 = .ok (.invokevirtual 348, 3) := dk_182 1 92 (dk_at dksX9_does_6 7 rfl rfl)
theorem dX9_does_156 : decode cX9_does 156 = .ok (.ifCond .lt 7, 3) := dk_155 0 7 (dk_at dksX9_does_6 10 rfl rfl)
theorem dX9_does_159 : decode cX9_does 159 = .ok (.iconst 1, 1) := dk_4 (dk_at dksX9_does_6 13 rfl rfl)
theorem dX9_does_160 : decode cX9_does 160 = .ok (.goto 4, 3) := dk_167 0 4 (dk_at dksX9_does_6 14 rfl rfl)
theorem dX9_does_163 : decode cX9_does 163 = .ok (.iconst 0, 1) := dk_3 (dk_at dksX9_does_6 17 rfl rfl)
theorem dX9_does_164 : decode cX9_does 164 = .ok (.ireturn, 1) := dk_172 (dk_at dksX9_does_6 18 rfl rfl)
theorem dX9_does_165 : decode cX9_does 165 = .ok (.aload_n 0, 1) := dk_42 (dk_at dksX9_does_6 19 rfl rfl)
theorem dX9_does_166 : decode cX9_does 166 = .ok (.aload_n 0, 1) := dk_42 (dk_at dksX9_does_6 20 rfl rfl)
theorem dX9_does_167 : decode cX9_does 167 = .ok (.getfield 69, 3) := dk_180 0 69 (dk_at dksX9_does_6 21 rfl rfl)
theorem dX9_does_170 : decode cX9_does 170 = .ok (.iload_n 1, 1) := dk_27 (dk_at dksX9_does_7 0 rfl rfl)
theorem dX9_does_171 : decode cX9_does 171 = .ok (.iaload, 1) := dk_46 (dk_at dksX9_does_7 1 rfl rfl)
theorem dX9_does_172 : decode cX9_does 172 = .ok (.bipush 6, 2) := dk_16 6 (dk_at dksX9_does_7 2 rfl rfl)
theorem dX9_does_174 : decode cX9_does 174 = .ok (.isub, 1) := dk_100 (dk_at dksX9_does_7 4 rfl rfl)
theorem dX9_does_175 : decode cX9_does 175 = .ok (.iload_n 2, 1) := dk_28 (dk_at dksX9_does_7 5 rfl rfl)
theorem dX9_does_176 : decode cX9_does 176 = .ok (.invokevirtual 323, 3) := dk_182 1 67 (dk_at dksX9_does_7 6 rfl rfl)
theorem dX9_does_179 : decode cX9_does 179 = .ok (.ifCond .lt 7, 3) := dk_155 0 7 (dk_at dksX9_does_7 9 rfl rfl)
theorem dX9_does_182 : decode cX9_does 182 = .ok (.iconst 1, 1) := dk_4 (dk_at dksX9_does_7 12 rfl rfl)
theorem dX9_does_183 : decode cX9_does 183 = .ok (.goto 4, 3) := dk_167 0 4 (dk_at dksX9_does_7 13 rfl rfl)
theorem dX9_does_186 : decode cX9_does 186 = .ok (.iconst 0, 1) := dk_3 (dk_at dksX9_does_7 16 rfl rfl)
theorem dX9_does_187 : decode cX9_does 187 = .ok (.ireturn, 1) := dk_172 (dk_at dksX9_does_7 17 rfl rfl)
abbrev cX9_rises : ByteArray := prog_15_method_69_code
def yX9_rises : MethodName := ⟨RX9, "rises", "()I"⟩
def dkwX9_rises_0 : List UInt8 := [42, 3, 181, 0, 112, 42, 42, 180, 0, 39, 3, 2, 182, 1, 14, 60, 42, 27, 182, 1, 109, 27, 172]
abbrev dktX9_rises_0 : List UInt8 := dkwX9_rises_0 ++ []
theorem dksX9_rises_0 : cX9_rises.data.toList.drop 0 = dktX9_rises_0 := by decide +kernel
theorem dX9_rises_0 : decode cX9_rises 0 = .ok (.aload_n 0, 1) := dk_42 (dk_at dksX9_rises_0 0 rfl rfl)
theorem dX9_rises_1 : decode cX9_rises 1 = .ok (.iconst 0, 1) := dk_3 (dk_at dksX9_rises_0 1 rfl rfl)
theorem dX9_rises_2 : decode cX9_rises 2 = .ok (.putfield 112, 3) := dk_181 0 112 (dk_at dksX9_rises_0 2 rfl rfl)
theorem dX9_rises_5 : decode cX9_rises 5 = .ok (.aload_n 0, 1) := dk_42 (dk_at dksX9_rises_0 5 rfl rfl)
theorem dX9_rises_6 : decode cX9_rises 6 = .ok (.aload_n 0, 1) := dk_42 (dk_at dksX9_rises_0 6 rfl rfl)
theorem dX9_rises_7 : decode cX9_rises 7 = .ok (.getfield 39, 3) := dk_180 0 39 (dk_at dksX9_rises_0 7 rfl rfl)
theorem dX9_rises_10 : decode cX9_rises 10 = .ok (.iconst 0, 1) := dk_3 (dk_at dksX9_rises_0 10 rfl rfl)
theorem dX9_rises_11 : decode cX9_rises 11 = .ok (.iconst (-1), 1) := dk_2 (dk_at dksX9_rises_0 11 rfl rfl)
theorem dX9_rises_12 : decode cX9_rises 12 = .ok (.invokevirtual 270, 3) := dk_182 1 14 (dk_at dksX9_rises_0 12 rfl rfl)
theorem dX9_rises_15 : decode cX9_rises 15 = .ok (.istore_n 1, 1) := dk_60 (dk_at dksX9_rises_0 15 rfl rfl)
theorem dX9_rises_16 : decode cX9_rises 16 = .ok (.aload_n 0, 1) := dk_42 (dk_at dksX9_rises_0 16 rfl rfl)
theorem dX9_rises_17 : decode cX9_rises 17 = .ok (.iload_n 1, 1) := dk_27 (dk_at dksX9_rises_0 17 rfl rfl)
theorem dX9_rises_18 : decode cX9_rises 18 = .ok (.invokevirtual 365, 3) := dk_182 1 109 (dk_at dksX9_rises_0 18 rfl rfl)
theorem dX9_rises_21 : decode cX9_rises 21 = .ok (.iload_n 1, 1) := dk_27 (dk_at dksX9_rises_0 21 rfl rfl)
theorem dX9_rises_22 : decode cX9_rises 22 = .ok (.ireturn, 1) := dk_172 (dk_at dksX9_rises_0 22 rfl rfl)
abbrev cX9_tellsRisen : ByteArray := prog_15_method_68_code
def yX9_tellsRisen : MethodName := ⟨RX9, "tellsRisen", "(I)V"⟩
def dkwX9_tellsRisen_1 : List UInt8 := [184, 0, 154, 133, 182, 0, 122, 177]
abbrev dktX9_tellsRisen_1 : List UInt8 := dkwX9_tellsRisen_1 ++ []
def dkwX9_tellsRisen_0 : List UInt8 := [42, 3, 181, 0, 119, 42, 27, 184, 1, 5, 133, 182, 0, 122, 42, 42, 42, 180, 0, 39, 27, 182, 1, 18]
abbrev dktX9_tellsRisen_0 : List UInt8 := dkwX9_tellsRisen_0 ++ dktX9_tellsRisen_1
theorem dksX9_tellsRisen_0 : cX9_tellsRisen.data.toList.drop 0 = dktX9_tellsRisen_0 := by decide +kernel
theorem dksX9_tellsRisen_1 : cX9_tellsRisen.data.toList.drop 24 = dktX9_tellsRisen_1 := dk_seg dksX9_tellsRisen_0 24 rfl rfl
theorem dX9_tellsRisen_0 : decode cX9_tellsRisen 0 = .ok (.aload_n 0, 1) := dk_42 (dk_at dksX9_tellsRisen_0 0 rfl rfl)
theorem dX9_tellsRisen_1 : decode cX9_tellsRisen 1 = .ok (.iconst 0, 1) := dk_3 (dk_at dksX9_tellsRisen_0 1 rfl rfl)
theorem dX9_tellsRisen_2 : decode cX9_tellsRisen 2 = .ok (.putfield 119, 3) := dk_181 0 119 (dk_at dksX9_tellsRisen_0 2 rfl rfl)
theorem dX9_tellsRisen_5 : decode cX9_tellsRisen 5 = .ok (.aload_n 0, 1) := dk_42 (dk_at dksX9_tellsRisen_0 5 rfl rfl)
theorem dX9_tellsRisen_6 : decode cX9_tellsRisen 6 = .ok (.iload_n 1, 1) := dk_27 (dk_at dksX9_tellsRisen_0 6 rfl rfl)
theorem dX9_tellsRisen_7 : decode cX9_tellsRisen 7 = .ok (.invokestatic 261, 3) := dk_184 1 5 (dk_at dksX9_tellsRisen_0 7 rfl rfl)
theorem dX9_tellsRisen_10 : decode cX9_tellsRisen 10 = .ok (.i2l, 1) := dk_133 (dk_at dksX9_tellsRisen_0 10 rfl rfl)
theorem dX9_tellsRisen_11 : decode cX9_tellsRisen 11 = .ok (.invokevirtual 122, 3) := dk_182 0 122 (dk_at dksX9_tellsRisen_0 11 rfl rfl)
theorem dX9_tellsRisen_14 : decode cX9_tellsRisen 14 = .ok (.aload_n 0, 1) := dk_42 (dk_at dksX9_tellsRisen_0 14 rfl rfl)
theorem dX9_tellsRisen_15 : decode cX9_tellsRisen 15 = .ok (.aload_n 0, 1) := dk_42 (dk_at dksX9_tellsRisen_0 15 rfl rfl)
theorem dX9_tellsRisen_16 : decode cX9_tellsRisen 16 = .ok (.aload_n 0, 1) := dk_42 (dk_at dksX9_tellsRisen_0 16 rfl rfl)
theorem dX9_tellsRisen_17 : decode cX9_tellsRisen 17 = .ok (.getfield 39, 3) := dk_180 0 39 (dk_at dksX9_tellsRisen_0 17 rfl rfl)
theorem dX9_tellsRisen_20 : decode cX9_tellsRisen 20 = .ok (.iload_n 1, 1) := dk_27 (dk_at dksX9_tellsRisen_0 20 rfl rfl)
theorem dX9_tellsRisen_21 : decode cX9_tellsRisen 21 = .ok (.invokevirtual 274, 3) := dk_182 1 18 (dk_at dksX9_tellsRisen_0 21 rfl rfl)
theorem dX9_tellsRisen_24 : decode cX9_tellsRisen 24 = .ok (.invokestatic 154, 3) := dk_184 0 154 (dk_at dksX9_tellsRisen_1 0 rfl rfl)
theorem dX9_tellsRisen_27 : decode cX9_tellsRisen 27 = .ok (.i2l, 1) := dk_133 (dk_at dksX9_tellsRisen_1 3 rfl rfl)
theorem dX9_tellsRisen_28 : decode cX9_tellsRisen 28 = .ok (.invokevirtual 122, 3) := dk_182 0 122 (dk_at dksX9_tellsRisen_1 4 rfl rfl)
theorem dX9_tellsRisen_31 : decode cX9_tellsRisen 31 = .ok (.return_, 1) := dk_177 (dk_at dksX9_tellsRisen_1 7 rfl rfl)
abbrev cX9_follow : ByteArray := prog_15_method_70_code
def yX9_follow : MethodName := ⟨RX9, "follow", "(I)I"⟩
def dkwX9_follow_1 : List UInt8 := [42, 180, 0, 39, 27, 2, 182, 1, 14, 61, 42, 28, 182, 1, 109, 28, 172]
abbrev dktX9_follow_1 : List UInt8 := dkwX9_follow_1 ++ []
def dkwX9_follow_0 : List UInt8 := [42, 3, 181, 0, 112, 27, 42, 42, 180, 0, 39, 3, 182, 0, 253, 2, 130, 126, 153, 0, 5, 2, 172, 42]
abbrev dktX9_follow_0 : List UInt8 := dkwX9_follow_0 ++ dktX9_follow_1
theorem dksX9_follow_0 : cX9_follow.data.toList.drop 0 = dktX9_follow_0 := by decide +kernel
theorem dksX9_follow_1 : cX9_follow.data.toList.drop 24 = dktX9_follow_1 := dk_seg dksX9_follow_0 24 rfl rfl
theorem dX9_follow_0 : decode cX9_follow 0 = .ok (.aload_n 0, 1) := dk_42 (dk_at dksX9_follow_0 0 rfl rfl)
theorem dX9_follow_1 : decode cX9_follow 1 = .ok (.iconst 0, 1) := dk_3 (dk_at dksX9_follow_0 1 rfl rfl)
theorem dX9_follow_2 : decode cX9_follow 2 = .ok (.putfield 112, 3) := dk_181 0 112 (dk_at dksX9_follow_0 2 rfl rfl)
theorem dX9_follow_5 : decode cX9_follow 5 = .ok (.iload_n 1, 1) := dk_27 (dk_at dksX9_follow_0 5 rfl rfl)
theorem dX9_follow_6 : decode cX9_follow 6 = .ok (.aload_n 0, 1) := dk_42 (dk_at dksX9_follow_0 6 rfl rfl)
theorem dX9_follow_7 : decode cX9_follow 7 = .ok (.aload_n 0, 1) := dk_42 (dk_at dksX9_follow_0 7 rfl rfl)
theorem dX9_follow_8 : decode cX9_follow 8 = .ok (.getfield 39, 3) := dk_180 0 39 (dk_at dksX9_follow_0 8 rfl rfl)
theorem dX9_follow_11 : decode cX9_follow 11 = .ok (.iconst 0, 1) := dk_3 (dk_at dksX9_follow_0 11 rfl rfl)
theorem dX9_follow_12 : decode cX9_follow 12 = .ok (.invokevirtual 253, 3) := dk_182 0 253 (dk_at dksX9_follow_0 12 rfl rfl)
theorem dX9_follow_15 : decode cX9_follow 15 = .ok (.iconst (-1), 1) := dk_2 (dk_at dksX9_follow_0 15 rfl rfl)
theorem dX9_follow_16 : decode cX9_follow 16 = .ok (.ixor, 1) := dk_130 (dk_at dksX9_follow_0 16 rfl rfl)
theorem dX9_follow_17 : decode cX9_follow 17 = .ok (.iand, 1) := dk_126 (dk_at dksX9_follow_0 17 rfl rfl)
theorem dX9_follow_18 : decode cX9_follow 18 = .ok (.ifCond .eq 5, 3) := dk_153 0 5 (dk_at dksX9_follow_0 18 rfl rfl)
theorem dX9_follow_21 : decode cX9_follow 21 = .ok (.iconst (-1), 1) := dk_2 (dk_at dksX9_follow_0 21 rfl rfl)
theorem dX9_follow_22 : decode cX9_follow 22 = .ok (.ireturn, 1) := dk_172 (dk_at dksX9_follow_0 22 rfl rfl)
theorem dX9_follow_23 : decode cX9_follow 23 = .ok (.aload_n 0, 1) := dk_42 (dk_at dksX9_follow_0 23 rfl rfl)
theorem dX9_follow_24 : decode cX9_follow 24 = .ok (.aload_n 0, 1) := dk_42 (dk_at dksX9_follow_1 0 rfl rfl)
theorem dX9_follow_25 : decode cX9_follow 25 = .ok (.getfield 39, 3) := dk_180 0 39 (dk_at dksX9_follow_1 1 rfl rfl)
theorem dX9_follow_28 : decode cX9_follow 28 = .ok (.iload_n 1, 1) := dk_27 (dk_at dksX9_follow_1 4 rfl rfl)
theorem dX9_follow_29 : decode cX9_follow 29 = .ok (.iconst (-1), 1) := dk_2 (dk_at dksX9_follow_1 5 rfl rfl)
theorem dX9_follow_30 : decode cX9_follow 30 = .ok (.invokevirtual 270, 3) := dk_182 1 14 (dk_at dksX9_follow_1 6 rfl rfl)
theorem dX9_follow_33 : decode cX9_follow 33 = .ok (.istore_n 2, 1) := dk_61 (dk_at dksX9_follow_1 9 rfl rfl)
theorem dX9_follow_34 : decode cX9_follow 34 = .ok (.aload_n 0, 1) := dk_42 (dk_at dksX9_follow_1 10 rfl rfl)
theorem dX9_follow_35 : decode cX9_follow 35 = .ok (.iload_n 2, 1) := dk_28 (dk_at dksX9_follow_1 11 rfl rfl)
theorem dX9_follow_36 : decode cX9_follow 36 = .ok (.invokevirtual 365, 3) := dk_182 1 109 (dk_at dksX9_follow_1 12 rfl rfl)
theorem dX9_follow_39 : decode cX9_follow 39 = .ok (.iload_n 2, 1) := dk_28 (dk_at dksX9_follow_1 15 rfl rfl)
theorem dX9_follow_40 : decode cX9_follow 40 = .ok (.ireturn, 1) := dk_172 (dk_at dksX9_follow_1 16 rfl rfl)
abbrev cX9_quiet : ByteArray := prog_15_method_71_code
def yX9_quiet : MethodName := ⟨RX9, "quiet", "()I"⟩
def dkwX9_quiet_3 : List UInt8 := [182, 1, 51, 87, 132, 1, 1, 167, 255, 190, 16, 254, 172]
abbrev dktX9_quiet_3 : List UInt8 := dkwX9_quiet_3 ++ []
def dkwX9_quiet_2 : List UInt8 := [42, 42, 180, 0, 42, 3, 2, 182, 1, 14, 184, 1, 5, 133, 182, 0, 122, 27, 172, 42, 42, 180, 0, 42]
abbrev dktX9_quiet_2 : List UInt8 := dkwX9_quiet_2 ++ dktX9_quiet_3
def dkwX9_quiet_1 : List UInt8 := [182, 1, 78, 153, 0, 40, 42, 3, 181, 0, 119, 42, 42, 180, 0, 42, 16, 17, 46, 133, 182, 0, 122, 42]
abbrev dktX9_quiet_1 : List UInt8 := dkwX9_quiet_1 ++ dktX9_quiet_2
def dkwX9_quiet_0 : List UInt8 := [42, 3, 181, 0, 112, 42, 182, 1, 112, 3, 60, 27, 16, 99, 163, 0, 66, 42, 42, 180, 0, 42]
abbrev dktX9_quiet_0 : List UInt8 := dkwX9_quiet_0 ++ dktX9_quiet_1
theorem dksX9_quiet_0 : cX9_quiet.data.toList.drop 0 = dktX9_quiet_0 := by decide +kernel
theorem dksX9_quiet_1 : cX9_quiet.data.toList.drop 22 = dktX9_quiet_1 := dk_seg dksX9_quiet_0 22 rfl rfl
theorem dksX9_quiet_2 : cX9_quiet.data.toList.drop 46 = dktX9_quiet_2 := dk_seg dksX9_quiet_1 24 rfl rfl
theorem dksX9_quiet_3 : cX9_quiet.data.toList.drop 70 = dktX9_quiet_3 := dk_seg dksX9_quiet_2 24 rfl rfl
theorem dX9_quiet_0 : decode cX9_quiet 0 = .ok (.aload_n 0, 1) := dk_42 (dk_at dksX9_quiet_0 0 rfl rfl)
theorem dX9_quiet_1 : decode cX9_quiet 1 = .ok (.iconst 0, 1) := dk_3 (dk_at dksX9_quiet_0 1 rfl rfl)
theorem dX9_quiet_2 : decode cX9_quiet 2 = .ok (.putfield 112, 3) := dk_181 0 112 (dk_at dksX9_quiet_0 2 rfl rfl)
theorem dX9_quiet_5 : decode cX9_quiet 5 = .ok (.aload_n 0, 1) := dk_42 (dk_at dksX9_quiet_0 5 rfl rfl)
theorem dX9_quiet_6 : decode cX9_quiet 6 = .ok (.invokevirtual 368, 3) := dk_182 1 112 (dk_at dksX9_quiet_0 6 rfl rfl)
theorem dX9_quiet_9 : decode cX9_quiet 9 = .ok (.iconst 0, 1) := dk_3 (dk_at dksX9_quiet_0 9 rfl rfl)
theorem dX9_quiet_10 : decode cX9_quiet 10 = .ok (.istore_n 1, 1) := dk_60 (dk_at dksX9_quiet_0 10 rfl rfl)
theorem dX9_quiet_11 : decode cX9_quiet 11 = .ok (.iload_n 1, 1) := dk_27 (dk_at dksX9_quiet_0 11 rfl rfl)
theorem dX9_quiet_12 : decode cX9_quiet 12 = .ok (.bipush 99, 2) := dk_16 99 (dk_at dksX9_quiet_0 12 rfl rfl)
theorem dX9_quiet_14 : decode cX9_quiet 14 = .ok (.if_icmp .gt 66, 3) := dk_163 0 66 (dk_at dksX9_quiet_0 14 rfl rfl)
theorem dX9_quiet_17 : decode cX9_quiet 17 = .ok (.aload_n 0, 1) := dk_42 (dk_at dksX9_quiet_0 17 rfl rfl)
theorem dX9_quiet_18 : decode cX9_quiet 18 = .ok (.aload_n 0, 1) := dk_42 (dk_at dksX9_quiet_0 18 rfl rfl)
theorem dX9_quiet_19 : decode cX9_quiet 19 = .ok (.getfield 42, 3) := dk_180 0 42 (dk_at dksX9_quiet_0 19 rfl rfl)
theorem dX9_quiet_22 : decode cX9_quiet 22 = .ok (.invokevirtual 334, 3) := dk_182 1 78 (dk_at dksX9_quiet_1 0 rfl rfl)
theorem dX9_quiet_25 : decode cX9_quiet 25 = .ok (.ifCond .eq 40, 3) := dk_153 0 40 (dk_at dksX9_quiet_1 3 rfl rfl)
theorem dX9_quiet_28 : decode cX9_quiet 28 = .ok (.aload_n 0, 1) := dk_42 (dk_at dksX9_quiet_1 6 rfl rfl)
theorem dX9_quiet_29 : decode cX9_quiet 29 = .ok (.iconst 0, 1) := dk_3 (dk_at dksX9_quiet_1 7 rfl rfl)
theorem dX9_quiet_30 : decode cX9_quiet 30 = .ok (.putfield 119, 3) := dk_181 0 119 (dk_at dksX9_quiet_1 8 rfl rfl)
theorem dX9_quiet_33 : decode cX9_quiet 33 = .ok (.aload_n 0, 1) := dk_42 (dk_at dksX9_quiet_1 11 rfl rfl)
theorem dX9_quiet_34 : decode cX9_quiet 34 = .ok (.aload_n 0, 1) := dk_42 (dk_at dksX9_quiet_1 12 rfl rfl)
theorem dX9_quiet_35 : decode cX9_quiet 35 = .ok (.getfield 42, 3) := dk_180 0 42 (dk_at dksX9_quiet_1 13 rfl rfl)
theorem dX9_quiet_38 : decode cX9_quiet 38 = .ok (.bipush 17, 2) := dk_16 17 (dk_at dksX9_quiet_1 16 rfl rfl)
theorem dX9_quiet_40 : decode cX9_quiet 40 = .ok (.iaload, 1) := dk_46 (dk_at dksX9_quiet_1 18 rfl rfl)
theorem dX9_quiet_41 : decode cX9_quiet 41 = .ok (.i2l, 1) := dk_133 (dk_at dksX9_quiet_1 19 rfl rfl)
theorem dX9_quiet_42 : decode cX9_quiet 42 = .ok (.invokevirtual 122, 3) := dk_182 0 122 (dk_at dksX9_quiet_1 20 rfl rfl)
theorem dX9_quiet_45 : decode cX9_quiet 45 = .ok (.aload_n 0, 1) := dk_42 (dk_at dksX9_quiet_1 23 rfl rfl)
theorem dX9_quiet_46 : decode cX9_quiet 46 = .ok (.aload_n 0, 1) := dk_42 (dk_at dksX9_quiet_2 0 rfl rfl)
theorem dX9_quiet_47 : decode cX9_quiet 47 = .ok (.aload_n 0, 1) := dk_42 (dk_at dksX9_quiet_2 1 rfl rfl)
theorem dX9_quiet_48 : decode cX9_quiet 48 = .ok (.getfield 42, 3) := dk_180 0 42 (dk_at dksX9_quiet_2 2 rfl rfl)
theorem dX9_quiet_51 : decode cX9_quiet 51 = .ok (.iconst 0, 1) := dk_3 (dk_at dksX9_quiet_2 5 rfl rfl)
theorem dX9_quiet_52 : decode cX9_quiet 52 = .ok (.iconst (-1), 1) := dk_2 (dk_at dksX9_quiet_2 6 rfl rfl)
theorem dX9_quiet_53 : decode cX9_quiet 53 = .ok (.invokevirtual 270, 3) := dk_182 1 14 (dk_at dksX9_quiet_2 7 rfl rfl)
theorem dX9_quiet_56 : decode cX9_quiet 56 = .ok (.invokestatic 261, 3) := dk_184 1 5 (dk_at dksX9_quiet_2 10 rfl rfl)
theorem dX9_quiet_59 : decode cX9_quiet 59 = .ok (.i2l, 1) := dk_133 (dk_at dksX9_quiet_2 13 rfl rfl)
theorem dX9_quiet_60 : decode cX9_quiet 60 = .ok (.invokevirtual 122, 3) := dk_182 0 122 (dk_at dksX9_quiet_2 14 rfl rfl)
theorem dX9_quiet_63 : decode cX9_quiet 63 = .ok (.iload_n 1, 1) := dk_27 (dk_at dksX9_quiet_2 17 rfl rfl)
theorem dX9_quiet_64 : decode cX9_quiet 64 = .ok (.ireturn, 1) := dk_172 (dk_at dksX9_quiet_2 18 rfl rfl)
theorem dX9_quiet_65 : decode cX9_quiet 65 = .ok (.aload_n 0, 1) := dk_42 (dk_at dksX9_quiet_2 19 rfl rfl)
theorem dX9_quiet_66 : decode cX9_quiet 66 = .ok (.aload_n 0, 1) := dk_42 (dk_at dksX9_quiet_2 20 rfl rfl)
theorem dX9_quiet_67 : decode cX9_quiet 67 = .ok (.getfield 42, 3) := dk_180 0 42 (dk_at dksX9_quiet_2 21 rfl rfl)
theorem dX9_quiet_70 : decode cX9_quiet 70 = .ok (.invokevirtual 307, 3) := dk_182 1 51 (dk_at dksX9_quiet_3 0 rfl rfl)
theorem dX9_quiet_73 : decode cX9_quiet 73 = .ok (.pop, 1) := dk_87 (dk_at dksX9_quiet_3 3 rfl rfl)
theorem dX9_quiet_74 : decode cX9_quiet 74 = .ok (.iinc 1 1, 3) := dk_132 1 1 (dk_at dksX9_quiet_3 4 rfl rfl)
theorem dX9_quiet_77 : decode cX9_quiet 77 = .ok (.goto (-66), 3) := dk_167 255 190 (dk_at dksX9_quiet_3 7 rfl rfl)
theorem dX9_quiet_80 : decode cX9_quiet 80 = .ok (.bipush (-2), 2) := dk_16 254 (dk_at dksX9_quiet_3 10 rfl rfl)
theorem dX9_quiet_82 : decode cX9_quiet 82 = .ok (.ireturn, 1) := dk_172 (dk_at dksX9_quiet_3 12 rfl rfl)
abbrev cX9_copies : ByteArray := prog_15_method_67_code
def yX9_copies : MethodName := ⟨RX9, "copies", "()V"⟩
def dkwX9_copies_1 : List UInt8 := [167, 255, 235, 177]
abbrev dktX9_copies_1 : List UInt8 := dkwX9_copies_1 ++ []
def dkwX9_copies_0 : List UInt8 := [3, 60, 27, 16, 21, 162, 0, 21, 42, 180, 0, 42, 27, 42, 180, 0, 39, 27, 46, 79, 132, 1, 1]
abbrev dktX9_copies_0 : List UInt8 := dkwX9_copies_0 ++ dktX9_copies_1
theorem dksX9_copies_0 : cX9_copies.data.toList.drop 0 = dktX9_copies_0 := by decide +kernel
theorem dksX9_copies_1 : cX9_copies.data.toList.drop 23 = dktX9_copies_1 := dk_seg dksX9_copies_0 23 rfl rfl
theorem dX9_copies_0 : decode cX9_copies 0 = .ok (.iconst 0, 1) := dk_3 (dk_at dksX9_copies_0 0 rfl rfl)
theorem dX9_copies_1 : decode cX9_copies 1 = .ok (.istore_n 1, 1) := dk_60 (dk_at dksX9_copies_0 1 rfl rfl)
theorem dX9_copies_2 : decode cX9_copies 2 = .ok (.iload_n 1, 1) := dk_27 (dk_at dksX9_copies_0 2 rfl rfl)
theorem dX9_copies_3 : decode cX9_copies 3 = .ok (.bipush 21, 2) := dk_16 21 (dk_at dksX9_copies_0 3 rfl rfl)
theorem dX9_copies_5 : decode cX9_copies 5 = .ok (.if_icmp .ge 21, 3) := dk_162 0 21 (dk_at dksX9_copies_0 5 rfl rfl)
theorem dX9_copies_8 : decode cX9_copies 8 = .ok (.aload_n 0, 1) := dk_42 (dk_at dksX9_copies_0 8 rfl rfl)
theorem dX9_copies_9 : decode cX9_copies 9 = .ok (.getfield 42, 3) := dk_180 0 42 (dk_at dksX9_copies_0 9 rfl rfl)
theorem dX9_copies_12 : decode cX9_copies 12 = .ok (.iload_n 1, 1) := dk_27 (dk_at dksX9_copies_0 12 rfl rfl)
theorem dX9_copies_13 : decode cX9_copies 13 = .ok (.aload_n 0, 1) := dk_42 (dk_at dksX9_copies_0 13 rfl rfl)
theorem dX9_copies_14 : decode cX9_copies 14 = .ok (.getfield 39, 3) := dk_180 0 39 (dk_at dksX9_copies_0 14 rfl rfl)
theorem dX9_copies_17 : decode cX9_copies 17 = .ok (.iload_n 1, 1) := dk_27 (dk_at dksX9_copies_0 17 rfl rfl)
theorem dX9_copies_18 : decode cX9_copies 18 = .ok (.iaload, 1) := dk_46 (dk_at dksX9_copies_0 18 rfl rfl)
theorem dX9_copies_19 : decode cX9_copies 19 = .ok (.iastore, 1) := dk_79 (dk_at dksX9_copies_0 19 rfl rfl)
theorem dX9_copies_20 : decode cX9_copies 20 = .ok (.iinc 1 1, 3) := dk_132 1 1 (dk_at dksX9_copies_0 20 rfl rfl)
theorem dX9_copies_23 : decode cX9_copies 23 = .ok (.goto (-21), 3) := dk_167 255 235 (dk_at dksX9_copies_1 0 rfl rfl)
theorem dX9_copies_26 : decode cX9_copies 26 = .ok (.return_, 1) := dk_177 (dk_at dksX9_copies_1 3 rfl rfl)
abbrev cX9_words : ByteArray := prog_15_method_75_code
def yX9_words : MethodName := ⟨RX9, "words", "()I"⟩
def dkwX9_words_0 : List UInt8 := [42, 3, 181, 0, 112, 42, 4, 182, 1, 123, 172]
abbrev dktX9_words_0 : List UInt8 := dkwX9_words_0 ++ []
theorem dksX9_words_0 : cX9_words.data.toList.drop 0 = dktX9_words_0 := by decide +kernel
theorem dX9_words_0 : decode cX9_words 0 = .ok (.aload_n 0, 1) := dk_42 (dk_at dksX9_words_0 0 rfl rfl)
theorem dX9_words_1 : decode cX9_words 1 = .ok (.iconst 0, 1) := dk_3 (dk_at dksX9_words_0 1 rfl rfl)
theorem dX9_words_2 : decode cX9_words 2 = .ok (.putfield 112, 3) := dk_181 0 112 (dk_at dksX9_words_0 2 rfl rfl)
theorem dX9_words_5 : decode cX9_words 5 = .ok (.aload_n 0, 1) := dk_42 (dk_at dksX9_words_0 5 rfl rfl)
theorem dX9_words_6 : decode cX9_words 6 = .ok (.iconst 1, 1) := dk_4 (dk_at dksX9_words_0 6 rfl rfl)
theorem dX9_words_7 : decode cX9_words 7 = .ok (.invokevirtual 379, 3) := dk_182 1 123 (dk_at dksX9_words_0 7 rfl rfl)
theorem dX9_words_10 : decode cX9_words 10 = .ok (.ireturn, 1) := dk_172 (dk_at dksX9_words_0 10 rfl rfl)
abbrev cX9_tellsCheapest : ByteArray := prog_15_method_74_code
def yX9_tellsCheapest : MethodName := ⟨RX9, "tellsCheapest", "(Z)I"⟩
def dkwX9_tellsCheapest_3 : List UInt8 := [180, 0, 78, 21, 4, 46, 167, 0, 4, 3, 96, 62, 132, 4, 1, 167, 255, 196, 29, 172]
abbrev dktX9_tellsCheapest_3 : List UInt8 := dkwX9_tellsCheapest_3 ++ []
def dkwX9_tellsCheapest_2 : List UInt8 := [21, 4, 46, 133, 167, 0, 4, 9, 182, 0, 122, 29, 28, 21, 4, 184, 1, 1, 153, 0, 13, 42]
abbrev dktX9_tellsCheapest_2 : List UInt8 := dkwX9_tellsCheapest_2 ++ dktX9_tellsCheapest_3
def dkwX9_tellsCheapest_1 : List UInt8 := [21, 4, 42, 180, 0, 126, 162, 0, 57, 42, 28, 21, 4, 184, 1, 1, 153, 0, 14, 42, 180, 0, 78]
abbrev dktX9_tellsCheapest_1 : List UInt8 := dkwX9_tellsCheapest_1 ++ dktX9_tellsCheapest_2
def dkwX9_tellsCheapest_0 : List UInt8 := [42, 27, 182, 1, 120, 61, 28, 156, 0, 6, 16, 254, 172, 3, 62, 42, 3, 181, 0, 119, 3, 54, 4]
abbrev dktX9_tellsCheapest_0 : List UInt8 := dkwX9_tellsCheapest_0 ++ dktX9_tellsCheapest_1
theorem dksX9_tellsCheapest_0 : cX9_tellsCheapest.data.toList.drop 0 = dktX9_tellsCheapest_0 := by decide +kernel
theorem dksX9_tellsCheapest_1 : cX9_tellsCheapest.data.toList.drop 23 = dktX9_tellsCheapest_1 := dk_seg dksX9_tellsCheapest_0 23 rfl rfl
theorem dksX9_tellsCheapest_2 : cX9_tellsCheapest.data.toList.drop 46 = dktX9_tellsCheapest_2 := dk_seg dksX9_tellsCheapest_1 23 rfl rfl
theorem dksX9_tellsCheapest_3 : cX9_tellsCheapest.data.toList.drop 68 = dktX9_tellsCheapest_3 := dk_seg dksX9_tellsCheapest_2 22 rfl rfl
theorem dX9_tellsCheapest_0 : decode cX9_tellsCheapest 0 = .ok (.aload_n 0, 1) := dk_42 (dk_at dksX9_tellsCheapest_0 0 rfl rfl)
theorem dX9_tellsCheapest_1 : decode cX9_tellsCheapest 1 = .ok (.iload_n 1, 1) := dk_27 (dk_at dksX9_tellsCheapest_0 1 rfl rfl)
theorem dX9_tellsCheapest_2 : decode cX9_tellsCheapest 2 = .ok (.invokevirtual 376, 3) := dk_182 1 120 (dk_at dksX9_tellsCheapest_0 2 rfl rfl)
theorem dX9_tellsCheapest_5 : decode cX9_tellsCheapest 5 = .ok (.istore_n 2, 1) := dk_61 (dk_at dksX9_tellsCheapest_0 5 rfl rfl)
theorem dX9_tellsCheapest_6 : decode cX9_tellsCheapest 6 = .ok (.iload_n 2, 1) := dk_28 (dk_at dksX9_tellsCheapest_0 6 rfl rfl)
theorem dX9_tellsCheapest_7 : decode cX9_tellsCheapest 7 = .ok (.ifCond .ge 6, 3) := dk_156 0 6 (dk_at dksX9_tellsCheapest_0 7 rfl rfl)
theorem dX9_tellsCheapest_10 : decode cX9_tellsCheapest 10 = .ok (.bipush (-2), 2) := dk_16 254 (dk_at dksX9_tellsCheapest_0 10 rfl rfl)
theorem dX9_tellsCheapest_12 : decode cX9_tellsCheapest 12 = .ok (.ireturn, 1) := dk_172 (dk_at dksX9_tellsCheapest_0 12 rfl rfl)
theorem dX9_tellsCheapest_13 : decode cX9_tellsCheapest 13 = .ok (.iconst 0, 1) := dk_3 (dk_at dksX9_tellsCheapest_0 13 rfl rfl)
theorem dX9_tellsCheapest_14 : decode cX9_tellsCheapest 14 = .ok (.istore_n 3, 1) := dk_62 (dk_at dksX9_tellsCheapest_0 14 rfl rfl)
theorem dX9_tellsCheapest_15 : decode cX9_tellsCheapest 15 = .ok (.aload_n 0, 1) := dk_42 (dk_at dksX9_tellsCheapest_0 15 rfl rfl)
theorem dX9_tellsCheapest_16 : decode cX9_tellsCheapest 16 = .ok (.iconst 0, 1) := dk_3 (dk_at dksX9_tellsCheapest_0 16 rfl rfl)
theorem dX9_tellsCheapest_17 : decode cX9_tellsCheapest 17 = .ok (.putfield 119, 3) := dk_181 0 119 (dk_at dksX9_tellsCheapest_0 17 rfl rfl)
theorem dX9_tellsCheapest_20 : decode cX9_tellsCheapest 20 = .ok (.iconst 0, 1) := dk_3 (dk_at dksX9_tellsCheapest_0 20 rfl rfl)
theorem dX9_tellsCheapest_21 : decode cX9_tellsCheapest 21 = .ok (.istore 4, 2) := dk_54 4 (dk_at dksX9_tellsCheapest_0 21 rfl rfl)
theorem dX9_tellsCheapest_23 : decode cX9_tellsCheapest 23 = .ok (.iload 4, 2) := dk_21 4 (dk_at dksX9_tellsCheapest_1 0 rfl rfl)
theorem dX9_tellsCheapest_25 : decode cX9_tellsCheapest 25 = .ok (.aload_n 0, 1) := dk_42 (dk_at dksX9_tellsCheapest_1 2 rfl rfl)
theorem dX9_tellsCheapest_26 : decode cX9_tellsCheapest 26 = .ok (.getfield 126, 3) := dk_180 0 126 (dk_at dksX9_tellsCheapest_1 3 rfl rfl)
theorem dX9_tellsCheapest_29 : decode cX9_tellsCheapest 29 = .ok (.if_icmp .ge 57, 3) := dk_162 0 57 (dk_at dksX9_tellsCheapest_1 6 rfl rfl)
theorem dX9_tellsCheapest_32 : decode cX9_tellsCheapest 32 = .ok (.aload_n 0, 1) := dk_42 (dk_at dksX9_tellsCheapest_1 9 rfl rfl)
theorem dX9_tellsCheapest_33 : decode cX9_tellsCheapest 33 = .ok (.iload_n 2, 1) := dk_28 (dk_at dksX9_tellsCheapest_1 10 rfl rfl)
theorem dX9_tellsCheapest_34 : decode cX9_tellsCheapest 34 = .ok (.iload 4, 2) := dk_21 4 (dk_at dksX9_tellsCheapest_1 11 rfl rfl)
theorem dX9_tellsCheapest_36 : decode cX9_tellsCheapest 36 = .ok (.invokestatic 257, 3) := dk_184 1 1 (dk_at dksX9_tellsCheapest_1 13 rfl rfl)
theorem dX9_tellsCheapest_39 : decode cX9_tellsCheapest 39 = .ok (.ifCond .eq 14, 3) := dk_153 0 14 (dk_at dksX9_tellsCheapest_1 16 rfl rfl)
theorem dX9_tellsCheapest_42 : decode cX9_tellsCheapest 42 = .ok (.aload_n 0, 1) := dk_42 (dk_at dksX9_tellsCheapest_1 19 rfl rfl)
theorem dX9_tellsCheapest_43 : decode cX9_tellsCheapest 43 = .ok (.getfield 78, 3) := dk_180 0 78 (dk_at dksX9_tellsCheapest_1 20 rfl rfl)
theorem dX9_tellsCheapest_46 : decode cX9_tellsCheapest 46 = .ok (.iload 4, 2) := dk_21 4 (dk_at dksX9_tellsCheapest_2 0 rfl rfl)
theorem dX9_tellsCheapest_48 : decode cX9_tellsCheapest 48 = .ok (.iaload, 1) := dk_46 (dk_at dksX9_tellsCheapest_2 2 rfl rfl)
theorem dX9_tellsCheapest_49 : decode cX9_tellsCheapest 49 = .ok (.i2l, 1) := dk_133 (dk_at dksX9_tellsCheapest_2 3 rfl rfl)
theorem dX9_tellsCheapest_50 : decode cX9_tellsCheapest 50 = .ok (.goto 4, 3) := dk_167 0 4 (dk_at dksX9_tellsCheapest_2 4 rfl rfl)
theorem dX9_tellsCheapest_53 : decode cX9_tellsCheapest 53 = .ok (.lconst 0, 1) := dk_9 (dk_at dksX9_tellsCheapest_2 7 rfl rfl)
theorem dX9_tellsCheapest_54 : decode cX9_tellsCheapest 54 = .ok (.invokevirtual 122, 3) := dk_182 0 122 (dk_at dksX9_tellsCheapest_2 8 rfl rfl)
theorem dX9_tellsCheapest_57 : decode cX9_tellsCheapest 57 = .ok (.iload_n 3, 1) := dk_29 (dk_at dksX9_tellsCheapest_2 11 rfl rfl)
theorem dX9_tellsCheapest_58 : decode cX9_tellsCheapest 58 = .ok (.iload_n 2, 1) := dk_28 (dk_at dksX9_tellsCheapest_2 12 rfl rfl)
theorem dX9_tellsCheapest_59 : decode cX9_tellsCheapest 59 = .ok (.iload 4, 2) := dk_21 4 (dk_at dksX9_tellsCheapest_2 13 rfl rfl)
theorem dX9_tellsCheapest_61 : decode cX9_tellsCheapest 61 = .ok (.invokestatic 257, 3) := dk_184 1 1 (dk_at dksX9_tellsCheapest_2 15 rfl rfl)
theorem dX9_tellsCheapest_64 : decode cX9_tellsCheapest 64 = .ok (.ifCond .eq 13, 3) := dk_153 0 13 (dk_at dksX9_tellsCheapest_2 18 rfl rfl)
theorem dX9_tellsCheapest_67 : decode cX9_tellsCheapest 67 = .ok (.aload_n 0, 1) := dk_42 (dk_at dksX9_tellsCheapest_2 21 rfl rfl)
theorem dX9_tellsCheapest_68 : decode cX9_tellsCheapest 68 = .ok (.getfield 78, 3) := dk_180 0 78 (dk_at dksX9_tellsCheapest_3 0 rfl rfl)
theorem dX9_tellsCheapest_71 : decode cX9_tellsCheapest 71 = .ok (.iload 4, 2) := dk_21 4 (dk_at dksX9_tellsCheapest_3 3 rfl rfl)
theorem dX9_tellsCheapest_73 : decode cX9_tellsCheapest 73 = .ok (.iaload, 1) := dk_46 (dk_at dksX9_tellsCheapest_3 5 rfl rfl)
theorem dX9_tellsCheapest_74 : decode cX9_tellsCheapest 74 = .ok (.goto 4, 3) := dk_167 0 4 (dk_at dksX9_tellsCheapest_3 6 rfl rfl)
theorem dX9_tellsCheapest_77 : decode cX9_tellsCheapest 77 = .ok (.iconst 0, 1) := dk_3 (dk_at dksX9_tellsCheapest_3 9 rfl rfl)
theorem dX9_tellsCheapest_78 : decode cX9_tellsCheapest 78 = .ok (.iadd, 1) := dk_96 (dk_at dksX9_tellsCheapest_3 10 rfl rfl)
theorem dX9_tellsCheapest_79 : decode cX9_tellsCheapest 79 = .ok (.istore_n 3, 1) := dk_62 (dk_at dksX9_tellsCheapest_3 11 rfl rfl)
theorem dX9_tellsCheapest_80 : decode cX9_tellsCheapest 80 = .ok (.iinc 4 1, 3) := dk_132 4 1 (dk_at dksX9_tellsCheapest_3 12 rfl rfl)
theorem dX9_tellsCheapest_83 : decode cX9_tellsCheapest 83 = .ok (.goto (-60), 3) := dk_167 255 196 (dk_at dksX9_tellsCheapest_3 15 rfl rfl)
theorem dX9_tellsCheapest_86 : decode cX9_tellsCheapest 86 = .ok (.iload_n 3, 1) := dk_29 (dk_at dksX9_tellsCheapest_3 18 rfl rfl)
theorem dX9_tellsCheapest_87 : decode cX9_tellsCheapest 87 = .ok (.ireturn, 1) := dk_172 (dk_at dksX9_tellsCheapest_3 19 rfl rfl)
abbrev cX9_cheapest : ByteArray := prog_15_method_73_code
def yX9_cheapest : MethodName := ⟨RX9, "cheapest", "(Z)I"⟩
def dkwX9_cheapest_12 : List UInt8 := [180, 0, 42, 182, 1, 78, 27, 160, 0, 9, 21, 5, 61, 21, 6, 62, 132, 5, 1, 167, 255, 81, 28, 172]
abbrev dktX9_cheapest_12 : List UInt8 := dkwX9_cheapest_12 ++ []
def dkwX9_cheapest_11 : List UInt8 := [42, 180, 0, 78, 184, 1, 116, 153, 0, 7, 4, 167, 0, 4, 3, 54, 7, 21, 7, 153, 0, 21, 42, 42]
abbrev dktX9_cheapest_11 : List UInt8 := dkwX9_cheapest_11 ++ dktX9_cheapest_12
def dkwX9_cheapest_10 : List UInt8 := [96, 54, 6, 132, 7, 1, 167, 255, 169, 21, 6, 29, 161, 0, 22, 21, 6, 29, 160, 0, 20, 21, 5, 28]
abbrev dktX9_cheapest_10 : List UInt8 := dkwX9_cheapest_10 ++ dktX9_cheapest_11
def dkwX9_cheapest_9 : List UInt8 := [79, 21, 6, 21, 5, 21, 7, 184, 1, 1, 153, 0, 13, 42, 180, 0, 78, 21, 7, 46, 167, 0, 4, 3]
abbrev dktX9_cheapest_9 : List UInt8 := dkwX9_cheapest_9 ++ dktX9_cheapest_10
def dkwX9_cheapest_8 : List UInt8 := [104, 27, 154, 0, 7, 4, 167, 0, 4, 3, 184, 0, 154, 100, 167, 0, 10, 42, 180, 0, 39, 21, 7, 46]
abbrev dktX9_cheapest_8 : List UInt8 := dkwX9_cheapest_8 ++ dktX9_cheapest_9
def dkwX9_cheapest_7 : List UInt8 := [42, 180, 0, 42, 21, 7, 21, 5, 21, 7, 184, 1, 1, 153, 0, 28, 8, 42, 180, 0, 21, 21, 7, 46]
abbrev dktX9_cheapest_7 : List UInt8 := dkwX9_cheapest_7 ++ dktX9_cheapest_8
def dkwX9_cheapest_6 : List UInt8 := [130, 126, 154, 0, 158, 42, 182, 1, 112, 3, 54, 6, 3, 54, 7, 21, 7, 42, 180, 0, 126, 162, 0, 84]
abbrev dktX9_cheapest_6 : List UInt8 := dkwX9_cheapest_6 ++ dktX9_cheapest_7
def dkwX9_cheapest_5 : List UInt8 := [128, 54, 4, 132, 5, 1, 167, 255, 145, 3, 54, 5, 21, 5, 21, 4, 163, 0, 174, 21, 5, 21, 4, 2]
abbrev dktX9_cheapest_5 : List UInt8 := dkwX9_cheapest_5 ++ dktX9_cheapest_6
def dkwX9_cheapest_4 : List UInt8 := [155, 0, 23, 42, 180, 0, 39, 16, 8, 21, 5, 96, 46, 154, 0, 10, 4, 21, 5, 120, 167, 0, 4, 3]
abbrev dktX9_cheapest_4 : List UInt8 := dkwX9_cheapest_4 ++ dktX9_cheapest_5
def dkwX9_cheapest_3 : List UInt8 := [180, 0, 39, 21, 5, 46, 21, 6, 100, 79, 21, 4, 42, 180, 0, 78, 21, 5, 46, 158, 0, 28, 21, 6]
abbrev dktX9_cheapest_3 : List UInt8 := dkwX9_cheapest_3 ++ dktX9_cheapest_4
def dkwX9_cheapest_2 : List UInt8 := [180, 0, 78, 21, 5, 27, 153, 0, 16, 21, 6, 42, 180, 0, 39, 21, 5, 46, 100, 167, 0, 13, 42]
abbrev dktX9_cheapest_2 : List UInt8 := dkwX9_cheapest_2 ++ dktX9_cheapest_3
def dkwX9_cheapest_1 : List UInt8 := [180, 0, 21, 21, 5, 46, 104, 27, 154, 0, 7, 4, 167, 0, 4, 3, 184, 0, 154, 100, 54, 6, 42]
abbrev dktX9_cheapest_1 : List UInt8 := dkwX9_cheapest_1 ++ dktX9_cheapest_2
def dkwX9_cheapest_0 : List UInt8 := [2, 61, 19, 1, 115, 62, 3, 54, 4, 3, 54, 5, 21, 5, 42, 180, 0, 126, 162, 0, 108, 8, 42]
abbrev dktX9_cheapest_0 : List UInt8 := dkwX9_cheapest_0 ++ dktX9_cheapest_1
theorem dksX9_cheapest_0 : cX9_cheapest.data.toList.drop 0 = dktX9_cheapest_0 := by decide +kernel
theorem dksX9_cheapest_1 : cX9_cheapest.data.toList.drop 23 = dktX9_cheapest_1 := dk_seg dksX9_cheapest_0 23 rfl rfl
theorem dksX9_cheapest_2 : cX9_cheapest.data.toList.drop 46 = dktX9_cheapest_2 := dk_seg dksX9_cheapest_1 23 rfl rfl
theorem dksX9_cheapest_3 : cX9_cheapest.data.toList.drop 69 = dktX9_cheapest_3 := dk_seg dksX9_cheapest_2 23 rfl rfl
theorem dksX9_cheapest_4 : cX9_cheapest.data.toList.drop 93 = dktX9_cheapest_4 := dk_seg dksX9_cheapest_3 24 rfl rfl
theorem dksX9_cheapest_5 : cX9_cheapest.data.toList.drop 117 = dktX9_cheapest_5 := dk_seg dksX9_cheapest_4 24 rfl rfl
theorem dksX9_cheapest_6 : cX9_cheapest.data.toList.drop 141 = dktX9_cheapest_6 := dk_seg dksX9_cheapest_5 24 rfl rfl
theorem dksX9_cheapest_7 : cX9_cheapest.data.toList.drop 165 = dktX9_cheapest_7 := dk_seg dksX9_cheapest_6 24 rfl rfl
theorem dksX9_cheapest_8 : cX9_cheapest.data.toList.drop 189 = dktX9_cheapest_8 := dk_seg dksX9_cheapest_7 24 rfl rfl
theorem dksX9_cheapest_9 : cX9_cheapest.data.toList.drop 213 = dktX9_cheapest_9 := dk_seg dksX9_cheapest_8 24 rfl rfl
theorem dksX9_cheapest_10 : cX9_cheapest.data.toList.drop 237 = dktX9_cheapest_10 := dk_seg dksX9_cheapest_9 24 rfl rfl
theorem dksX9_cheapest_11 : cX9_cheapest.data.toList.drop 261 = dktX9_cheapest_11 := dk_seg dksX9_cheapest_10 24 rfl rfl
theorem dksX9_cheapest_12 : cX9_cheapest.data.toList.drop 285 = dktX9_cheapest_12 := dk_seg dksX9_cheapest_11 24 rfl rfl
theorem dX9_cheapest_0 : decode cX9_cheapest 0 = .ok (.iconst (-1), 1) := dk_2 (dk_at dksX9_cheapest_0 0 rfl rfl)
theorem dX9_cheapest_1 : decode cX9_cheapest 1 = .ok (.istore_n 2, 1) := dk_61 (dk_at dksX9_cheapest_0 1 rfl rfl)
theorem dX9_cheapest_2 : decode cX9_cheapest 2 = .ok (.ldc_w 371, 3) := dk_19 1 115 (dk_at dksX9_cheapest_0 2 rfl rfl)
theorem dX9_cheapest_5 : decode cX9_cheapest 5 = .ok (.istore_n 3, 1) := dk_62 (dk_at dksX9_cheapest_0 5 rfl rfl)
theorem dX9_cheapest_6 : decode cX9_cheapest 6 = .ok (.iconst 0, 1) := dk_3 (dk_at dksX9_cheapest_0 6 rfl rfl)
theorem dX9_cheapest_7 : decode cX9_cheapest 7 = .ok (.istore 4, 2) := dk_54 4 (dk_at dksX9_cheapest_0 7 rfl rfl)
theorem dX9_cheapest_9 : decode cX9_cheapest 9 = .ok (.iconst 0, 1) := dk_3 (dk_at dksX9_cheapest_0 9 rfl rfl)
theorem dX9_cheapest_10 : decode cX9_cheapest 10 = .ok (.istore 5, 2) := dk_54 5 (dk_at dksX9_cheapest_0 10 rfl rfl)
theorem dX9_cheapest_12 : decode cX9_cheapest 12 = .ok (.iload 5, 2) := dk_21 5 (dk_at dksX9_cheapest_0 12 rfl rfl)
theorem dX9_cheapest_14 : decode cX9_cheapest 14 = .ok (.aload_n 0, 1) := dk_42 (dk_at dksX9_cheapest_0 14 rfl rfl)
theorem dX9_cheapest_15 : decode cX9_cheapest 15 = .ok (.getfield 126, 3) := dk_180 0 126 (dk_at dksX9_cheapest_0 15 rfl rfl)
theorem dX9_cheapest_18 : decode cX9_cheapest 18 = .ok (.if_icmp .ge 108, 3) := dk_162 0 108 (dk_at dksX9_cheapest_0 18 rfl rfl)
theorem dX9_cheapest_21 : decode cX9_cheapest 21 = .ok (.iconst 5, 1) := dk_8 (dk_at dksX9_cheapest_0 21 rfl rfl)
theorem dX9_cheapest_22 : decode cX9_cheapest 22 = .ok (.aload_n 0, 1) := dk_42 (dk_at dksX9_cheapest_0 22 rfl rfl)
theorem dX9_cheapest_23 : decode cX9_cheapest 23 = .ok (.getfield 21, 3) := dk_180 0 21 (dk_at dksX9_cheapest_1 0 rfl rfl)
theorem dX9_cheapest_26 : decode cX9_cheapest 26 = .ok (.iload 5, 2) := dk_21 5 (dk_at dksX9_cheapest_1 3 rfl rfl)
theorem dX9_cheapest_28 : decode cX9_cheapest 28 = .ok (.iaload, 1) := dk_46 (dk_at dksX9_cheapest_1 5 rfl rfl)
theorem dX9_cheapest_29 : decode cX9_cheapest 29 = .ok (.imul, 1) := dk_104 (dk_at dksX9_cheapest_1 6 rfl rfl)
theorem dX9_cheapest_30 : decode cX9_cheapest 30 = .ok (.iload_n 1, 1) := dk_27 (dk_at dksX9_cheapest_1 7 rfl rfl)
theorem dX9_cheapest_31 : decode cX9_cheapest 31 = .ok (.ifCond .ne 7, 3) := dk_154 0 7 (dk_at dksX9_cheapest_1 8 rfl rfl)
theorem dX9_cheapest_34 : decode cX9_cheapest 34 = .ok (.iconst 1, 1) := dk_4 (dk_at dksX9_cheapest_1 11 rfl rfl)
theorem dX9_cheapest_35 : decode cX9_cheapest 35 = .ok (.goto 4, 3) := dk_167 0 4 (dk_at dksX9_cheapest_1 12 rfl rfl)
theorem dX9_cheapest_38 : decode cX9_cheapest 38 = .ok (.iconst 0, 1) := dk_3 (dk_at dksX9_cheapest_1 15 rfl rfl)
theorem dX9_cheapest_39 : decode cX9_cheapest 39 = .ok (.invokestatic 154, 3) := dk_184 0 154 (dk_at dksX9_cheapest_1 16 rfl rfl)
theorem dX9_cheapest_42 : decode cX9_cheapest 42 = .ok (.isub, 1) := dk_100 (dk_at dksX9_cheapest_1 19 rfl rfl)
theorem dX9_cheapest_43 : decode cX9_cheapest 43 = .ok (.istore 6, 2) := dk_54 6 (dk_at dksX9_cheapest_1 20 rfl rfl)
theorem dX9_cheapest_45 : decode cX9_cheapest 45 = .ok (.aload_n 0, 1) := dk_42 (dk_at dksX9_cheapest_1 22 rfl rfl)
theorem dX9_cheapest_46 : decode cX9_cheapest 46 = .ok (.getfield 78, 3) := dk_180 0 78 (dk_at dksX9_cheapest_2 0 rfl rfl)
theorem dX9_cheapest_49 : decode cX9_cheapest 49 = .ok (.iload 5, 2) := dk_21 5 (dk_at dksX9_cheapest_2 3 rfl rfl)
theorem dX9_cheapest_51 : decode cX9_cheapest 51 = .ok (.iload_n 1, 1) := dk_27 (dk_at dksX9_cheapest_2 5 rfl rfl)
theorem dX9_cheapest_52 : decode cX9_cheapest 52 = .ok (.ifCond .eq 16, 3) := dk_153 0 16 (dk_at dksX9_cheapest_2 6 rfl rfl)
theorem dX9_cheapest_55 : decode cX9_cheapest 55 = .ok (.iload 6, 2) := dk_21 6 (dk_at dksX9_cheapest_2 9 rfl rfl)
theorem dX9_cheapest_57 : decode cX9_cheapest 57 = .ok (.aload_n 0, 1) := dk_42 (dk_at dksX9_cheapest_2 11 rfl rfl)
theorem dX9_cheapest_58 : decode cX9_cheapest 58 = .ok (.getfield 39, 3) := dk_180 0 39 (dk_at dksX9_cheapest_2 12 rfl rfl)
theorem dX9_cheapest_61 : decode cX9_cheapest 61 = .ok (.iload 5, 2) := dk_21 5 (dk_at dksX9_cheapest_2 15 rfl rfl)
theorem dX9_cheapest_63 : decode cX9_cheapest 63 = .ok (.iaload, 1) := dk_46 (dk_at dksX9_cheapest_2 17 rfl rfl)
theorem dX9_cheapest_64 : decode cX9_cheapest 64 = .ok (.isub, 1) := dk_100 (dk_at dksX9_cheapest_2 18 rfl rfl)
theorem dX9_cheapest_65 : decode cX9_cheapest 65 = .ok (.goto 13, 3) := dk_167 0 13 (dk_at dksX9_cheapest_2 19 rfl rfl)
theorem dX9_cheapest_68 : decode cX9_cheapest 68 = .ok (.aload_n 0, 1) := dk_42 (dk_at dksX9_cheapest_2 22 rfl rfl)
theorem dX9_cheapest_69 : decode cX9_cheapest 69 = .ok (.getfield 39, 3) := dk_180 0 39 (dk_at dksX9_cheapest_3 0 rfl rfl)
theorem dX9_cheapest_72 : decode cX9_cheapest 72 = .ok (.iload 5, 2) := dk_21 5 (dk_at dksX9_cheapest_3 3 rfl rfl)
theorem dX9_cheapest_74 : decode cX9_cheapest 74 = .ok (.iaload, 1) := dk_46 (dk_at dksX9_cheapest_3 5 rfl rfl)
theorem dX9_cheapest_75 : decode cX9_cheapest 75 = .ok (.iload 6, 2) := dk_21 6 (dk_at dksX9_cheapest_3 6 rfl rfl)
theorem dX9_cheapest_77 : decode cX9_cheapest 77 = .ok (.isub, 1) := dk_100 (dk_at dksX9_cheapest_3 8 rfl rfl)
theorem dX9_cheapest_78 : decode cX9_cheapest 78 = .ok (.iastore, 1) := dk_79 (dk_at dksX9_cheapest_3 9 rfl rfl)
theorem dX9_cheapest_79 : decode cX9_cheapest 79 = .ok (.iload 4, 2) := dk_21 4 (dk_at dksX9_cheapest_3 10 rfl rfl)
theorem dX9_cheapest_81 : decode cX9_cheapest 81 = .ok (.aload_n 0, 1) := dk_42 (dk_at dksX9_cheapest_3 12 rfl rfl)
theorem dX9_cheapest_82 : decode cX9_cheapest 82 = .ok (.getfield 78, 3) := dk_180 0 78 (dk_at dksX9_cheapest_3 13 rfl rfl)
theorem dX9_cheapest_85 : decode cX9_cheapest 85 = .ok (.iload 5, 2) := dk_21 5 (dk_at dksX9_cheapest_3 16 rfl rfl)
theorem dX9_cheapest_87 : decode cX9_cheapest 87 = .ok (.iaload, 1) := dk_46 (dk_at dksX9_cheapest_3 18 rfl rfl)
theorem dX9_cheapest_88 : decode cX9_cheapest 88 = .ok (.ifCond .le 28, 3) := dk_158 0 28 (dk_at dksX9_cheapest_3 19 rfl rfl)
theorem dX9_cheapest_91 : decode cX9_cheapest 91 = .ok (.iload 6, 2) := dk_21 6 (dk_at dksX9_cheapest_3 22 rfl rfl)
theorem dX9_cheapest_93 : decode cX9_cheapest 93 = .ok (.ifCond .lt 23, 3) := dk_155 0 23 (dk_at dksX9_cheapest_4 0 rfl rfl)
theorem dX9_cheapest_96 : decode cX9_cheapest 96 = .ok (.aload_n 0, 1) := dk_42 (dk_at dksX9_cheapest_4 3 rfl rfl)
theorem dX9_cheapest_97 : decode cX9_cheapest 97 = .ok (.getfield 39, 3) := dk_180 0 39 (dk_at dksX9_cheapest_4 4 rfl rfl)
theorem dX9_cheapest_100 : decode cX9_cheapest 100 = .ok (.bipush 8, 2) := dk_16 8 (dk_at dksX9_cheapest_4 7 rfl rfl)
theorem dX9_cheapest_102 : decode cX9_cheapest 102 = .ok (.iload 5, 2) := dk_21 5 (dk_at dksX9_cheapest_4 9 rfl rfl)
theorem dX9_cheapest_104 : decode cX9_cheapest 104 = .ok (.iadd, 1) := dk_96 (dk_at dksX9_cheapest_4 11 rfl rfl)
theorem dX9_cheapest_105 : decode cX9_cheapest 105 = .ok (.iaload, 1) := dk_46 (dk_at dksX9_cheapest_4 12 rfl rfl)
theorem dX9_cheapest_106 : decode cX9_cheapest 106 = .ok (.ifCond .ne 10, 3) := dk_154 0 10 (dk_at dksX9_cheapest_4 13 rfl rfl)
theorem dX9_cheapest_109 : decode cX9_cheapest 109 = .ok (.iconst 1, 1) := dk_4 (dk_at dksX9_cheapest_4 16 rfl rfl)
theorem dX9_cheapest_110 : decode cX9_cheapest 110 = .ok (.iload 5, 2) := dk_21 5 (dk_at dksX9_cheapest_4 17 rfl rfl)
theorem dX9_cheapest_112 : decode cX9_cheapest 112 = .ok (.ishl, 1) := dk_120 (dk_at dksX9_cheapest_4 19 rfl rfl)
theorem dX9_cheapest_113 : decode cX9_cheapest 113 = .ok (.goto 4, 3) := dk_167 0 4 (dk_at dksX9_cheapest_4 20 rfl rfl)
theorem dX9_cheapest_116 : decode cX9_cheapest 116 = .ok (.iconst 0, 1) := dk_3 (dk_at dksX9_cheapest_4 23 rfl rfl)
theorem dX9_cheapest_117 : decode cX9_cheapest 117 = .ok (.ior, 1) := dk_128 (dk_at dksX9_cheapest_5 0 rfl rfl)
theorem dX9_cheapest_118 : decode cX9_cheapest 118 = .ok (.istore 4, 2) := dk_54 4 (dk_at dksX9_cheapest_5 1 rfl rfl)
theorem dX9_cheapest_120 : decode cX9_cheapest 120 = .ok (.iinc 5 1, 3) := dk_132 5 1 (dk_at dksX9_cheapest_5 3 rfl rfl)
theorem dX9_cheapest_123 : decode cX9_cheapest 123 = .ok (.goto (-111), 3) := dk_167 255 145 (dk_at dksX9_cheapest_5 6 rfl rfl)
theorem dX9_cheapest_126 : decode cX9_cheapest 126 = .ok (.iconst 0, 1) := dk_3 (dk_at dksX9_cheapest_5 9 rfl rfl)
theorem dX9_cheapest_127 : decode cX9_cheapest 127 = .ok (.istore 5, 2) := dk_54 5 (dk_at dksX9_cheapest_5 10 rfl rfl)
theorem dX9_cheapest_129 : decode cX9_cheapest 129 = .ok (.iload 5, 2) := dk_21 5 (dk_at dksX9_cheapest_5 12 rfl rfl)
theorem dX9_cheapest_131 : decode cX9_cheapest 131 = .ok (.iload 4, 2) := dk_21 4 (dk_at dksX9_cheapest_5 14 rfl rfl)
theorem dX9_cheapest_133 : decode cX9_cheapest 133 = .ok (.if_icmp .gt 174, 3) := dk_163 0 174 (dk_at dksX9_cheapest_5 16 rfl rfl)
theorem dX9_cheapest_136 : decode cX9_cheapest 136 = .ok (.iload 5, 2) := dk_21 5 (dk_at dksX9_cheapest_5 19 rfl rfl)
theorem dX9_cheapest_138 : decode cX9_cheapest 138 = .ok (.iload 4, 2) := dk_21 4 (dk_at dksX9_cheapest_5 21 rfl rfl)
theorem dX9_cheapest_140 : decode cX9_cheapest 140 = .ok (.iconst (-1), 1) := dk_2 (dk_at dksX9_cheapest_5 23 rfl rfl)
theorem dX9_cheapest_141 : decode cX9_cheapest 141 = .ok (.ixor, 1) := dk_130 (dk_at dksX9_cheapest_6 0 rfl rfl)
theorem dX9_cheapest_142 : decode cX9_cheapest 142 = .ok (.iand, 1) := dk_126 (dk_at dksX9_cheapest_6 1 rfl rfl)
theorem dX9_cheapest_143 : decode cX9_cheapest 143 = .ok (.ifCond .ne 158, 3) := dk_154 0 158 (dk_at dksX9_cheapest_6 2 rfl rfl)
theorem dX9_cheapest_146 : decode cX9_cheapest 146 = .ok (.aload_n 0, 1) := dk_42 (dk_at dksX9_cheapest_6 5 rfl rfl)
theorem dX9_cheapest_147 : decode cX9_cheapest 147 = .ok (.invokevirtual 368, 3) := dk_182 1 112 (dk_at dksX9_cheapest_6 6 rfl rfl)
theorem dX9_cheapest_150 : decode cX9_cheapest 150 = .ok (.iconst 0, 1) := dk_3 (dk_at dksX9_cheapest_6 9 rfl rfl)
theorem dX9_cheapest_151 : decode cX9_cheapest 151 = .ok (.istore 6, 2) := dk_54 6 (dk_at dksX9_cheapest_6 10 rfl rfl)
theorem dX9_cheapest_153 : decode cX9_cheapest 153 = .ok (.iconst 0, 1) := dk_3 (dk_at dksX9_cheapest_6 12 rfl rfl)
theorem dX9_cheapest_154 : decode cX9_cheapest 154 = .ok (.istore 7, 2) := dk_54 7 (dk_at dksX9_cheapest_6 13 rfl rfl)
theorem dX9_cheapest_156 : decode cX9_cheapest 156 = .ok (.iload 7, 2) := dk_21 7 (dk_at dksX9_cheapest_6 15 rfl rfl)
theorem dX9_cheapest_158 : decode cX9_cheapest 158 = .ok (.aload_n 0, 1) := dk_42 (dk_at dksX9_cheapest_6 17 rfl rfl)
theorem dX9_cheapest_159 : decode cX9_cheapest 159 = .ok (.getfield 126, 3) := dk_180 0 126 (dk_at dksX9_cheapest_6 18 rfl rfl)
theorem dX9_cheapest_162 : decode cX9_cheapest 162 = .ok (.if_icmp .ge 84, 3) := dk_162 0 84 (dk_at dksX9_cheapest_6 21 rfl rfl)
theorem dX9_cheapest_165 : decode cX9_cheapest 165 = .ok (.aload_n 0, 1) := dk_42 (dk_at dksX9_cheapest_7 0 rfl rfl)
theorem dX9_cheapest_166 : decode cX9_cheapest 166 = .ok (.getfield 42, 3) := dk_180 0 42 (dk_at dksX9_cheapest_7 1 rfl rfl)
theorem dX9_cheapest_169 : decode cX9_cheapest 169 = .ok (.iload 7, 2) := dk_21 7 (dk_at dksX9_cheapest_7 4 rfl rfl)
theorem dX9_cheapest_171 : decode cX9_cheapest 171 = .ok (.iload 5, 2) := dk_21 5 (dk_at dksX9_cheapest_7 6 rfl rfl)
theorem dX9_cheapest_173 : decode cX9_cheapest 173 = .ok (.iload 7, 2) := dk_21 7 (dk_at dksX9_cheapest_7 8 rfl rfl)
theorem dX9_cheapest_175 : decode cX9_cheapest 175 = .ok (.invokestatic 257, 3) := dk_184 1 1 (dk_at dksX9_cheapest_7 10 rfl rfl)
theorem dX9_cheapest_178 : decode cX9_cheapest 178 = .ok (.ifCond .eq 28, 3) := dk_153 0 28 (dk_at dksX9_cheapest_7 13 rfl rfl)
theorem dX9_cheapest_181 : decode cX9_cheapest 181 = .ok (.iconst 5, 1) := dk_8 (dk_at dksX9_cheapest_7 16 rfl rfl)
theorem dX9_cheapest_182 : decode cX9_cheapest 182 = .ok (.aload_n 0, 1) := dk_42 (dk_at dksX9_cheapest_7 17 rfl rfl)
theorem dX9_cheapest_183 : decode cX9_cheapest 183 = .ok (.getfield 21, 3) := dk_180 0 21 (dk_at dksX9_cheapest_7 18 rfl rfl)
theorem dX9_cheapest_186 : decode cX9_cheapest 186 = .ok (.iload 7, 2) := dk_21 7 (dk_at dksX9_cheapest_7 21 rfl rfl)
theorem dX9_cheapest_188 : decode cX9_cheapest 188 = .ok (.iaload, 1) := dk_46 (dk_at dksX9_cheapest_7 23 rfl rfl)
theorem dX9_cheapest_189 : decode cX9_cheapest 189 = .ok (.imul, 1) := dk_104 (dk_at dksX9_cheapest_8 0 rfl rfl)
theorem dX9_cheapest_190 : decode cX9_cheapest 190 = .ok (.iload_n 1, 1) := dk_27 (dk_at dksX9_cheapest_8 1 rfl rfl)
theorem dX9_cheapest_191 : decode cX9_cheapest 191 = .ok (.ifCond .ne 7, 3) := dk_154 0 7 (dk_at dksX9_cheapest_8 2 rfl rfl)
theorem dX9_cheapest_194 : decode cX9_cheapest 194 = .ok (.iconst 1, 1) := dk_4 (dk_at dksX9_cheapest_8 5 rfl rfl)
theorem dX9_cheapest_195 : decode cX9_cheapest 195 = .ok (.goto 4, 3) := dk_167 0 4 (dk_at dksX9_cheapest_8 6 rfl rfl)
theorem dX9_cheapest_198 : decode cX9_cheapest 198 = .ok (.iconst 0, 1) := dk_3 (dk_at dksX9_cheapest_8 9 rfl rfl)
theorem dX9_cheapest_199 : decode cX9_cheapest 199 = .ok (.invokestatic 154, 3) := dk_184 0 154 (dk_at dksX9_cheapest_8 10 rfl rfl)
theorem dX9_cheapest_202 : decode cX9_cheapest 202 = .ok (.isub, 1) := dk_100 (dk_at dksX9_cheapest_8 13 rfl rfl)
theorem dX9_cheapest_203 : decode cX9_cheapest 203 = .ok (.goto 10, 3) := dk_167 0 10 (dk_at dksX9_cheapest_8 14 rfl rfl)
theorem dX9_cheapest_206 : decode cX9_cheapest 206 = .ok (.aload_n 0, 1) := dk_42 (dk_at dksX9_cheapest_8 17 rfl rfl)
theorem dX9_cheapest_207 : decode cX9_cheapest 207 = .ok (.getfield 39, 3) := dk_180 0 39 (dk_at dksX9_cheapest_8 18 rfl rfl)
theorem dX9_cheapest_210 : decode cX9_cheapest 210 = .ok (.iload 7, 2) := dk_21 7 (dk_at dksX9_cheapest_8 21 rfl rfl)
theorem dX9_cheapest_212 : decode cX9_cheapest 212 = .ok (.iaload, 1) := dk_46 (dk_at dksX9_cheapest_8 23 rfl rfl)
theorem dX9_cheapest_213 : decode cX9_cheapest 213 = .ok (.iastore, 1) := dk_79 (dk_at dksX9_cheapest_9 0 rfl rfl)
theorem dX9_cheapest_214 : decode cX9_cheapest 214 = .ok (.iload 6, 2) := dk_21 6 (dk_at dksX9_cheapest_9 1 rfl rfl)
theorem dX9_cheapest_216 : decode cX9_cheapest 216 = .ok (.iload 5, 2) := dk_21 5 (dk_at dksX9_cheapest_9 3 rfl rfl)
theorem dX9_cheapest_218 : decode cX9_cheapest 218 = .ok (.iload 7, 2) := dk_21 7 (dk_at dksX9_cheapest_9 5 rfl rfl)
theorem dX9_cheapest_220 : decode cX9_cheapest 220 = .ok (.invokestatic 257, 3) := dk_184 1 1 (dk_at dksX9_cheapest_9 7 rfl rfl)
theorem dX9_cheapest_223 : decode cX9_cheapest 223 = .ok (.ifCond .eq 13, 3) := dk_153 0 13 (dk_at dksX9_cheapest_9 10 rfl rfl)
theorem dX9_cheapest_226 : decode cX9_cheapest 226 = .ok (.aload_n 0, 1) := dk_42 (dk_at dksX9_cheapest_9 13 rfl rfl)
theorem dX9_cheapest_227 : decode cX9_cheapest 227 = .ok (.getfield 78, 3) := dk_180 0 78 (dk_at dksX9_cheapest_9 14 rfl rfl)
theorem dX9_cheapest_230 : decode cX9_cheapest 230 = .ok (.iload 7, 2) := dk_21 7 (dk_at dksX9_cheapest_9 17 rfl rfl)
theorem dX9_cheapest_232 : decode cX9_cheapest 232 = .ok (.iaload, 1) := dk_46 (dk_at dksX9_cheapest_9 19 rfl rfl)
theorem dX9_cheapest_233 : decode cX9_cheapest 233 = .ok (.goto 4, 3) := dk_167 0 4 (dk_at dksX9_cheapest_9 20 rfl rfl)
theorem dX9_cheapest_236 : decode cX9_cheapest 236 = .ok (.iconst 0, 1) := dk_3 (dk_at dksX9_cheapest_9 23 rfl rfl)
theorem dX9_cheapest_237 : decode cX9_cheapest 237 = .ok (.iadd, 1) := dk_96 (dk_at dksX9_cheapest_10 0 rfl rfl)
theorem dX9_cheapest_238 : decode cX9_cheapest 238 = .ok (.istore 6, 2) := dk_54 6 (dk_at dksX9_cheapest_10 1 rfl rfl)
theorem dX9_cheapest_240 : decode cX9_cheapest 240 = .ok (.iinc 7 1, 3) := dk_132 7 1 (dk_at dksX9_cheapest_10 3 rfl rfl)
theorem dX9_cheapest_243 : decode cX9_cheapest 243 = .ok (.goto (-87), 3) := dk_167 255 169 (dk_at dksX9_cheapest_10 6 rfl rfl)
theorem dX9_cheapest_246 : decode cX9_cheapest 246 = .ok (.iload 6, 2) := dk_21 6 (dk_at dksX9_cheapest_10 9 rfl rfl)
theorem dX9_cheapest_248 : decode cX9_cheapest 248 = .ok (.iload_n 3, 1) := dk_29 (dk_at dksX9_cheapest_10 11 rfl rfl)
theorem dX9_cheapest_249 : decode cX9_cheapest 249 = .ok (.if_icmp .lt 22, 3) := dk_161 0 22 (dk_at dksX9_cheapest_10 12 rfl rfl)
theorem dX9_cheapest_252 : decode cX9_cheapest 252 = .ok (.iload 6, 2) := dk_21 6 (dk_at dksX9_cheapest_10 15 rfl rfl)
theorem dX9_cheapest_254 : decode cX9_cheapest 254 = .ok (.iload_n 3, 1) := dk_29 (dk_at dksX9_cheapest_10 17 rfl rfl)
theorem dX9_cheapest_255 : decode cX9_cheapest 255 = .ok (.if_icmp .ne 20, 3) := dk_160 0 20 (dk_at dksX9_cheapest_10 18 rfl rfl)
theorem dX9_cheapest_258 : decode cX9_cheapest 258 = .ok (.iload 5, 2) := dk_21 5 (dk_at dksX9_cheapest_10 21 rfl rfl)
theorem dX9_cheapest_260 : decode cX9_cheapest 260 = .ok (.iload_n 2, 1) := dk_28 (dk_at dksX9_cheapest_10 23 rfl rfl)
theorem dX9_cheapest_261 : decode cX9_cheapest 261 = .ok (.aload_n 0, 1) := dk_42 (dk_at dksX9_cheapest_11 0 rfl rfl)
theorem dX9_cheapest_262 : decode cX9_cheapest 262 = .ok (.getfield 78, 3) := dk_180 0 78 (dk_at dksX9_cheapest_11 1 rfl rfl)
theorem dX9_cheapest_265 : decode cX9_cheapest 265 = .ok (.invokestatic 372, 3) := dk_184 1 116 (dk_at dksX9_cheapest_11 4 rfl rfl)
theorem dX9_cheapest_268 : decode cX9_cheapest 268 = .ok (.ifCond .eq 7, 3) := dk_153 0 7 (dk_at dksX9_cheapest_11 7 rfl rfl)
theorem dX9_cheapest_271 : decode cX9_cheapest 271 = .ok (.iconst 1, 1) := dk_4 (dk_at dksX9_cheapest_11 10 rfl rfl)
theorem dX9_cheapest_272 : decode cX9_cheapest 272 = .ok (.goto 4, 3) := dk_167 0 4 (dk_at dksX9_cheapest_11 11 rfl rfl)
theorem dX9_cheapest_275 : decode cX9_cheapest 275 = .ok (.iconst 0, 1) := dk_3 (dk_at dksX9_cheapest_11 14 rfl rfl)
theorem dX9_cheapest_276 : decode cX9_cheapest 276 = .ok (.istore 7, 2) := dk_54 7 (dk_at dksX9_cheapest_11 15 rfl rfl)
theorem dX9_cheapest_278 : decode cX9_cheapest 278 = .ok (.iload 7, 2) := dk_21 7 (dk_at dksX9_cheapest_11 17 rfl rfl)
theorem dX9_cheapest_280 : decode cX9_cheapest 280 = .ok (.ifCond .eq 21, 3) := dk_153 0 21 (dk_at dksX9_cheapest_11 19 rfl rfl)
theorem dX9_cheapest_283 : decode cX9_cheapest 283 = .ok (.aload_n 0, 1) := dk_42 (dk_at dksX9_cheapest_11 22 rfl rfl)
theorem dX9_cheapest_284 : decode cX9_cheapest 284 = .ok (.aload_n 0, 1) := dk_42 (dk_at dksX9_cheapest_11 23 rfl rfl)
theorem dX9_cheapest_285 : decode cX9_cheapest 285 = .ok (.getfield 42, 3) := dk_180 0 42 (dk_at dksX9_cheapest_12 0 rfl rfl)
theorem dX9_cheapest_288 : decode cX9_cheapest 288 = .ok (.invokevirtual 334, 3) := dk_182 1 78 (dk_at dksX9_cheapest_12 3 rfl rfl)
theorem dX9_cheapest_291 : decode cX9_cheapest 291 = .ok (.iload_n 1, 1) := dk_27 (dk_at dksX9_cheapest_12 6 rfl rfl)
theorem dX9_cheapest_292 : decode cX9_cheapest 292 = .ok (.if_icmp .ne 9, 3) := dk_160 0 9 (dk_at dksX9_cheapest_12 7 rfl rfl)
theorem dX9_cheapest_295 : decode cX9_cheapest 295 = .ok (.iload 5, 2) := dk_21 5 (dk_at dksX9_cheapest_12 10 rfl rfl)
theorem dX9_cheapest_297 : decode cX9_cheapest 297 = .ok (.istore_n 2, 1) := dk_61 (dk_at dksX9_cheapest_12 12 rfl rfl)
theorem dX9_cheapest_298 : decode cX9_cheapest 298 = .ok (.iload 6, 2) := dk_21 6 (dk_at dksX9_cheapest_12 13 rfl rfl)
theorem dX9_cheapest_300 : decode cX9_cheapest 300 = .ok (.istore_n 3, 1) := dk_62 (dk_at dksX9_cheapest_12 15 rfl rfl)
theorem dX9_cheapest_301 : decode cX9_cheapest 301 = .ok (.iinc 5 1, 3) := dk_132 5 1 (dk_at dksX9_cheapest_12 16 rfl rfl)
theorem dX9_cheapest_304 : decode cX9_cheapest 304 = .ok (.goto (-175), 3) := dk_167 255 81 (dk_at dksX9_cheapest_12 19 rfl rfl)
theorem dX9_cheapest_307 : decode cX9_cheapest 307 = .ok (.iload_n 2, 1) := dk_28 (dk_at dksX9_cheapest_12 22 rfl rfl)
theorem dX9_cheapest_308 : decode cX9_cheapest 308 = .ok (.ireturn, 1) := dk_172 (dk_at dksX9_cheapest_12 23 rfl rfl)
abbrev cX9_isLess : ByteArray := prog_15_method_72_code
def yX9_isLess : MethodName := ⟨RX9, "isLess", "(II[I)Z"⟩
def dkwX9_isLess_2 : List UInt8 := [159, 0, 16, 21, 4, 21, 5, 162, 0, 7, 4, 167, 0, 4, 3, 172, 132, 3, 1, 167, 255, 193, 3, 172]
abbrev dktX9_isLess_2 : List UInt8 := dkwX9_isLess_2 ++ []
def dkwX9_isLess_1 : List UInt8 := [54, 4, 27, 29, 184, 1, 1, 153, 0, 9, 44, 29, 46, 167, 0, 4, 3, 54, 5, 21, 4, 21, 5]
abbrev dktX9_isLess_1 : List UInt8 := dkwX9_isLess_1 ++ dktX9_isLess_2
def dkwX9_isLess_0 : List UInt8 := [3, 62, 29, 16, 8, 162, 0, 63, 26, 29, 184, 1, 1, 153, 0, 9, 44, 29, 46, 167, 0, 4, 3]
abbrev dktX9_isLess_0 : List UInt8 := dkwX9_isLess_0 ++ dktX9_isLess_1
theorem dksX9_isLess_0 : cX9_isLess.data.toList.drop 0 = dktX9_isLess_0 := by decide +kernel
theorem dksX9_isLess_1 : cX9_isLess.data.toList.drop 23 = dktX9_isLess_1 := dk_seg dksX9_isLess_0 23 rfl rfl
theorem dksX9_isLess_2 : cX9_isLess.data.toList.drop 46 = dktX9_isLess_2 := dk_seg dksX9_isLess_1 23 rfl rfl
theorem dX9_isLess_0 : decode cX9_isLess 0 = .ok (.iconst 0, 1) := dk_3 (dk_at dksX9_isLess_0 0 rfl rfl)
theorem dX9_isLess_1 : decode cX9_isLess 1 = .ok (.istore_n 3, 1) := dk_62 (dk_at dksX9_isLess_0 1 rfl rfl)
theorem dX9_isLess_2 : decode cX9_isLess 2 = .ok (.iload_n 3, 1) := dk_29 (dk_at dksX9_isLess_0 2 rfl rfl)
theorem dX9_isLess_3 : decode cX9_isLess 3 = .ok (.bipush 8, 2) := dk_16 8 (dk_at dksX9_isLess_0 3 rfl rfl)
theorem dX9_isLess_5 : decode cX9_isLess 5 = .ok (.if_icmp .ge 63, 3) := dk_162 0 63 (dk_at dksX9_isLess_0 5 rfl rfl)
theorem dX9_isLess_8 : decode cX9_isLess 8 = .ok (.iload_n 0, 1) := dk_26 (dk_at dksX9_isLess_0 8 rfl rfl)
theorem dX9_isLess_9 : decode cX9_isLess 9 = .ok (.iload_n 3, 1) := dk_29 (dk_at dksX9_isLess_0 9 rfl rfl)
theorem dX9_isLess_10 : decode cX9_isLess 10 = .ok (.invokestatic 257, 3) := dk_184 1 1 (dk_at dksX9_isLess_0 10 rfl rfl)
theorem dX9_isLess_13 : decode cX9_isLess 13 = .ok (.ifCond .eq 9, 3) := dk_153 0 9 (dk_at dksX9_isLess_0 13 rfl rfl)
theorem dX9_isLess_16 : decode cX9_isLess 16 = .ok (.aload_n 2, 1) := dk_44 (dk_at dksX9_isLess_0 16 rfl rfl)
theorem dX9_isLess_17 : decode cX9_isLess 17 = .ok (.iload_n 3, 1) := dk_29 (dk_at dksX9_isLess_0 17 rfl rfl)
theorem dX9_isLess_18 : decode cX9_isLess 18 = .ok (.iaload, 1) := dk_46 (dk_at dksX9_isLess_0 18 rfl rfl)
theorem dX9_isLess_19 : decode cX9_isLess 19 = .ok (.goto 4, 3) := dk_167 0 4 (dk_at dksX9_isLess_0 19 rfl rfl)
theorem dX9_isLess_22 : decode cX9_isLess 22 = .ok (.iconst 0, 1) := dk_3 (dk_at dksX9_isLess_0 22 rfl rfl)
theorem dX9_isLess_23 : decode cX9_isLess 23 = .ok (.istore 4, 2) := dk_54 4 (dk_at dksX9_isLess_1 0 rfl rfl)
theorem dX9_isLess_25 : decode cX9_isLess 25 = .ok (.iload_n 1, 1) := dk_27 (dk_at dksX9_isLess_1 2 rfl rfl)
theorem dX9_isLess_26 : decode cX9_isLess 26 = .ok (.iload_n 3, 1) := dk_29 (dk_at dksX9_isLess_1 3 rfl rfl)
theorem dX9_isLess_27 : decode cX9_isLess 27 = .ok (.invokestatic 257, 3) := dk_184 1 1 (dk_at dksX9_isLess_1 4 rfl rfl)
theorem dX9_isLess_30 : decode cX9_isLess 30 = .ok (.ifCond .eq 9, 3) := dk_153 0 9 (dk_at dksX9_isLess_1 7 rfl rfl)
theorem dX9_isLess_33 : decode cX9_isLess 33 = .ok (.aload_n 2, 1) := dk_44 (dk_at dksX9_isLess_1 10 rfl rfl)
theorem dX9_isLess_34 : decode cX9_isLess 34 = .ok (.iload_n 3, 1) := dk_29 (dk_at dksX9_isLess_1 11 rfl rfl)
theorem dX9_isLess_35 : decode cX9_isLess 35 = .ok (.iaload, 1) := dk_46 (dk_at dksX9_isLess_1 12 rfl rfl)
theorem dX9_isLess_36 : decode cX9_isLess 36 = .ok (.goto 4, 3) := dk_167 0 4 (dk_at dksX9_isLess_1 13 rfl rfl)
theorem dX9_isLess_39 : decode cX9_isLess 39 = .ok (.iconst 0, 1) := dk_3 (dk_at dksX9_isLess_1 16 rfl rfl)
theorem dX9_isLess_40 : decode cX9_isLess 40 = .ok (.istore 5, 2) := dk_54 5 (dk_at dksX9_isLess_1 17 rfl rfl)
theorem dX9_isLess_42 : decode cX9_isLess 42 = .ok (.iload 4, 2) := dk_21 4 (dk_at dksX9_isLess_1 19 rfl rfl)
theorem dX9_isLess_44 : decode cX9_isLess 44 = .ok (.iload 5, 2) := dk_21 5 (dk_at dksX9_isLess_1 21 rfl rfl)
theorem dX9_isLess_46 : decode cX9_isLess 46 = .ok (.if_icmp .eq 16, 3) := dk_159 0 16 (dk_at dksX9_isLess_2 0 rfl rfl)
theorem dX9_isLess_49 : decode cX9_isLess 49 = .ok (.iload 4, 2) := dk_21 4 (dk_at dksX9_isLess_2 3 rfl rfl)
theorem dX9_isLess_51 : decode cX9_isLess 51 = .ok (.iload 5, 2) := dk_21 5 (dk_at dksX9_isLess_2 5 rfl rfl)
theorem dX9_isLess_53 : decode cX9_isLess 53 = .ok (.if_icmp .ge 7, 3) := dk_162 0 7 (dk_at dksX9_isLess_2 7 rfl rfl)
theorem dX9_isLess_56 : decode cX9_isLess 56 = .ok (.iconst 1, 1) := dk_4 (dk_at dksX9_isLess_2 10 rfl rfl)
theorem dX9_isLess_57 : decode cX9_isLess 57 = .ok (.goto 4, 3) := dk_167 0 4 (dk_at dksX9_isLess_2 11 rfl rfl)
theorem dX9_isLess_60 : decode cX9_isLess 60 = .ok (.iconst 0, 1) := dk_3 (dk_at dksX9_isLess_2 14 rfl rfl)
theorem dX9_isLess_61 : decode cX9_isLess 61 = .ok (.ireturn, 1) := dk_172 (dk_at dksX9_isLess_2 15 rfl rfl)
theorem dX9_isLess_62 : decode cX9_isLess 62 = .ok (.iinc 3 1, 3) := dk_132 3 1 (dk_at dksX9_isLess_2 16 rfl rfl)
theorem dX9_isLess_65 : decode cX9_isLess 65 = .ok (.goto (-63), 3) := dk_167 255 193 (dk_at dksX9_isLess_2 19 rfl rfl)
theorem dX9_isLess_68 : decode cX9_isLess 68 = .ok (.iconst 0, 1) := dk_3 (dk_at dksX9_isLess_2 22 rfl rfl)
theorem dX9_isLess_69 : decode cX9_isLess 69 = .ok (.ireturn, 1) := dk_172 (dk_at dksX9_isLess_2 23 rfl rfl)
abbrev cX9_kindness : ByteArray := prog_15_method_76_code
def yX9_kindness : MethodName := ⟨RX9, "kindness", "()I"⟩
def dkwX9_kindness_0 : List UInt8 := [42, 3, 181, 0, 112, 42, 3, 182, 1, 123, 172]
abbrev dktX9_kindness_0 : List UInt8 := dkwX9_kindness_0 ++ []
theorem dksX9_kindness_0 : cX9_kindness.data.toList.drop 0 = dktX9_kindness_0 := by decide +kernel
theorem dX9_kindness_0 : decode cX9_kindness 0 = .ok (.aload_n 0, 1) := dk_42 (dk_at dksX9_kindness_0 0 rfl rfl)
theorem dX9_kindness_1 : decode cX9_kindness 1 = .ok (.iconst 0, 1) := dk_3 (dk_at dksX9_kindness_0 1 rfl rfl)
theorem dX9_kindness_2 : decode cX9_kindness 2 = .ok (.putfield 112, 3) := dk_181 0 112 (dk_at dksX9_kindness_0 2 rfl rfl)
theorem dX9_kindness_5 : decode cX9_kindness 5 = .ok (.aload_n 0, 1) := dk_42 (dk_at dksX9_kindness_0 5 rfl rfl)
theorem dX9_kindness_6 : decode cX9_kindness 6 = .ok (.iconst 0, 1) := dk_3 (dk_at dksX9_kindness_0 6 rfl rfl)
theorem dX9_kindness_7 : decode cX9_kindness 7 = .ok (.invokevirtual 379, 3) := dk_182 1 123 (dk_at dksX9_kindness_0 7 rfl rfl)
theorem dX9_kindness_10 : decode cX9_kindness 10 = .ok (.ireturn, 1) := dk_172 (dk_at dksX9_kindness_0 10 rfl rfl)
abbrev cX9_heads : ByteArray := prog_15_method_77_code
def yX9_heads : MethodName := ⟨RX9, "heads", "()I"⟩
def dkwX9_heads_4 : List UInt8 := [182, 0, 122, 27, 172]
abbrev dktX9_heads_4 : List UInt8 := dkwX9_heads_4 ++ []
def dkwX9_heads_3 : List UInt8 := [167, 0, 4, 3, 128, 60, 132, 2, 1, 167, 255, 202, 42, 3, 181, 0, 119, 42, 27, 184, 1, 5, 133]
abbrev dktX9_heads_3 : List UInt8 := dkwX9_heads_3 ++ dktX9_heads_4
def dkwX9_heads_2 : List UInt8 := [180, 0, 39, 42, 42, 180, 0, 39, 3, 28, 182, 1, 14, 182, 1, 18, 154, 0, 9, 4, 28, 120]
abbrev dktX9_heads_2 : List UInt8 := dkwX9_heads_2 ++ dktX9_heads_3
def dkwX9_heads_1 : List UInt8 := [42, 180, 0, 126, 162, 0, 52, 27, 42, 180, 0, 39, 16, 8, 28, 96, 46, 154, 0, 30, 42, 42]
abbrev dktX9_heads_1 : List UInt8 := dkwX9_heads_1 ++ dktX9_heads_2
def dkwX9_heads_0 : List UInt8 := [42, 3, 181, 0, 112, 42, 42, 180, 0, 39, 182, 1, 78, 154, 0, 6, 16, 254, 172, 3, 60, 3, 61, 28]
abbrev dktX9_heads_0 : List UInt8 := dkwX9_heads_0 ++ dktX9_heads_1
theorem dksX9_heads_0 : cX9_heads.data.toList.drop 0 = dktX9_heads_0 := by decide +kernel
theorem dksX9_heads_1 : cX9_heads.data.toList.drop 24 = dktX9_heads_1 := dk_seg dksX9_heads_0 24 rfl rfl
theorem dksX9_heads_2 : cX9_heads.data.toList.drop 46 = dktX9_heads_2 := dk_seg dksX9_heads_1 22 rfl rfl
theorem dksX9_heads_3 : cX9_heads.data.toList.drop 68 = dktX9_heads_3 := dk_seg dksX9_heads_2 22 rfl rfl
theorem dksX9_heads_4 : cX9_heads.data.toList.drop 91 = dktX9_heads_4 := dk_seg dksX9_heads_3 23 rfl rfl
theorem dX9_heads_0 : decode cX9_heads 0 = .ok (.aload_n 0, 1) := dk_42 (dk_at dksX9_heads_0 0 rfl rfl)
theorem dX9_heads_1 : decode cX9_heads 1 = .ok (.iconst 0, 1) := dk_3 (dk_at dksX9_heads_0 1 rfl rfl)
theorem dX9_heads_2 : decode cX9_heads 2 = .ok (.putfield 112, 3) := dk_181 0 112 (dk_at dksX9_heads_0 2 rfl rfl)
theorem dX9_heads_5 : decode cX9_heads 5 = .ok (.aload_n 0, 1) := dk_42 (dk_at dksX9_heads_0 5 rfl rfl)
theorem dX9_heads_6 : decode cX9_heads 6 = .ok (.aload_n 0, 1) := dk_42 (dk_at dksX9_heads_0 6 rfl rfl)
theorem dX9_heads_7 : decode cX9_heads 7 = .ok (.getfield 39, 3) := dk_180 0 39 (dk_at dksX9_heads_0 7 rfl rfl)
theorem dX9_heads_10 : decode cX9_heads 10 = .ok (.invokevirtual 334, 3) := dk_182 1 78 (dk_at dksX9_heads_0 10 rfl rfl)
theorem dX9_heads_13 : decode cX9_heads 13 = .ok (.ifCond .ne 6, 3) := dk_154 0 6 (dk_at dksX9_heads_0 13 rfl rfl)
theorem dX9_heads_16 : decode cX9_heads 16 = .ok (.bipush (-2), 2) := dk_16 254 (dk_at dksX9_heads_0 16 rfl rfl)
theorem dX9_heads_18 : decode cX9_heads 18 = .ok (.ireturn, 1) := dk_172 (dk_at dksX9_heads_0 18 rfl rfl)
theorem dX9_heads_19 : decode cX9_heads 19 = .ok (.iconst 0, 1) := dk_3 (dk_at dksX9_heads_0 19 rfl rfl)
theorem dX9_heads_20 : decode cX9_heads 20 = .ok (.istore_n 1, 1) := dk_60 (dk_at dksX9_heads_0 20 rfl rfl)
theorem dX9_heads_21 : decode cX9_heads 21 = .ok (.iconst 0, 1) := dk_3 (dk_at dksX9_heads_0 21 rfl rfl)
theorem dX9_heads_22 : decode cX9_heads 22 = .ok (.istore_n 2, 1) := dk_61 (dk_at dksX9_heads_0 22 rfl rfl)
theorem dX9_heads_23 : decode cX9_heads 23 = .ok (.iload_n 2, 1) := dk_28 (dk_at dksX9_heads_0 23 rfl rfl)
theorem dX9_heads_24 : decode cX9_heads 24 = .ok (.aload_n 0, 1) := dk_42 (dk_at dksX9_heads_1 0 rfl rfl)
theorem dX9_heads_25 : decode cX9_heads 25 = .ok (.getfield 126, 3) := dk_180 0 126 (dk_at dksX9_heads_1 1 rfl rfl)
theorem dX9_heads_28 : decode cX9_heads 28 = .ok (.if_icmp .ge 52, 3) := dk_162 0 52 (dk_at dksX9_heads_1 4 rfl rfl)
theorem dX9_heads_31 : decode cX9_heads 31 = .ok (.iload_n 1, 1) := dk_27 (dk_at dksX9_heads_1 7 rfl rfl)
theorem dX9_heads_32 : decode cX9_heads 32 = .ok (.aload_n 0, 1) := dk_42 (dk_at dksX9_heads_1 8 rfl rfl)
theorem dX9_heads_33 : decode cX9_heads 33 = .ok (.getfield 39, 3) := dk_180 0 39 (dk_at dksX9_heads_1 9 rfl rfl)
theorem dX9_heads_36 : decode cX9_heads 36 = .ok (.bipush 8, 2) := dk_16 8 (dk_at dksX9_heads_1 12 rfl rfl)
theorem dX9_heads_38 : decode cX9_heads 38 = .ok (.iload_n 2, 1) := dk_28 (dk_at dksX9_heads_1 14 rfl rfl)
theorem dX9_heads_39 : decode cX9_heads 39 = .ok (.iadd, 1) := dk_96 (dk_at dksX9_heads_1 15 rfl rfl)
theorem dX9_heads_40 : decode cX9_heads 40 = .ok (.iaload, 1) := dk_46 (dk_at dksX9_heads_1 16 rfl rfl)
theorem dX9_heads_41 : decode cX9_heads 41 = .ok (.ifCond .ne 30, 3) := dk_154 0 30 (dk_at dksX9_heads_1 17 rfl rfl)
theorem dX9_heads_44 : decode cX9_heads 44 = .ok (.aload_n 0, 1) := dk_42 (dk_at dksX9_heads_1 20 rfl rfl)
theorem dX9_heads_45 : decode cX9_heads 45 = .ok (.aload_n 0, 1) := dk_42 (dk_at dksX9_heads_1 21 rfl rfl)
theorem dX9_heads_46 : decode cX9_heads 46 = .ok (.getfield 39, 3) := dk_180 0 39 (dk_at dksX9_heads_2 0 rfl rfl)
theorem dX9_heads_49 : decode cX9_heads 49 = .ok (.aload_n 0, 1) := dk_42 (dk_at dksX9_heads_2 3 rfl rfl)
theorem dX9_heads_50 : decode cX9_heads 50 = .ok (.aload_n 0, 1) := dk_42 (dk_at dksX9_heads_2 4 rfl rfl)
theorem dX9_heads_51 : decode cX9_heads 51 = .ok (.getfield 39, 3) := dk_180 0 39 (dk_at dksX9_heads_2 5 rfl rfl)
theorem dX9_heads_54 : decode cX9_heads 54 = .ok (.iconst 0, 1) := dk_3 (dk_at dksX9_heads_2 8 rfl rfl)
theorem dX9_heads_55 : decode cX9_heads 55 = .ok (.iload_n 2, 1) := dk_28 (dk_at dksX9_heads_2 9 rfl rfl)
theorem dX9_heads_56 : decode cX9_heads 56 = .ok (.invokevirtual 270, 3) := dk_182 1 14 (dk_at dksX9_heads_2 10 rfl rfl)
theorem dX9_heads_59 : decode cX9_heads 59 = .ok (.invokevirtual 274, 3) := dk_182 1 18 (dk_at dksX9_heads_2 13 rfl rfl)
theorem dX9_heads_62 : decode cX9_heads 62 = .ok (.ifCond .ne 9, 3) := dk_154 0 9 (dk_at dksX9_heads_2 16 rfl rfl)
theorem dX9_heads_65 : decode cX9_heads 65 = .ok (.iconst 1, 1) := dk_4 (dk_at dksX9_heads_2 19 rfl rfl)
theorem dX9_heads_66 : decode cX9_heads 66 = .ok (.iload_n 2, 1) := dk_28 (dk_at dksX9_heads_2 20 rfl rfl)
theorem dX9_heads_67 : decode cX9_heads 67 = .ok (.ishl, 1) := dk_120 (dk_at dksX9_heads_2 21 rfl rfl)
theorem dX9_heads_68 : decode cX9_heads 68 = .ok (.goto 4, 3) := dk_167 0 4 (dk_at dksX9_heads_3 0 rfl rfl)
theorem dX9_heads_71 : decode cX9_heads 71 = .ok (.iconst 0, 1) := dk_3 (dk_at dksX9_heads_3 3 rfl rfl)
theorem dX9_heads_72 : decode cX9_heads 72 = .ok (.ior, 1) := dk_128 (dk_at dksX9_heads_3 4 rfl rfl)
theorem dX9_heads_73 : decode cX9_heads 73 = .ok (.istore_n 1, 1) := dk_60 (dk_at dksX9_heads_3 5 rfl rfl)
theorem dX9_heads_74 : decode cX9_heads 74 = .ok (.iinc 2 1, 3) := dk_132 2 1 (dk_at dksX9_heads_3 6 rfl rfl)
theorem dX9_heads_77 : decode cX9_heads 77 = .ok (.goto (-54), 3) := dk_167 255 202 (dk_at dksX9_heads_3 9 rfl rfl)
theorem dX9_heads_80 : decode cX9_heads 80 = .ok (.aload_n 0, 1) := dk_42 (dk_at dksX9_heads_3 12 rfl rfl)
theorem dX9_heads_81 : decode cX9_heads 81 = .ok (.iconst 0, 1) := dk_3 (dk_at dksX9_heads_3 13 rfl rfl)
theorem dX9_heads_82 : decode cX9_heads 82 = .ok (.putfield 119, 3) := dk_181 0 119 (dk_at dksX9_heads_3 14 rfl rfl)
theorem dX9_heads_85 : decode cX9_heads 85 = .ok (.aload_n 0, 1) := dk_42 (dk_at dksX9_heads_3 17 rfl rfl)
theorem dX9_heads_86 : decode cX9_heads 86 = .ok (.iload_n 1, 1) := dk_27 (dk_at dksX9_heads_3 18 rfl rfl)
theorem dX9_heads_87 : decode cX9_heads 87 = .ok (.invokestatic 261, 3) := dk_184 1 5 (dk_at dksX9_heads_3 19 rfl rfl)
theorem dX9_heads_90 : decode cX9_heads 90 = .ok (.i2l, 1) := dk_133 (dk_at dksX9_heads_3 22 rfl rfl)
theorem dX9_heads_91 : decode cX9_heads 91 = .ok (.invokevirtual 122, 3) := dk_182 0 122 (dk_at dksX9_heads_4 0 rfl rfl)
theorem dX9_heads_94 : decode cX9_heads 94 = .ok (.iload_n 1, 1) := dk_27 (dk_at dksX9_heads_4 3 rfl rfl)
theorem dX9_heads_95 : decode cX9_heads 95 = .ok (.ireturn, 1) := dk_172 (dk_at dksX9_heads_4 4 rfl rfl)
abbrev cX9_ahead : ByteArray := prog_15_method_78_code
def yX9_ahead : MethodName := ⟨RX9, "ahead", "(I)I"⟩
def dkwX9_ahead_2 : List UInt8 := [182, 0, 122, 42, 28, 133, 182, 0, 122, 42, 180, 0, 42, 16, 17, 46, 172]
abbrev dktX9_ahead_2 : List UInt8 := dkwX9_ahead_2 ++ []
def dkwX9_ahead_1 : List UInt8 := [42, 180, 0, 42, 27, 182, 1, 75, 61, 42, 3, 181, 0, 119, 42, 42, 180, 0, 42, 16, 16, 46, 133]
abbrev dktX9_ahead_1 : List UInt8 := dkwX9_ahead_1 ++ dktX9_ahead_2
def dkwX9_ahead_0 : List UInt8 := [42, 3, 181, 0, 112, 27, 133, 9, 20, 1, 56, 184, 0, 129, 154, 0, 5, 2, 172, 42, 182, 1, 112, 42]
abbrev dktX9_ahead_0 : List UInt8 := dkwX9_ahead_0 ++ dktX9_ahead_1
theorem dksX9_ahead_0 : cX9_ahead.data.toList.drop 0 = dktX9_ahead_0 := by decide +kernel
theorem dksX9_ahead_1 : cX9_ahead.data.toList.drop 24 = dktX9_ahead_1 := dk_seg dksX9_ahead_0 24 rfl rfl
theorem dksX9_ahead_2 : cX9_ahead.data.toList.drop 47 = dktX9_ahead_2 := dk_seg dksX9_ahead_1 23 rfl rfl
theorem dX9_ahead_0 : decode cX9_ahead 0 = .ok (.aload_n 0, 1) := dk_42 (dk_at dksX9_ahead_0 0 rfl rfl)
theorem dX9_ahead_1 : decode cX9_ahead 1 = .ok (.iconst 0, 1) := dk_3 (dk_at dksX9_ahead_0 1 rfl rfl)
theorem dX9_ahead_2 : decode cX9_ahead 2 = .ok (.putfield 112, 3) := dk_181 0 112 (dk_at dksX9_ahead_0 2 rfl rfl)
theorem dX9_ahead_5 : decode cX9_ahead 5 = .ok (.iload_n 1, 1) := dk_27 (dk_at dksX9_ahead_0 5 rfl rfl)
theorem dX9_ahead_6 : decode cX9_ahead 6 = .ok (.i2l, 1) := dk_133 (dk_at dksX9_ahead_0 6 rfl rfl)
theorem dX9_ahead_7 : decode cX9_ahead 7 = .ok (.lconst 0, 1) := dk_9 (dk_at dksX9_ahead_0 7 rfl rfl)
theorem dX9_ahead_8 : decode cX9_ahead 8 = .ok (.ldc2_w 312, 3) := dk_20 1 56 (dk_at dksX9_ahead_0 8 rfl rfl)
theorem dX9_ahead_11 : decode cX9_ahead 11 = .ok (.invokestatic 129, 3) := dk_184 0 129 (dk_at dksX9_ahead_0 11 rfl rfl)
theorem dX9_ahead_14 : decode cX9_ahead 14 = .ok (.ifCond .ne 5, 3) := dk_154 0 5 (dk_at dksX9_ahead_0 14 rfl rfl)
theorem dX9_ahead_17 : decode cX9_ahead 17 = .ok (.iconst (-1), 1) := dk_2 (dk_at dksX9_ahead_0 17 rfl rfl)
theorem dX9_ahead_18 : decode cX9_ahead 18 = .ok (.ireturn, 1) := dk_172 (dk_at dksX9_ahead_0 18 rfl rfl)
theorem dX9_ahead_19 : decode cX9_ahead 19 = .ok (.aload_n 0, 1) := dk_42 (dk_at dksX9_ahead_0 19 rfl rfl)
theorem dX9_ahead_20 : decode cX9_ahead 20 = .ok (.invokevirtual 368, 3) := dk_182 1 112 (dk_at dksX9_ahead_0 20 rfl rfl)
theorem dX9_ahead_23 : decode cX9_ahead 23 = .ok (.aload_n 0, 1) := dk_42 (dk_at dksX9_ahead_0 23 rfl rfl)
theorem dX9_ahead_24 : decode cX9_ahead 24 = .ok (.aload_n 0, 1) := dk_42 (dk_at dksX9_ahead_1 0 rfl rfl)
theorem dX9_ahead_25 : decode cX9_ahead 25 = .ok (.getfield 42, 3) := dk_180 0 42 (dk_at dksX9_ahead_1 1 rfl rfl)
theorem dX9_ahead_28 : decode cX9_ahead 28 = .ok (.iload_n 1, 1) := dk_27 (dk_at dksX9_ahead_1 4 rfl rfl)
theorem dX9_ahead_29 : decode cX9_ahead 29 = .ok (.invokevirtual 331, 3) := dk_182 1 75 (dk_at dksX9_ahead_1 5 rfl rfl)
theorem dX9_ahead_32 : decode cX9_ahead 32 = .ok (.istore_n 2, 1) := dk_61 (dk_at dksX9_ahead_1 8 rfl rfl)
theorem dX9_ahead_33 : decode cX9_ahead 33 = .ok (.aload_n 0, 1) := dk_42 (dk_at dksX9_ahead_1 9 rfl rfl)
theorem dX9_ahead_34 : decode cX9_ahead 34 = .ok (.iconst 0, 1) := dk_3 (dk_at dksX9_ahead_1 10 rfl rfl)
theorem dX9_ahead_35 : decode cX9_ahead 35 = .ok (.putfield 119, 3) := dk_181 0 119 (dk_at dksX9_ahead_1 11 rfl rfl)
theorem dX9_ahead_38 : decode cX9_ahead 38 = .ok (.aload_n 0, 1) := dk_42 (dk_at dksX9_ahead_1 14 rfl rfl)
theorem dX9_ahead_39 : decode cX9_ahead 39 = .ok (.aload_n 0, 1) := dk_42 (dk_at dksX9_ahead_1 15 rfl rfl)
theorem dX9_ahead_40 : decode cX9_ahead 40 = .ok (.getfield 42, 3) := dk_180 0 42 (dk_at dksX9_ahead_1 16 rfl rfl)
theorem dX9_ahead_43 : decode cX9_ahead 43 = .ok (.bipush 16, 2) := dk_16 16 (dk_at dksX9_ahead_1 19 rfl rfl)
theorem dX9_ahead_45 : decode cX9_ahead 45 = .ok (.iaload, 1) := dk_46 (dk_at dksX9_ahead_1 21 rfl rfl)
theorem dX9_ahead_46 : decode cX9_ahead 46 = .ok (.i2l, 1) := dk_133 (dk_at dksX9_ahead_1 22 rfl rfl)
theorem dX9_ahead_47 : decode cX9_ahead 47 = .ok (.invokevirtual 122, 3) := dk_182 0 122 (dk_at dksX9_ahead_2 0 rfl rfl)
theorem dX9_ahead_50 : decode cX9_ahead 50 = .ok (.aload_n 0, 1) := dk_42 (dk_at dksX9_ahead_2 3 rfl rfl)
theorem dX9_ahead_51 : decode cX9_ahead 51 = .ok (.iload_n 2, 1) := dk_28 (dk_at dksX9_ahead_2 4 rfl rfl)
theorem dX9_ahead_52 : decode cX9_ahead 52 = .ok (.i2l, 1) := dk_133 (dk_at dksX9_ahead_2 5 rfl rfl)
theorem dX9_ahead_53 : decode cX9_ahead 53 = .ok (.invokevirtual 122, 3) := dk_182 0 122 (dk_at dksX9_ahead_2 6 rfl rfl)
theorem dX9_ahead_56 : decode cX9_ahead 56 = .ok (.aload_n 0, 1) := dk_42 (dk_at dksX9_ahead_2 9 rfl rfl)
theorem dX9_ahead_57 : decode cX9_ahead 57 = .ok (.getfield 42, 3) := dk_180 0 42 (dk_at dksX9_ahead_2 10 rfl rfl)
theorem dX9_ahead_60 : decode cX9_ahead 60 = .ok (.bipush 17, 2) := dk_16 17 (dk_at dksX9_ahead_2 13 rfl rfl)
theorem dX9_ahead_62 : decode cX9_ahead 62 = .ok (.iaload, 1) := dk_46 (dk_at dksX9_ahead_2 15 rfl rfl)
theorem dX9_ahead_63 : decode cX9_ahead 63 = .ok (.ireturn, 1) := dk_172 (dk_at dksX9_ahead_2 16 rfl rfl)
abbrev cX9_lasts : ByteArray := prog_15_method_79_code
def yX9_lasts : MethodName := ⟨RX9, "lasts", "()I"⟩
def dkwX9_lasts_2 : List UInt8 := [172, 42, 42, 180, 0, 42, 182, 1, 51, 87, 132, 1, 1, 167, 255, 208, 16, 254, 172]
abbrev dktX9_lasts_2 : List UInt8 := dkwX9_lasts_2 ++ []
def dkwX9_lasts_1 : List UInt8 := [182, 1, 44, 154, 0, 22, 42, 3, 181, 0, 119, 42, 42, 180, 0, 42, 16, 16, 46, 133, 182, 0, 122, 27]
abbrev dktX9_lasts_1 : List UInt8 := dkwX9_lasts_1 ++ dktX9_lasts_2
def dkwX9_lasts_0 : List UInt8 := [42, 3, 181, 0, 112, 42, 182, 1, 112, 3, 60, 27, 16, 99, 162, 0, 48, 42, 42, 180, 0, 42]
abbrev dktX9_lasts_0 : List UInt8 := dkwX9_lasts_0 ++ dktX9_lasts_1
theorem dksX9_lasts_0 : cX9_lasts.data.toList.drop 0 = dktX9_lasts_0 := by decide +kernel
theorem dksX9_lasts_1 : cX9_lasts.data.toList.drop 22 = dktX9_lasts_1 := dk_seg dksX9_lasts_0 22 rfl rfl
theorem dksX9_lasts_2 : cX9_lasts.data.toList.drop 46 = dktX9_lasts_2 := dk_seg dksX9_lasts_1 24 rfl rfl
theorem dX9_lasts_0 : decode cX9_lasts 0 = .ok (.aload_n 0, 1) := dk_42 (dk_at dksX9_lasts_0 0 rfl rfl)
theorem dX9_lasts_1 : decode cX9_lasts 1 = .ok (.iconst 0, 1) := dk_3 (dk_at dksX9_lasts_0 1 rfl rfl)
theorem dX9_lasts_2 : decode cX9_lasts 2 = .ok (.putfield 112, 3) := dk_181 0 112 (dk_at dksX9_lasts_0 2 rfl rfl)
theorem dX9_lasts_5 : decode cX9_lasts 5 = .ok (.aload_n 0, 1) := dk_42 (dk_at dksX9_lasts_0 5 rfl rfl)
theorem dX9_lasts_6 : decode cX9_lasts 6 = .ok (.invokevirtual 368, 3) := dk_182 1 112 (dk_at dksX9_lasts_0 6 rfl rfl)
theorem dX9_lasts_9 : decode cX9_lasts 9 = .ok (.iconst 0, 1) := dk_3 (dk_at dksX9_lasts_0 9 rfl rfl)
theorem dX9_lasts_10 : decode cX9_lasts 10 = .ok (.istore_n 1, 1) := dk_60 (dk_at dksX9_lasts_0 10 rfl rfl)
theorem dX9_lasts_11 : decode cX9_lasts 11 = .ok (.iload_n 1, 1) := dk_27 (dk_at dksX9_lasts_0 11 rfl rfl)
theorem dX9_lasts_12 : decode cX9_lasts 12 = .ok (.bipush 99, 2) := dk_16 99 (dk_at dksX9_lasts_0 12 rfl rfl)
theorem dX9_lasts_14 : decode cX9_lasts 14 = .ok (.if_icmp .ge 48, 3) := dk_162 0 48 (dk_at dksX9_lasts_0 14 rfl rfl)
theorem dX9_lasts_17 : decode cX9_lasts 17 = .ok (.aload_n 0, 1) := dk_42 (dk_at dksX9_lasts_0 17 rfl rfl)
theorem dX9_lasts_18 : decode cX9_lasts 18 = .ok (.aload_n 0, 1) := dk_42 (dk_at dksX9_lasts_0 18 rfl rfl)
theorem dX9_lasts_19 : decode cX9_lasts 19 = .ok (.getfield 42, 3) := dk_180 0 42 (dk_at dksX9_lasts_0 19 rfl rfl)
theorem dX9_lasts_22 : decode cX9_lasts 22 = .ok (.invokevirtual 300, 3) := dk_182 1 44 (dk_at dksX9_lasts_1 0 rfl rfl)
theorem dX9_lasts_25 : decode cX9_lasts 25 = .ok (.ifCond .ne 22, 3) := dk_154 0 22 (dk_at dksX9_lasts_1 3 rfl rfl)
theorem dX9_lasts_28 : decode cX9_lasts 28 = .ok (.aload_n 0, 1) := dk_42 (dk_at dksX9_lasts_1 6 rfl rfl)
theorem dX9_lasts_29 : decode cX9_lasts 29 = .ok (.iconst 0, 1) := dk_3 (dk_at dksX9_lasts_1 7 rfl rfl)
theorem dX9_lasts_30 : decode cX9_lasts 30 = .ok (.putfield 119, 3) := dk_181 0 119 (dk_at dksX9_lasts_1 8 rfl rfl)
theorem dX9_lasts_33 : decode cX9_lasts 33 = .ok (.aload_n 0, 1) := dk_42 (dk_at dksX9_lasts_1 11 rfl rfl)
theorem dX9_lasts_34 : decode cX9_lasts 34 = .ok (.aload_n 0, 1) := dk_42 (dk_at dksX9_lasts_1 12 rfl rfl)
theorem dX9_lasts_35 : decode cX9_lasts 35 = .ok (.getfield 42, 3) := dk_180 0 42 (dk_at dksX9_lasts_1 13 rfl rfl)
theorem dX9_lasts_38 : decode cX9_lasts 38 = .ok (.bipush 16, 2) := dk_16 16 (dk_at dksX9_lasts_1 16 rfl rfl)
theorem dX9_lasts_40 : decode cX9_lasts 40 = .ok (.iaload, 1) := dk_46 (dk_at dksX9_lasts_1 18 rfl rfl)
theorem dX9_lasts_41 : decode cX9_lasts 41 = .ok (.i2l, 1) := dk_133 (dk_at dksX9_lasts_1 19 rfl rfl)
theorem dX9_lasts_42 : decode cX9_lasts 42 = .ok (.invokevirtual 122, 3) := dk_182 0 122 (dk_at dksX9_lasts_1 20 rfl rfl)
theorem dX9_lasts_45 : decode cX9_lasts 45 = .ok (.iload_n 1, 1) := dk_27 (dk_at dksX9_lasts_1 23 rfl rfl)
theorem dX9_lasts_46 : decode cX9_lasts 46 = .ok (.ireturn, 1) := dk_172 (dk_at dksX9_lasts_2 0 rfl rfl)
theorem dX9_lasts_47 : decode cX9_lasts 47 = .ok (.aload_n 0, 1) := dk_42 (dk_at dksX9_lasts_2 1 rfl rfl)
theorem dX9_lasts_48 : decode cX9_lasts 48 = .ok (.aload_n 0, 1) := dk_42 (dk_at dksX9_lasts_2 2 rfl rfl)
theorem dX9_lasts_49 : decode cX9_lasts 49 = .ok (.getfield 42, 3) := dk_180 0 42 (dk_at dksX9_lasts_2 3 rfl rfl)
theorem dX9_lasts_52 : decode cX9_lasts 52 = .ok (.invokevirtual 307, 3) := dk_182 1 51 (dk_at dksX9_lasts_2 6 rfl rfl)
theorem dX9_lasts_55 : decode cX9_lasts 55 = .ok (.pop, 1) := dk_87 (dk_at dksX9_lasts_2 9 rfl rfl)
theorem dX9_lasts_56 : decode cX9_lasts 56 = .ok (.iinc 1 1, 3) := dk_132 1 1 (dk_at dksX9_lasts_2 10 rfl rfl)
theorem dX9_lasts_59 : decode cX9_lasts 59 = .ok (.goto (-48), 3) := dk_167 255 208 (dk_at dksX9_lasts_2 13 rfl rfl)
theorem dX9_lasts_62 : decode cX9_lasts 62 = .ok (.bipush (-2), 2) := dk_16 254 (dk_at dksX9_lasts_2 16 rfl rfl)
theorem dX9_lasts_64 : decode cX9_lasts 64 = .ok (.ireturn, 1) := dk_172 (dk_at dksX9_lasts_2 18 rfl rfl)
abbrev cX9_most : ByteArray := prog_15_method_80_code
def yX9_most : MethodName := ⟨RX9, "most", "(I)I"⟩
def dkwX9_most_4 : List UInt8 := [42, 3, 181, 0, 119, 42, 29, 133, 182, 0, 122, 42, 21, 4, 133, 182, 0, 122, 28, 172]
abbrev dktX9_most_4 : List UInt8 := dkwX9_most_4 ++ []
def dkwX9_most_3 : List UInt8 := [61, 42, 180, 0, 42, 16, 17, 46, 62, 42, 180, 0, 42, 16, 16, 46, 54, 4, 132, 5, 1, 167, 255, 192]
abbrev dktX9_most_3 : List UInt8 := dkwX9_most_3 ++ dktX9_most_4
def dkwX9_most_2 : List UInt8 := [79, 42, 42, 180, 0, 42, 27, 182, 1, 75, 87, 42, 180, 0, 42, 16, 17, 46, 29, 164, 0, 23, 21, 5]
abbrev dktX9_most_2 : List UInt8 := dkwX9_most_2 ++ dktX9_most_3
def dkwX9_most_1 : List UInt8 := [54, 4, 3, 54, 5, 21, 5, 16, 9, 163, 0, 63, 42, 182, 1, 112, 42, 180, 0, 42, 16, 19, 21, 5]
abbrev dktX9_most_1 : List UInt8 := dkwX9_most_1 ++ dktX9_most_2
def dkwX9_most_0 : List UInt8 := [42, 3, 181, 0, 112, 27, 133, 10, 20, 1, 126, 184, 0, 129, 154, 0, 5, 2, 172, 2, 61, 2, 62, 3]
abbrev dktX9_most_0 : List UInt8 := dkwX9_most_0 ++ dktX9_most_1
theorem dksX9_most_0 : cX9_most.data.toList.drop 0 = dktX9_most_0 := by decide +kernel
theorem dksX9_most_1 : cX9_most.data.toList.drop 24 = dktX9_most_1 := dk_seg dksX9_most_0 24 rfl rfl
theorem dksX9_most_2 : cX9_most.data.toList.drop 48 = dktX9_most_2 := dk_seg dksX9_most_1 24 rfl rfl
theorem dksX9_most_3 : cX9_most.data.toList.drop 72 = dktX9_most_3 := dk_seg dksX9_most_2 24 rfl rfl
theorem dksX9_most_4 : cX9_most.data.toList.drop 96 = dktX9_most_4 := dk_seg dksX9_most_3 24 rfl rfl
theorem dX9_most_0 : decode cX9_most 0 = .ok (.aload_n 0, 1) := dk_42 (dk_at dksX9_most_0 0 rfl rfl)
theorem dX9_most_1 : decode cX9_most 1 = .ok (.iconst 0, 1) := dk_3 (dk_at dksX9_most_0 1 rfl rfl)
theorem dX9_most_2 : decode cX9_most 2 = .ok (.putfield 112, 3) := dk_181 0 112 (dk_at dksX9_most_0 2 rfl rfl)
theorem dX9_most_5 : decode cX9_most 5 = .ok (.iload_n 1, 1) := dk_27 (dk_at dksX9_most_0 5 rfl rfl)
theorem dX9_most_6 : decode cX9_most 6 = .ok (.i2l, 1) := dk_133 (dk_at dksX9_most_0 6 rfl rfl)
theorem dX9_most_7 : decode cX9_most 7 = .ok (.lconst 1, 1) := dk_10 (dk_at dksX9_most_0 7 rfl rfl)
theorem dX9_most_8 : decode cX9_most 8 = .ok (.ldc2_w 382, 3) := dk_20 1 126 (dk_at dksX9_most_0 8 rfl rfl)
theorem dX9_most_11 : decode cX9_most 11 = .ok (.invokestatic 129, 3) := dk_184 0 129 (dk_at dksX9_most_0 11 rfl rfl)
theorem dX9_most_14 : decode cX9_most 14 = .ok (.ifCond .ne 5, 3) := dk_154 0 5 (dk_at dksX9_most_0 14 rfl rfl)
theorem dX9_most_17 : decode cX9_most 17 = .ok (.iconst (-1), 1) := dk_2 (dk_at dksX9_most_0 17 rfl rfl)
theorem dX9_most_18 : decode cX9_most 18 = .ok (.ireturn, 1) := dk_172 (dk_at dksX9_most_0 18 rfl rfl)
theorem dX9_most_19 : decode cX9_most 19 = .ok (.iconst (-1), 1) := dk_2 (dk_at dksX9_most_0 19 rfl rfl)
theorem dX9_most_20 : decode cX9_most 20 = .ok (.istore_n 2, 1) := dk_61 (dk_at dksX9_most_0 20 rfl rfl)
theorem dX9_most_21 : decode cX9_most 21 = .ok (.iconst (-1), 1) := dk_2 (dk_at dksX9_most_0 21 rfl rfl)
theorem dX9_most_22 : decode cX9_most 22 = .ok (.istore_n 3, 1) := dk_62 (dk_at dksX9_most_0 22 rfl rfl)
theorem dX9_most_23 : decode cX9_most 23 = .ok (.iconst 0, 1) := dk_3 (dk_at dksX9_most_0 23 rfl rfl)
theorem dX9_most_24 : decode cX9_most 24 = .ok (.istore 4, 2) := dk_54 4 (dk_at dksX9_most_1 0 rfl rfl)
theorem dX9_most_26 : decode cX9_most 26 = .ok (.iconst 0, 1) := dk_3 (dk_at dksX9_most_1 2 rfl rfl)
theorem dX9_most_27 : decode cX9_most 27 = .ok (.istore 5, 2) := dk_54 5 (dk_at dksX9_most_1 3 rfl rfl)
theorem dX9_most_29 : decode cX9_most 29 = .ok (.iload 5, 2) := dk_21 5 (dk_at dksX9_most_1 5 rfl rfl)
theorem dX9_most_31 : decode cX9_most 31 = .ok (.bipush 9, 2) := dk_16 9 (dk_at dksX9_most_1 7 rfl rfl)
theorem dX9_most_33 : decode cX9_most 33 = .ok (.if_icmp .gt 63, 3) := dk_163 0 63 (dk_at dksX9_most_1 9 rfl rfl)
theorem dX9_most_36 : decode cX9_most 36 = .ok (.aload_n 0, 1) := dk_42 (dk_at dksX9_most_1 12 rfl rfl)
theorem dX9_most_37 : decode cX9_most 37 = .ok (.invokevirtual 368, 3) := dk_182 1 112 (dk_at dksX9_most_1 13 rfl rfl)
theorem dX9_most_40 : decode cX9_most 40 = .ok (.aload_n 0, 1) := dk_42 (dk_at dksX9_most_1 16 rfl rfl)
theorem dX9_most_41 : decode cX9_most 41 = .ok (.getfield 42, 3) := dk_180 0 42 (dk_at dksX9_most_1 17 rfl rfl)
theorem dX9_most_44 : decode cX9_most 44 = .ok (.bipush 19, 2) := dk_16 19 (dk_at dksX9_most_1 20 rfl rfl)
theorem dX9_most_46 : decode cX9_most 46 = .ok (.iload 5, 2) := dk_21 5 (dk_at dksX9_most_1 22 rfl rfl)
theorem dX9_most_48 : decode cX9_most 48 = .ok (.iastore, 1) := dk_79 (dk_at dksX9_most_2 0 rfl rfl)
theorem dX9_most_49 : decode cX9_most 49 = .ok (.aload_n 0, 1) := dk_42 (dk_at dksX9_most_2 1 rfl rfl)
theorem dX9_most_50 : decode cX9_most 50 = .ok (.aload_n 0, 1) := dk_42 (dk_at dksX9_most_2 2 rfl rfl)
theorem dX9_most_51 : decode cX9_most 51 = .ok (.getfield 42, 3) := dk_180 0 42 (dk_at dksX9_most_2 3 rfl rfl)
theorem dX9_most_54 : decode cX9_most 54 = .ok (.iload_n 1, 1) := dk_27 (dk_at dksX9_most_2 6 rfl rfl)
theorem dX9_most_55 : decode cX9_most 55 = .ok (.invokevirtual 331, 3) := dk_182 1 75 (dk_at dksX9_most_2 7 rfl rfl)
theorem dX9_most_58 : decode cX9_most 58 = .ok (.pop, 1) := dk_87 (dk_at dksX9_most_2 10 rfl rfl)
theorem dX9_most_59 : decode cX9_most 59 = .ok (.aload_n 0, 1) := dk_42 (dk_at dksX9_most_2 11 rfl rfl)
theorem dX9_most_60 : decode cX9_most 60 = .ok (.getfield 42, 3) := dk_180 0 42 (dk_at dksX9_most_2 12 rfl rfl)
theorem dX9_most_63 : decode cX9_most 63 = .ok (.bipush 17, 2) := dk_16 17 (dk_at dksX9_most_2 15 rfl rfl)
theorem dX9_most_65 : decode cX9_most 65 = .ok (.iaload, 1) := dk_46 (dk_at dksX9_most_2 17 rfl rfl)
theorem dX9_most_66 : decode cX9_most 66 = .ok (.iload_n 3, 1) := dk_29 (dk_at dksX9_most_2 18 rfl rfl)
theorem dX9_most_67 : decode cX9_most 67 = .ok (.if_icmp .le 23, 3) := dk_164 0 23 (dk_at dksX9_most_2 19 rfl rfl)
theorem dX9_most_70 : decode cX9_most 70 = .ok (.iload 5, 2) := dk_21 5 (dk_at dksX9_most_2 22 rfl rfl)
theorem dX9_most_72 : decode cX9_most 72 = .ok (.istore_n 2, 1) := dk_61 (dk_at dksX9_most_3 0 rfl rfl)
theorem dX9_most_73 : decode cX9_most 73 = .ok (.aload_n 0, 1) := dk_42 (dk_at dksX9_most_3 1 rfl rfl)
theorem dX9_most_74 : decode cX9_most 74 = .ok (.getfield 42, 3) := dk_180 0 42 (dk_at dksX9_most_3 2 rfl rfl)
theorem dX9_most_77 : decode cX9_most 77 = .ok (.bipush 17, 2) := dk_16 17 (dk_at dksX9_most_3 5 rfl rfl)
theorem dX9_most_79 : decode cX9_most 79 = .ok (.iaload, 1) := dk_46 (dk_at dksX9_most_3 7 rfl rfl)
theorem dX9_most_80 : decode cX9_most 80 = .ok (.istore_n 3, 1) := dk_62 (dk_at dksX9_most_3 8 rfl rfl)
theorem dX9_most_81 : decode cX9_most 81 = .ok (.aload_n 0, 1) := dk_42 (dk_at dksX9_most_3 9 rfl rfl)
theorem dX9_most_82 : decode cX9_most 82 = .ok (.getfield 42, 3) := dk_180 0 42 (dk_at dksX9_most_3 10 rfl rfl)
theorem dX9_most_85 : decode cX9_most 85 = .ok (.bipush 16, 2) := dk_16 16 (dk_at dksX9_most_3 13 rfl rfl)
theorem dX9_most_87 : decode cX9_most 87 = .ok (.iaload, 1) := dk_46 (dk_at dksX9_most_3 15 rfl rfl)
theorem dX9_most_88 : decode cX9_most 88 = .ok (.istore 4, 2) := dk_54 4 (dk_at dksX9_most_3 16 rfl rfl)
theorem dX9_most_90 : decode cX9_most 90 = .ok (.iinc 5 1, 3) := dk_132 5 1 (dk_at dksX9_most_3 18 rfl rfl)
theorem dX9_most_93 : decode cX9_most 93 = .ok (.goto (-64), 3) := dk_167 255 192 (dk_at dksX9_most_3 21 rfl rfl)
theorem dX9_most_96 : decode cX9_most 96 = .ok (.aload_n 0, 1) := dk_42 (dk_at dksX9_most_4 0 rfl rfl)
theorem dX9_most_97 : decode cX9_most 97 = .ok (.iconst 0, 1) := dk_3 (dk_at dksX9_most_4 1 rfl rfl)
theorem dX9_most_98 : decode cX9_most 98 = .ok (.putfield 119, 3) := dk_181 0 119 (dk_at dksX9_most_4 2 rfl rfl)
theorem dX9_most_101 : decode cX9_most 101 = .ok (.aload_n 0, 1) := dk_42 (dk_at dksX9_most_4 5 rfl rfl)
theorem dX9_most_102 : decode cX9_most 102 = .ok (.iload_n 3, 1) := dk_29 (dk_at dksX9_most_4 6 rfl rfl)
theorem dX9_most_103 : decode cX9_most 103 = .ok (.i2l, 1) := dk_133 (dk_at dksX9_most_4 7 rfl rfl)
theorem dX9_most_104 : decode cX9_most 104 = .ok (.invokevirtual 122, 3) := dk_182 0 122 (dk_at dksX9_most_4 8 rfl rfl)
theorem dX9_most_107 : decode cX9_most 107 = .ok (.aload_n 0, 1) := dk_42 (dk_at dksX9_most_4 11 rfl rfl)
theorem dX9_most_108 : decode cX9_most 108 = .ok (.iload 4, 2) := dk_21 4 (dk_at dksX9_most_4 12 rfl rfl)
theorem dX9_most_110 : decode cX9_most 110 = .ok (.i2l, 1) := dk_133 (dk_at dksX9_most_4 14 rfl rfl)
theorem dX9_most_111 : decode cX9_most 111 = .ok (.invokevirtual 122, 3) := dk_182 0 122 (dk_at dksX9_most_4 15 rfl rfl)
theorem dX9_most_114 : decode cX9_most 114 = .ok (.iload_n 2, 1) := dk_28 (dk_at dksX9_most_4 18 rfl rfl)
theorem dX9_most_115 : decode cX9_most 115 = .ok (.ireturn, 1) := dk_172 (dk_at dksX9_most_4 19 rfl rfl)
abbrev cX9_gives : ByteArray := prog_15_method_81_code
def yX9_gives : MethodName := ⟨RX9, "gives", "(I)I"⟩
def dkwX9_gives_2 : List UInt8 := [182, 1, 75, 154, 0, 7, 29, 167, 0, 4, 28, 61, 132, 3, 1, 167, 255, 217, 28, 172]
abbrev dktX9_gives_2 : List UInt8 := dkwX9_gives_2 ++ []
def dkwX9_gives_1 : List UInt8 := [29, 16, 9, 163, 0, 39, 42, 182, 1, 112, 42, 180, 0, 42, 16, 18, 29, 79, 42, 42, 180, 0, 42, 27]
abbrev dktX9_gives_1 : List UInt8 := dkwX9_gives_1 ++ dktX9_gives_2
def dkwX9_gives_0 : List UInt8 := [42, 3, 181, 0, 112, 27, 133, 10, 20, 1, 126, 184, 0, 129, 154, 0, 5, 2, 172, 16, 254, 61, 3, 62]
abbrev dktX9_gives_0 : List UInt8 := dkwX9_gives_0 ++ dktX9_gives_1
theorem dksX9_gives_0 : cX9_gives.data.toList.drop 0 = dktX9_gives_0 := by decide +kernel
theorem dksX9_gives_1 : cX9_gives.data.toList.drop 24 = dktX9_gives_1 := dk_seg dksX9_gives_0 24 rfl rfl
theorem dksX9_gives_2 : cX9_gives.data.toList.drop 48 = dktX9_gives_2 := dk_seg dksX9_gives_1 24 rfl rfl
theorem dX9_gives_0 : decode cX9_gives 0 = .ok (.aload_n 0, 1) := dk_42 (dk_at dksX9_gives_0 0 rfl rfl)
theorem dX9_gives_1 : decode cX9_gives 1 = .ok (.iconst 0, 1) := dk_3 (dk_at dksX9_gives_0 1 rfl rfl)
theorem dX9_gives_2 : decode cX9_gives 2 = .ok (.putfield 112, 3) := dk_181 0 112 (dk_at dksX9_gives_0 2 rfl rfl)
theorem dX9_gives_5 : decode cX9_gives 5 = .ok (.iload_n 1, 1) := dk_27 (dk_at dksX9_gives_0 5 rfl rfl)
theorem dX9_gives_6 : decode cX9_gives 6 = .ok (.i2l, 1) := dk_133 (dk_at dksX9_gives_0 6 rfl rfl)
theorem dX9_gives_7 : decode cX9_gives 7 = .ok (.lconst 1, 1) := dk_10 (dk_at dksX9_gives_0 7 rfl rfl)
theorem dX9_gives_8 : decode cX9_gives 8 = .ok (.ldc2_w 382, 3) := dk_20 1 126 (dk_at dksX9_gives_0 8 rfl rfl)
theorem dX9_gives_11 : decode cX9_gives 11 = .ok (.invokestatic 129, 3) := dk_184 0 129 (dk_at dksX9_gives_0 11 rfl rfl)
theorem dX9_gives_14 : decode cX9_gives 14 = .ok (.ifCond .ne 5, 3) := dk_154 0 5 (dk_at dksX9_gives_0 14 rfl rfl)
theorem dX9_gives_17 : decode cX9_gives 17 = .ok (.iconst (-1), 1) := dk_2 (dk_at dksX9_gives_0 17 rfl rfl)
theorem dX9_gives_18 : decode cX9_gives 18 = .ok (.ireturn, 1) := dk_172 (dk_at dksX9_gives_0 18 rfl rfl)
theorem dX9_gives_19 : decode cX9_gives 19 = .ok (.bipush (-2), 2) := dk_16 254 (dk_at dksX9_gives_0 19 rfl rfl)
theorem dX9_gives_21 : decode cX9_gives 21 = .ok (.istore_n 2, 1) := dk_61 (dk_at dksX9_gives_0 21 rfl rfl)
theorem dX9_gives_22 : decode cX9_gives 22 = .ok (.iconst 0, 1) := dk_3 (dk_at dksX9_gives_0 22 rfl rfl)
theorem dX9_gives_23 : decode cX9_gives 23 = .ok (.istore_n 3, 1) := dk_62 (dk_at dksX9_gives_0 23 rfl rfl)
theorem dX9_gives_24 : decode cX9_gives 24 = .ok (.iload_n 3, 1) := dk_29 (dk_at dksX9_gives_1 0 rfl rfl)
theorem dX9_gives_25 : decode cX9_gives 25 = .ok (.bipush 9, 2) := dk_16 9 (dk_at dksX9_gives_1 1 rfl rfl)
theorem dX9_gives_27 : decode cX9_gives 27 = .ok (.if_icmp .gt 39, 3) := dk_163 0 39 (dk_at dksX9_gives_1 3 rfl rfl)
theorem dX9_gives_30 : decode cX9_gives 30 = .ok (.aload_n 0, 1) := dk_42 (dk_at dksX9_gives_1 6 rfl rfl)
theorem dX9_gives_31 : decode cX9_gives 31 = .ok (.invokevirtual 368, 3) := dk_182 1 112 (dk_at dksX9_gives_1 7 rfl rfl)
theorem dX9_gives_34 : decode cX9_gives 34 = .ok (.aload_n 0, 1) := dk_42 (dk_at dksX9_gives_1 10 rfl rfl)
theorem dX9_gives_35 : decode cX9_gives 35 = .ok (.getfield 42, 3) := dk_180 0 42 (dk_at dksX9_gives_1 11 rfl rfl)
theorem dX9_gives_38 : decode cX9_gives 38 = .ok (.bipush 18, 2) := dk_16 18 (dk_at dksX9_gives_1 14 rfl rfl)
theorem dX9_gives_40 : decode cX9_gives 40 = .ok (.iload_n 3, 1) := dk_29 (dk_at dksX9_gives_1 16 rfl rfl)
theorem dX9_gives_41 : decode cX9_gives 41 = .ok (.iastore, 1) := dk_79 (dk_at dksX9_gives_1 17 rfl rfl)
theorem dX9_gives_42 : decode cX9_gives 42 = .ok (.aload_n 0, 1) := dk_42 (dk_at dksX9_gives_1 18 rfl rfl)
theorem dX9_gives_43 : decode cX9_gives 43 = .ok (.aload_n 0, 1) := dk_42 (dk_at dksX9_gives_1 19 rfl rfl)
theorem dX9_gives_44 : decode cX9_gives 44 = .ok (.getfield 42, 3) := dk_180 0 42 (dk_at dksX9_gives_1 20 rfl rfl)
theorem dX9_gives_47 : decode cX9_gives 47 = .ok (.iload_n 1, 1) := dk_27 (dk_at dksX9_gives_1 23 rfl rfl)
theorem dX9_gives_48 : decode cX9_gives 48 = .ok (.invokevirtual 331, 3) := dk_182 1 75 (dk_at dksX9_gives_2 0 rfl rfl)
theorem dX9_gives_51 : decode cX9_gives 51 = .ok (.ifCond .ne 7, 3) := dk_154 0 7 (dk_at dksX9_gives_2 3 rfl rfl)
theorem dX9_gives_54 : decode cX9_gives 54 = .ok (.iload_n 3, 1) := dk_29 (dk_at dksX9_gives_2 6 rfl rfl)
theorem dX9_gives_55 : decode cX9_gives 55 = .ok (.goto 4, 3) := dk_167 0 4 (dk_at dksX9_gives_2 7 rfl rfl)
theorem dX9_gives_58 : decode cX9_gives 58 = .ok (.iload_n 2, 1) := dk_28 (dk_at dksX9_gives_2 10 rfl rfl)
theorem dX9_gives_59 : decode cX9_gives 59 = .ok (.istore_n 2, 1) := dk_61 (dk_at dksX9_gives_2 11 rfl rfl)
theorem dX9_gives_60 : decode cX9_gives 60 = .ok (.iinc 3 1, 3) := dk_132 3 1 (dk_at dksX9_gives_2 12 rfl rfl)
theorem dX9_gives_63 : decode cX9_gives 63 = .ok (.goto (-39), 3) := dk_167 255 217 (dk_at dksX9_gives_2 15 rfl rfl)
theorem dX9_gives_66 : decode cX9_gives 66 = .ok (.iload_n 2, 1) := dk_28 (dk_at dksX9_gives_2 18 rfl rfl)
theorem dX9_gives_67 : decode cX9_gives 67 = .ok (.ireturn, 1) := dk_172 (dk_at dksX9_gives_2 19 rfl rfl)
abbrev cX9_plan : ByteArray := prog_15_method_83_code
def yX9_plan : MethodName := ⟨RX9, "plan", "(I)I"⟩
def dkwX9_plan_4 : List UInt8 := [42, 180, 1, 128, 172]
abbrev dktX9_plan_4 : List UInt8 := dkwX9_plan_4 ++ []
def dkwX9_plan_3 : List UInt8 := [3, 61, 28, 27, 162, 0, 20, 42, 42, 180, 0, 87, 28, 46, 133, 182, 0, 122, 132, 2, 1, 167, 255, 237]
abbrev dktX9_plan_3 : List UInt8 := dkwX9_plan_3 ++ dktX9_plan_4
def dkwX9_plan_2 : List UInt8 := [181, 1, 128, 42, 3, 27, 182, 1, 131, 42, 180, 1, 128, 156, 0, 6, 16, 254, 172, 42, 3, 181, 0, 119]
abbrev dktX9_plan_2 : List UInt8 := dkwX9_plan_2 ++ dktX9_plan_3
def dkwX9_plan_1 : List UInt8 := [162, 0, 21, 42, 180, 0, 81, 28, 42, 180, 0, 39, 28, 46, 79, 132, 2, 1, 167, 255, 235, 42, 2]
abbrev dktX9_plan_1 : List UInt8 := dkwX9_plan_1 ++ dktX9_plan_2
def dkwX9_plan_0 : List UInt8 := [42, 3, 181, 0, 112, 27, 133, 10, 20, 1, 135, 184, 0, 129, 154, 0, 5, 2, 172, 3, 61, 28, 16, 21]
abbrev dktX9_plan_0 : List UInt8 := dkwX9_plan_0 ++ dktX9_plan_1
theorem dksX9_plan_0 : cX9_plan.data.toList.drop 0 = dktX9_plan_0 := by decide +kernel
theorem dksX9_plan_1 : cX9_plan.data.toList.drop 24 = dktX9_plan_1 := dk_seg dksX9_plan_0 24 rfl rfl
theorem dksX9_plan_2 : cX9_plan.data.toList.drop 47 = dktX9_plan_2 := dk_seg dksX9_plan_1 23 rfl rfl
theorem dksX9_plan_3 : cX9_plan.data.toList.drop 71 = dktX9_plan_3 := dk_seg dksX9_plan_2 24 rfl rfl
theorem dksX9_plan_4 : cX9_plan.data.toList.drop 95 = dktX9_plan_4 := dk_seg dksX9_plan_3 24 rfl rfl
theorem dX9_plan_0 : decode cX9_plan 0 = .ok (.aload_n 0, 1) := dk_42 (dk_at dksX9_plan_0 0 rfl rfl)
theorem dX9_plan_1 : decode cX9_plan 1 = .ok (.iconst 0, 1) := dk_3 (dk_at dksX9_plan_0 1 rfl rfl)
theorem dX9_plan_2 : decode cX9_plan 2 = .ok (.putfield 112, 3) := dk_181 0 112 (dk_at dksX9_plan_0 2 rfl rfl)
theorem dX9_plan_5 : decode cX9_plan 5 = .ok (.iload_n 1, 1) := dk_27 (dk_at dksX9_plan_0 5 rfl rfl)
theorem dX9_plan_6 : decode cX9_plan 6 = .ok (.i2l, 1) := dk_133 (dk_at dksX9_plan_0 6 rfl rfl)
theorem dX9_plan_7 : decode cX9_plan 7 = .ok (.lconst 1, 1) := dk_10 (dk_at dksX9_plan_0 7 rfl rfl)
theorem dX9_plan_8 : decode cX9_plan 8 = .ok (.ldc2_w 391, 3) := dk_20 1 135 (dk_at dksX9_plan_0 8 rfl rfl)
theorem dX9_plan_11 : decode cX9_plan 11 = .ok (.invokestatic 129, 3) := dk_184 0 129 (dk_at dksX9_plan_0 11 rfl rfl)
theorem dX9_plan_14 : decode cX9_plan 14 = .ok (.ifCond .ne 5, 3) := dk_154 0 5 (dk_at dksX9_plan_0 14 rfl rfl)
theorem dX9_plan_17 : decode cX9_plan 17 = .ok (.iconst (-1), 1) := dk_2 (dk_at dksX9_plan_0 17 rfl rfl)
theorem dX9_plan_18 : decode cX9_plan 18 = .ok (.ireturn, 1) := dk_172 (dk_at dksX9_plan_0 18 rfl rfl)
theorem dX9_plan_19 : decode cX9_plan 19 = .ok (.iconst 0, 1) := dk_3 (dk_at dksX9_plan_0 19 rfl rfl)
theorem dX9_plan_20 : decode cX9_plan 20 = .ok (.istore_n 2, 1) := dk_61 (dk_at dksX9_plan_0 20 rfl rfl)
theorem dX9_plan_21 : decode cX9_plan 21 = .ok (.iload_n 2, 1) := dk_28 (dk_at dksX9_plan_0 21 rfl rfl)
theorem dX9_plan_22 : decode cX9_plan 22 = .ok (.bipush 21, 2) := dk_16 21 (dk_at dksX9_plan_0 22 rfl rfl)
theorem dX9_plan_24 : decode cX9_plan 24 = .ok (.if_icmp .ge 21, 3) := dk_162 0 21 (dk_at dksX9_plan_1 0 rfl rfl)
theorem dX9_plan_27 : decode cX9_plan 27 = .ok (.aload_n 0, 1) := dk_42 (dk_at dksX9_plan_1 3 rfl rfl)
theorem dX9_plan_28 : decode cX9_plan 28 = .ok (.getfield 81, 3) := dk_180 0 81 (dk_at dksX9_plan_1 4 rfl rfl)
theorem dX9_plan_31 : decode cX9_plan 31 = .ok (.iload_n 2, 1) := dk_28 (dk_at dksX9_plan_1 7 rfl rfl)
theorem dX9_plan_32 : decode cX9_plan 32 = .ok (.aload_n 0, 1) := dk_42 (dk_at dksX9_plan_1 8 rfl rfl)
theorem dX9_plan_33 : decode cX9_plan 33 = .ok (.getfield 39, 3) := dk_180 0 39 (dk_at dksX9_plan_1 9 rfl rfl)
theorem dX9_plan_36 : decode cX9_plan 36 = .ok (.iload_n 2, 1) := dk_28 (dk_at dksX9_plan_1 12 rfl rfl)
theorem dX9_plan_37 : decode cX9_plan 37 = .ok (.iaload, 1) := dk_46 (dk_at dksX9_plan_1 13 rfl rfl)
theorem dX9_plan_38 : decode cX9_plan 38 = .ok (.iastore, 1) := dk_79 (dk_at dksX9_plan_1 14 rfl rfl)
theorem dX9_plan_39 : decode cX9_plan 39 = .ok (.iinc 2 1, 3) := dk_132 2 1 (dk_at dksX9_plan_1 15 rfl rfl)
theorem dX9_plan_42 : decode cX9_plan 42 = .ok (.goto (-21), 3) := dk_167 255 235 (dk_at dksX9_plan_1 18 rfl rfl)
theorem dX9_plan_45 : decode cX9_plan 45 = .ok (.aload_n 0, 1) := dk_42 (dk_at dksX9_plan_1 21 rfl rfl)
theorem dX9_plan_46 : decode cX9_plan 46 = .ok (.iconst (-1), 1) := dk_2 (dk_at dksX9_plan_1 22 rfl rfl)
theorem dX9_plan_47 : decode cX9_plan 47 = .ok (.putfield 384, 3) := dk_181 1 128 (dk_at dksX9_plan_2 0 rfl rfl)
theorem dX9_plan_50 : decode cX9_plan 50 = .ok (.aload_n 0, 1) := dk_42 (dk_at dksX9_plan_2 3 rfl rfl)
theorem dX9_plan_51 : decode cX9_plan 51 = .ok (.iconst 0, 1) := dk_3 (dk_at dksX9_plan_2 4 rfl rfl)
theorem dX9_plan_52 : decode cX9_plan 52 = .ok (.iload_n 1, 1) := dk_27 (dk_at dksX9_plan_2 5 rfl rfl)
theorem dX9_plan_53 : decode cX9_plan 53 = .ok (.invokevirtual 387, 3) := dk_182 1 131 (dk_at dksX9_plan_2 6 rfl rfl)
theorem dX9_plan_56 : decode cX9_plan 56 = .ok (.aload_n 0, 1) := dk_42 (dk_at dksX9_plan_2 9 rfl rfl)
theorem dX9_plan_57 : decode cX9_plan 57 = .ok (.getfield 384, 3) := dk_180 1 128 (dk_at dksX9_plan_2 10 rfl rfl)
theorem dX9_plan_60 : decode cX9_plan 60 = .ok (.ifCond .ge 6, 3) := dk_156 0 6 (dk_at dksX9_plan_2 13 rfl rfl)
theorem dX9_plan_63 : decode cX9_plan 63 = .ok (.bipush (-2), 2) := dk_16 254 (dk_at dksX9_plan_2 16 rfl rfl)
theorem dX9_plan_65 : decode cX9_plan 65 = .ok (.ireturn, 1) := dk_172 (dk_at dksX9_plan_2 18 rfl rfl)
theorem dX9_plan_66 : decode cX9_plan 66 = .ok (.aload_n 0, 1) := dk_42 (dk_at dksX9_plan_2 19 rfl rfl)
theorem dX9_plan_67 : decode cX9_plan 67 = .ok (.iconst 0, 1) := dk_3 (dk_at dksX9_plan_2 20 rfl rfl)
theorem dX9_plan_68 : decode cX9_plan 68 = .ok (.putfield 119, 3) := dk_181 0 119 (dk_at dksX9_plan_2 21 rfl rfl)
theorem dX9_plan_71 : decode cX9_plan 71 = .ok (.iconst 0, 1) := dk_3 (dk_at dksX9_plan_3 0 rfl rfl)
theorem dX9_plan_72 : decode cX9_plan 72 = .ok (.istore_n 2, 1) := dk_61 (dk_at dksX9_plan_3 1 rfl rfl)
theorem dX9_plan_73 : decode cX9_plan 73 = .ok (.iload_n 2, 1) := dk_28 (dk_at dksX9_plan_3 2 rfl rfl)
theorem dX9_plan_74 : decode cX9_plan 74 = .ok (.iload_n 1, 1) := dk_27 (dk_at dksX9_plan_3 3 rfl rfl)
theorem dX9_plan_75 : decode cX9_plan 75 = .ok (.if_icmp .ge 20, 3) := dk_162 0 20 (dk_at dksX9_plan_3 4 rfl rfl)
theorem dX9_plan_78 : decode cX9_plan 78 = .ok (.aload_n 0, 1) := dk_42 (dk_at dksX9_plan_3 7 rfl rfl)
theorem dX9_plan_79 : decode cX9_plan 79 = .ok (.aload_n 0, 1) := dk_42 (dk_at dksX9_plan_3 8 rfl rfl)
theorem dX9_plan_80 : decode cX9_plan 80 = .ok (.getfield 87, 3) := dk_180 0 87 (dk_at dksX9_plan_3 9 rfl rfl)
theorem dX9_plan_83 : decode cX9_plan 83 = .ok (.iload_n 2, 1) := dk_28 (dk_at dksX9_plan_3 12 rfl rfl)
theorem dX9_plan_84 : decode cX9_plan 84 = .ok (.iaload, 1) := dk_46 (dk_at dksX9_plan_3 13 rfl rfl)
theorem dX9_plan_85 : decode cX9_plan 85 = .ok (.i2l, 1) := dk_133 (dk_at dksX9_plan_3 14 rfl rfl)
theorem dX9_plan_86 : decode cX9_plan 86 = .ok (.invokevirtual 122, 3) := dk_182 0 122 (dk_at dksX9_plan_3 15 rfl rfl)
theorem dX9_plan_89 : decode cX9_plan 89 = .ok (.iinc 2 1, 3) := dk_132 2 1 (dk_at dksX9_plan_3 18 rfl rfl)
theorem dX9_plan_92 : decode cX9_plan 92 = .ok (.goto (-19), 3) := dk_167 255 237 (dk_at dksX9_plan_3 21 rfl rfl)
theorem dX9_plan_95 : decode cX9_plan 95 = .ok (.aload_n 0, 1) := dk_42 (dk_at dksX9_plan_4 0 rfl rfl)
theorem dX9_plan_96 : decode cX9_plan 96 = .ok (.getfield 384, 3) := dk_180 1 128 (dk_at dksX9_plan_4 1 rfl rfl)
theorem dX9_plan_99 : decode cX9_plan 99 = .ok (.ireturn, 1) := dk_172 (dk_at dksX9_plan_4 4 rfl rfl)
abbrev cX9_plans : ByteArray := prog_15_method_82_code
def yX9_plans : MethodName := ⟨RX9, "plans", "(II)V"⟩
def dkwX9_plans_8 : List UInt8 := [167, 255, 225, 42, 27, 4, 96, 28, 182, 1, 131, 132, 3, 1, 167, 255, 119, 177]
abbrev dktX9_plans_8 : List UInt8 := dkwX9_plans_8 ++ []
def dkwX9_plans_7 : List UInt8 := [180, 0, 81, 16, 21, 27, 4, 96, 104, 21, 5, 96, 42, 180, 0, 42, 21, 5, 46, 79, 132, 5, 1]
abbrev dktX9_plans_7 : List UInt8 := dkwX9_plans_7 ++ dktX9_plans_8
def dkwX9_plans_6 : List UInt8 := [167, 0, 4, 3, 54, 4, 21, 4, 153, 0, 48, 3, 54, 5, 21, 5, 16, 21, 162, 0, 30, 42]
abbrev dktX9_plans_6 : List UInt8 := dkwX9_plans_6 ++ dktX9_plans_7
def dkwX9_plans_5 : List UInt8 := [42, 180, 0, 42, 182, 1, 51, 153, 0, 18, 42, 42, 180, 0, 42, 182, 1, 78, 154, 0, 7, 4]
abbrev dktX9_plans_5 : List UInt8 := dkwX9_plans_5 ++ dktX9_plans_6
def dkwX9_plans_4 : List UInt8 := [46, 79, 132, 4, 1, 167, 255, 227, 42, 180, 0, 42, 16, 19, 29, 79, 42, 180, 0, 84, 27, 29, 79, 42]
abbrev dktX9_plans_4 : List UInt8 := dkwX9_plans_4 ++ dktX9_plans_5
def dkwX9_plans_3 : List UInt8 := [21, 4, 16, 21, 162, 0, 28, 42, 180, 0, 42, 21, 4, 42, 180, 0, 81, 16, 21, 27, 104, 21, 4, 96]
abbrev dktX9_plans_3 : List UInt8 := dkwX9_plans_3 ++ dktX9_plans_4
def dkwX9_plans_2 : List UInt8 := [180, 0, 84, 21, 4, 46, 79, 132, 4, 1, 167, 255, 233, 177, 3, 62, 29, 6, 163, 0, 138, 3, 54, 4]
abbrev dktX9_plans_2 : List UInt8 := dkwX9_plans_2 ++ dktX9_plans_3
def dkwX9_plans_1 : List UInt8 := [164, 0, 37, 42, 29, 181, 1, 128, 3, 54, 4, 21, 4, 28, 162, 0, 23, 42, 180, 0, 87, 21, 4, 42]
abbrev dktX9_plans_1 : List UInt8 := dkwX9_plans_1 ++ dktX9_plans_2
def dkwX9_plans_0 : List UInt8 := [27, 28, 160, 0, 59, 42, 180, 0, 81, 16, 21, 27, 104, 16, 17, 96, 46, 62, 29, 42, 180, 1, 128]
abbrev dktX9_plans_0 : List UInt8 := dkwX9_plans_0 ++ dktX9_plans_1
theorem dksX9_plans_0 : cX9_plans.data.toList.drop 0 = dktX9_plans_0 := by decide +kernel
theorem dksX9_plans_1 : cX9_plans.data.toList.drop 23 = dktX9_plans_1 := dk_seg dksX9_plans_0 23 rfl rfl
theorem dksX9_plans_2 : cX9_plans.data.toList.drop 47 = dktX9_plans_2 := dk_seg dksX9_plans_1 24 rfl rfl
theorem dksX9_plans_3 : cX9_plans.data.toList.drop 71 = dktX9_plans_3 := dk_seg dksX9_plans_2 24 rfl rfl
theorem dksX9_plans_4 : cX9_plans.data.toList.drop 95 = dktX9_plans_4 := dk_seg dksX9_plans_3 24 rfl rfl
theorem dksX9_plans_5 : cX9_plans.data.toList.drop 119 = dktX9_plans_5 := dk_seg dksX9_plans_4 24 rfl rfl
theorem dksX9_plans_6 : cX9_plans.data.toList.drop 141 = dktX9_plans_6 := dk_seg dksX9_plans_5 22 rfl rfl
theorem dksX9_plans_7 : cX9_plans.data.toList.drop 163 = dktX9_plans_7 := dk_seg dksX9_plans_6 22 rfl rfl
theorem dksX9_plans_8 : cX9_plans.data.toList.drop 186 = dktX9_plans_8 := dk_seg dksX9_plans_7 23 rfl rfl
theorem dX9_plans_0 : decode cX9_plans 0 = .ok (.iload_n 1, 1) := dk_27 (dk_at dksX9_plans_0 0 rfl rfl)
theorem dX9_plans_1 : decode cX9_plans 1 = .ok (.iload_n 2, 1) := dk_28 (dk_at dksX9_plans_0 1 rfl rfl)
theorem dX9_plans_2 : decode cX9_plans 2 = .ok (.if_icmp .ne 59, 3) := dk_160 0 59 (dk_at dksX9_plans_0 2 rfl rfl)
theorem dX9_plans_5 : decode cX9_plans 5 = .ok (.aload_n 0, 1) := dk_42 (dk_at dksX9_plans_0 5 rfl rfl)
theorem dX9_plans_6 : decode cX9_plans 6 = .ok (.getfield 81, 3) := dk_180 0 81 (dk_at dksX9_plans_0 6 rfl rfl)
theorem dX9_plans_9 : decode cX9_plans 9 = .ok (.bipush 21, 2) := dk_16 21 (dk_at dksX9_plans_0 9 rfl rfl)
theorem dX9_plans_11 : decode cX9_plans 11 = .ok (.iload_n 1, 1) := dk_27 (dk_at dksX9_plans_0 11 rfl rfl)
theorem dX9_plans_12 : decode cX9_plans 12 = .ok (.imul, 1) := dk_104 (dk_at dksX9_plans_0 12 rfl rfl)
theorem dX9_plans_13 : decode cX9_plans 13 = .ok (.bipush 17, 2) := dk_16 17 (dk_at dksX9_plans_0 13 rfl rfl)
theorem dX9_plans_15 : decode cX9_plans 15 = .ok (.iadd, 1) := dk_96 (dk_at dksX9_plans_0 15 rfl rfl)
theorem dX9_plans_16 : decode cX9_plans 16 = .ok (.iaload, 1) := dk_46 (dk_at dksX9_plans_0 16 rfl rfl)
theorem dX9_plans_17 : decode cX9_plans 17 = .ok (.istore_n 3, 1) := dk_62 (dk_at dksX9_plans_0 17 rfl rfl)
theorem dX9_plans_18 : decode cX9_plans 18 = .ok (.iload_n 3, 1) := dk_29 (dk_at dksX9_plans_0 18 rfl rfl)
theorem dX9_plans_19 : decode cX9_plans 19 = .ok (.aload_n 0, 1) := dk_42 (dk_at dksX9_plans_0 19 rfl rfl)
theorem dX9_plans_20 : decode cX9_plans 20 = .ok (.getfield 384, 3) := dk_180 1 128 (dk_at dksX9_plans_0 20 rfl rfl)
theorem dX9_plans_23 : decode cX9_plans 23 = .ok (.if_icmp .le 37, 3) := dk_164 0 37 (dk_at dksX9_plans_1 0 rfl rfl)
theorem dX9_plans_26 : decode cX9_plans 26 = .ok (.aload_n 0, 1) := dk_42 (dk_at dksX9_plans_1 3 rfl rfl)
theorem dX9_plans_27 : decode cX9_plans 27 = .ok (.iload_n 3, 1) := dk_29 (dk_at dksX9_plans_1 4 rfl rfl)
theorem dX9_plans_28 : decode cX9_plans 28 = .ok (.putfield 384, 3) := dk_181 1 128 (dk_at dksX9_plans_1 5 rfl rfl)
theorem dX9_plans_31 : decode cX9_plans 31 = .ok (.iconst 0, 1) := dk_3 (dk_at dksX9_plans_1 8 rfl rfl)
theorem dX9_plans_32 : decode cX9_plans 32 = .ok (.istore 4, 2) := dk_54 4 (dk_at dksX9_plans_1 9 rfl rfl)
theorem dX9_plans_34 : decode cX9_plans 34 = .ok (.iload 4, 2) := dk_21 4 (dk_at dksX9_plans_1 11 rfl rfl)
theorem dX9_plans_36 : decode cX9_plans 36 = .ok (.iload_n 2, 1) := dk_28 (dk_at dksX9_plans_1 13 rfl rfl)
theorem dX9_plans_37 : decode cX9_plans 37 = .ok (.if_icmp .ge 23, 3) := dk_162 0 23 (dk_at dksX9_plans_1 14 rfl rfl)
theorem dX9_plans_40 : decode cX9_plans 40 = .ok (.aload_n 0, 1) := dk_42 (dk_at dksX9_plans_1 17 rfl rfl)
theorem dX9_plans_41 : decode cX9_plans 41 = .ok (.getfield 87, 3) := dk_180 0 87 (dk_at dksX9_plans_1 18 rfl rfl)
theorem dX9_plans_44 : decode cX9_plans 44 = .ok (.iload 4, 2) := dk_21 4 (dk_at dksX9_plans_1 21 rfl rfl)
theorem dX9_plans_46 : decode cX9_plans 46 = .ok (.aload_n 0, 1) := dk_42 (dk_at dksX9_plans_1 23 rfl rfl)
theorem dX9_plans_47 : decode cX9_plans 47 = .ok (.getfield 84, 3) := dk_180 0 84 (dk_at dksX9_plans_2 0 rfl rfl)
theorem dX9_plans_50 : decode cX9_plans 50 = .ok (.iload 4, 2) := dk_21 4 (dk_at dksX9_plans_2 3 rfl rfl)
theorem dX9_plans_52 : decode cX9_plans 52 = .ok (.iaload, 1) := dk_46 (dk_at dksX9_plans_2 5 rfl rfl)
theorem dX9_plans_53 : decode cX9_plans 53 = .ok (.iastore, 1) := dk_79 (dk_at dksX9_plans_2 6 rfl rfl)
theorem dX9_plans_54 : decode cX9_plans 54 = .ok (.iinc 4 1, 3) := dk_132 4 1 (dk_at dksX9_plans_2 7 rfl rfl)
theorem dX9_plans_57 : decode cX9_plans 57 = .ok (.goto (-23), 3) := dk_167 255 233 (dk_at dksX9_plans_2 10 rfl rfl)
theorem dX9_plans_60 : decode cX9_plans 60 = .ok (.return_, 1) := dk_177 (dk_at dksX9_plans_2 13 rfl rfl)
theorem dX9_plans_61 : decode cX9_plans 61 = .ok (.iconst 0, 1) := dk_3 (dk_at dksX9_plans_2 14 rfl rfl)
theorem dX9_plans_62 : decode cX9_plans 62 = .ok (.istore_n 3, 1) := dk_62 (dk_at dksX9_plans_2 15 rfl rfl)
theorem dX9_plans_63 : decode cX9_plans 63 = .ok (.iload_n 3, 1) := dk_29 (dk_at dksX9_plans_2 16 rfl rfl)
theorem dX9_plans_64 : decode cX9_plans 64 = .ok (.iconst 3, 1) := dk_6 (dk_at dksX9_plans_2 17 rfl rfl)
theorem dX9_plans_65 : decode cX9_plans 65 = .ok (.if_icmp .gt 138, 3) := dk_163 0 138 (dk_at dksX9_plans_2 18 rfl rfl)
theorem dX9_plans_68 : decode cX9_plans 68 = .ok (.iconst 0, 1) := dk_3 (dk_at dksX9_plans_2 21 rfl rfl)
theorem dX9_plans_69 : decode cX9_plans 69 = .ok (.istore 4, 2) := dk_54 4 (dk_at dksX9_plans_2 22 rfl rfl)
theorem dX9_plans_71 : decode cX9_plans 71 = .ok (.iload 4, 2) := dk_21 4 (dk_at dksX9_plans_3 0 rfl rfl)
theorem dX9_plans_73 : decode cX9_plans 73 = .ok (.bipush 21, 2) := dk_16 21 (dk_at dksX9_plans_3 2 rfl rfl)
theorem dX9_plans_75 : decode cX9_plans 75 = .ok (.if_icmp .ge 28, 3) := dk_162 0 28 (dk_at dksX9_plans_3 4 rfl rfl)
theorem dX9_plans_78 : decode cX9_plans 78 = .ok (.aload_n 0, 1) := dk_42 (dk_at dksX9_plans_3 7 rfl rfl)
theorem dX9_plans_79 : decode cX9_plans 79 = .ok (.getfield 42, 3) := dk_180 0 42 (dk_at dksX9_plans_3 8 rfl rfl)
theorem dX9_plans_82 : decode cX9_plans 82 = .ok (.iload 4, 2) := dk_21 4 (dk_at dksX9_plans_3 11 rfl rfl)
theorem dX9_plans_84 : decode cX9_plans 84 = .ok (.aload_n 0, 1) := dk_42 (dk_at dksX9_plans_3 13 rfl rfl)
theorem dX9_plans_85 : decode cX9_plans 85 = .ok (.getfield 81, 3) := dk_180 0 81 (dk_at dksX9_plans_3 14 rfl rfl)
theorem dX9_plans_88 : decode cX9_plans 88 = .ok (.bipush 21, 2) := dk_16 21 (dk_at dksX9_plans_3 17 rfl rfl)
theorem dX9_plans_90 : decode cX9_plans 90 = .ok (.iload_n 1, 1) := dk_27 (dk_at dksX9_plans_3 19 rfl rfl)
theorem dX9_plans_91 : decode cX9_plans 91 = .ok (.imul, 1) := dk_104 (dk_at dksX9_plans_3 20 rfl rfl)
theorem dX9_plans_92 : decode cX9_plans 92 = .ok (.iload 4, 2) := dk_21 4 (dk_at dksX9_plans_3 21 rfl rfl)
theorem dX9_plans_94 : decode cX9_plans 94 = .ok (.iadd, 1) := dk_96 (dk_at dksX9_plans_3 23 rfl rfl)
theorem dX9_plans_95 : decode cX9_plans 95 = .ok (.iaload, 1) := dk_46 (dk_at dksX9_plans_4 0 rfl rfl)
theorem dX9_plans_96 : decode cX9_plans 96 = .ok (.iastore, 1) := dk_79 (dk_at dksX9_plans_4 1 rfl rfl)
theorem dX9_plans_97 : decode cX9_plans 97 = .ok (.iinc 4 1, 3) := dk_132 4 1 (dk_at dksX9_plans_4 2 rfl rfl)
theorem dX9_plans_100 : decode cX9_plans 100 = .ok (.goto (-29), 3) := dk_167 255 227 (dk_at dksX9_plans_4 5 rfl rfl)
theorem dX9_plans_103 : decode cX9_plans 103 = .ok (.aload_n 0, 1) := dk_42 (dk_at dksX9_plans_4 8 rfl rfl)
theorem dX9_plans_104 : decode cX9_plans 104 = .ok (.getfield 42, 3) := dk_180 0 42 (dk_at dksX9_plans_4 9 rfl rfl)
theorem dX9_plans_107 : decode cX9_plans 107 = .ok (.bipush 19, 2) := dk_16 19 (dk_at dksX9_plans_4 12 rfl rfl)
theorem dX9_plans_109 : decode cX9_plans 109 = .ok (.iload_n 3, 1) := dk_29 (dk_at dksX9_plans_4 14 rfl rfl)
theorem dX9_plans_110 : decode cX9_plans 110 = .ok (.iastore, 1) := dk_79 (dk_at dksX9_plans_4 15 rfl rfl)
theorem dX9_plans_111 : decode cX9_plans 111 = .ok (.aload_n 0, 1) := dk_42 (dk_at dksX9_plans_4 16 rfl rfl)
theorem dX9_plans_112 : decode cX9_plans 112 = .ok (.getfield 84, 3) := dk_180 0 84 (dk_at dksX9_plans_4 17 rfl rfl)
theorem dX9_plans_115 : decode cX9_plans 115 = .ok (.iload_n 1, 1) := dk_27 (dk_at dksX9_plans_4 20 rfl rfl)
theorem dX9_plans_116 : decode cX9_plans 116 = .ok (.iload_n 3, 1) := dk_29 (dk_at dksX9_plans_4 21 rfl rfl)
theorem dX9_plans_117 : decode cX9_plans 117 = .ok (.iastore, 1) := dk_79 (dk_at dksX9_plans_4 22 rfl rfl)
theorem dX9_plans_118 : decode cX9_plans 118 = .ok (.aload_n 0, 1) := dk_42 (dk_at dksX9_plans_4 23 rfl rfl)
theorem dX9_plans_119 : decode cX9_plans 119 = .ok (.aload_n 0, 1) := dk_42 (dk_at dksX9_plans_5 0 rfl rfl)
theorem dX9_plans_120 : decode cX9_plans 120 = .ok (.getfield 42, 3) := dk_180 0 42 (dk_at dksX9_plans_5 1 rfl rfl)
theorem dX9_plans_123 : decode cX9_plans 123 = .ok (.invokevirtual 307, 3) := dk_182 1 51 (dk_at dksX9_plans_5 4 rfl rfl)
theorem dX9_plans_126 : decode cX9_plans 126 = .ok (.ifCond .eq 18, 3) := dk_153 0 18 (dk_at dksX9_plans_5 7 rfl rfl)
theorem dX9_plans_129 : decode cX9_plans 129 = .ok (.aload_n 0, 1) := dk_42 (dk_at dksX9_plans_5 10 rfl rfl)
theorem dX9_plans_130 : decode cX9_plans 130 = .ok (.aload_n 0, 1) := dk_42 (dk_at dksX9_plans_5 11 rfl rfl)
theorem dX9_plans_131 : decode cX9_plans 131 = .ok (.getfield 42, 3) := dk_180 0 42 (dk_at dksX9_plans_5 12 rfl rfl)
theorem dX9_plans_134 : decode cX9_plans 134 = .ok (.invokevirtual 334, 3) := dk_182 1 78 (dk_at dksX9_plans_5 15 rfl rfl)
theorem dX9_plans_137 : decode cX9_plans 137 = .ok (.ifCond .ne 7, 3) := dk_154 0 7 (dk_at dksX9_plans_5 18 rfl rfl)
theorem dX9_plans_140 : decode cX9_plans 140 = .ok (.iconst 1, 1) := dk_4 (dk_at dksX9_plans_5 21 rfl rfl)
theorem dX9_plans_141 : decode cX9_plans 141 = .ok (.goto 4, 3) := dk_167 0 4 (dk_at dksX9_plans_6 0 rfl rfl)
theorem dX9_plans_144 : decode cX9_plans 144 = .ok (.iconst 0, 1) := dk_3 (dk_at dksX9_plans_6 3 rfl rfl)
theorem dX9_plans_145 : decode cX9_plans 145 = .ok (.istore 4, 2) := dk_54 4 (dk_at dksX9_plans_6 4 rfl rfl)
theorem dX9_plans_147 : decode cX9_plans 147 = .ok (.iload 4, 2) := dk_21 4 (dk_at dksX9_plans_6 6 rfl rfl)
theorem dX9_plans_149 : decode cX9_plans 149 = .ok (.ifCond .eq 48, 3) := dk_153 0 48 (dk_at dksX9_plans_6 8 rfl rfl)
theorem dX9_plans_152 : decode cX9_plans 152 = .ok (.iconst 0, 1) := dk_3 (dk_at dksX9_plans_6 11 rfl rfl)
theorem dX9_plans_153 : decode cX9_plans 153 = .ok (.istore 5, 2) := dk_54 5 (dk_at dksX9_plans_6 12 rfl rfl)
theorem dX9_plans_155 : decode cX9_plans 155 = .ok (.iload 5, 2) := dk_21 5 (dk_at dksX9_plans_6 14 rfl rfl)
theorem dX9_plans_157 : decode cX9_plans 157 = .ok (.bipush 21, 2) := dk_16 21 (dk_at dksX9_plans_6 16 rfl rfl)
theorem dX9_plans_159 : decode cX9_plans 159 = .ok (.if_icmp .ge 30, 3) := dk_162 0 30 (dk_at dksX9_plans_6 18 rfl rfl)
theorem dX9_plans_162 : decode cX9_plans 162 = .ok (.aload_n 0, 1) := dk_42 (dk_at dksX9_plans_6 21 rfl rfl)
theorem dX9_plans_163 : decode cX9_plans 163 = .ok (.getfield 81, 3) := dk_180 0 81 (dk_at dksX9_plans_7 0 rfl rfl)
theorem dX9_plans_166 : decode cX9_plans 166 = .ok (.bipush 21, 2) := dk_16 21 (dk_at dksX9_plans_7 3 rfl rfl)
theorem dX9_plans_168 : decode cX9_plans 168 = .ok (.iload_n 1, 1) := dk_27 (dk_at dksX9_plans_7 5 rfl rfl)
theorem dX9_plans_169 : decode cX9_plans 169 = .ok (.iconst 1, 1) := dk_4 (dk_at dksX9_plans_7 6 rfl rfl)
theorem dX9_plans_170 : decode cX9_plans 170 = .ok (.iadd, 1) := dk_96 (dk_at dksX9_plans_7 7 rfl rfl)
theorem dX9_plans_171 : decode cX9_plans 171 = .ok (.imul, 1) := dk_104 (dk_at dksX9_plans_7 8 rfl rfl)
theorem dX9_plans_172 : decode cX9_plans 172 = .ok (.iload 5, 2) := dk_21 5 (dk_at dksX9_plans_7 9 rfl rfl)
theorem dX9_plans_174 : decode cX9_plans 174 = .ok (.iadd, 1) := dk_96 (dk_at dksX9_plans_7 11 rfl rfl)
theorem dX9_plans_175 : decode cX9_plans 175 = .ok (.aload_n 0, 1) := dk_42 (dk_at dksX9_plans_7 12 rfl rfl)
theorem dX9_plans_176 : decode cX9_plans 176 = .ok (.getfield 42, 3) := dk_180 0 42 (dk_at dksX9_plans_7 13 rfl rfl)
theorem dX9_plans_179 : decode cX9_plans 179 = .ok (.iload 5, 2) := dk_21 5 (dk_at dksX9_plans_7 16 rfl rfl)
theorem dX9_plans_181 : decode cX9_plans 181 = .ok (.iaload, 1) := dk_46 (dk_at dksX9_plans_7 18 rfl rfl)
theorem dX9_plans_182 : decode cX9_plans 182 = .ok (.iastore, 1) := dk_79 (dk_at dksX9_plans_7 19 rfl rfl)
theorem dX9_plans_183 : decode cX9_plans 183 = .ok (.iinc 5 1, 3) := dk_132 5 1 (dk_at dksX9_plans_7 20 rfl rfl)
theorem dX9_plans_186 : decode cX9_plans 186 = .ok (.goto (-31), 3) := dk_167 255 225 (dk_at dksX9_plans_8 0 rfl rfl)
theorem dX9_plans_189 : decode cX9_plans 189 = .ok (.aload_n 0, 1) := dk_42 (dk_at dksX9_plans_8 3 rfl rfl)
theorem dX9_plans_190 : decode cX9_plans 190 = .ok (.iload_n 1, 1) := dk_27 (dk_at dksX9_plans_8 4 rfl rfl)
theorem dX9_plans_191 : decode cX9_plans 191 = .ok (.iconst 1, 1) := dk_4 (dk_at dksX9_plans_8 5 rfl rfl)
theorem dX9_plans_192 : decode cX9_plans 192 = .ok (.iadd, 1) := dk_96 (dk_at dksX9_plans_8 6 rfl rfl)
theorem dX9_plans_193 : decode cX9_plans 193 = .ok (.iload_n 2, 1) := dk_28 (dk_at dksX9_plans_8 7 rfl rfl)
theorem dX9_plans_194 : decode cX9_plans 194 = .ok (.invokevirtual 387, 3) := dk_182 1 131 (dk_at dksX9_plans_8 8 rfl rfl)
theorem dX9_plans_197 : decode cX9_plans 197 = .ok (.iinc 3 1, 3) := dk_132 3 1 (dk_at dksX9_plans_8 11 rfl rfl)
theorem dX9_plans_200 : decode cX9_plans 200 = .ok (.goto (-137), 3) := dk_167 255 119 (dk_at dksX9_plans_8 14 rfl rfl)
theorem dX9_plans_203 : decode cX9_plans 203 = .ok (.return_, 1) := dk_177 (dk_at dksX9_plans_8 17 rfl rfl)
abbrev cX9_law : ByteArray := prog_15_method_85_code
def yX9_law : MethodName := ⟨RX9, "law", "()I"⟩
def dkwX9_law_4 : List UInt8 := [42, 3, 181, 0, 119, 42, 21, 4, 133, 182, 0, 122, 42, 28, 133, 182, 0, 122, 21, 4, 28, 100, 172]
abbrev dktX9_law_4 : List UInt8 := dkwX9_law_4 ++ []
def dkwX9_law_3 : List UInt8 := [42, 180, 0, 218, 182, 0, 245, 42, 16, 10, 182, 1, 137, 54, 4, 42, 42, 180, 0, 90, 29, 182, 0, 245]
abbrev dktX9_law_3 : List UInt8 := dkwX9_law_3 ++ dktX9_law_4
def dkwX9_law_2 : List UInt8 := [180, 0, 90, 21, 4, 42, 180, 0, 54, 21, 4, 46, 79, 132, 4, 1, 167, 255, 230, 42, 42, 180, 0, 57]
abbrev dktX9_law_2 : List UInt8 := dkwX9_law_2 ++ dktX9_law_3
def dkwX9_law_1 : List UInt8 := [16, 10, 182, 1, 137, 61, 42, 180, 0, 239, 62, 3, 54, 4, 21, 4, 42, 180, 0, 239, 162, 0, 23, 42]
abbrev dktX9_law_1 : List UInt8 := dkwX9_law_1 ++ dktX9_law_2
def dkwX9_law_0 : List UInt8 := [42, 3, 181, 0, 112, 42, 182, 0, 242, 60, 27, 156, 0, 11, 27, 4, 96, 17, 39, 16, 100, 172, 42]
abbrev dktX9_law_0 : List UInt8 := dkwX9_law_0 ++ dktX9_law_1
theorem dksX9_law_0 : cX9_law.data.toList.drop 0 = dktX9_law_0 := by decide +kernel
theorem dksX9_law_1 : cX9_law.data.toList.drop 23 = dktX9_law_1 := dk_seg dksX9_law_0 23 rfl rfl
theorem dksX9_law_2 : cX9_law.data.toList.drop 47 = dktX9_law_2 := dk_seg dksX9_law_1 24 rfl rfl
theorem dksX9_law_3 : cX9_law.data.toList.drop 71 = dktX9_law_3 := dk_seg dksX9_law_2 24 rfl rfl
theorem dksX9_law_4 : cX9_law.data.toList.drop 95 = dktX9_law_4 := dk_seg dksX9_law_3 24 rfl rfl
theorem dX9_law_0 : decode cX9_law 0 = .ok (.aload_n 0, 1) := dk_42 (dk_at dksX9_law_0 0 rfl rfl)
theorem dX9_law_1 : decode cX9_law 1 = .ok (.iconst 0, 1) := dk_3 (dk_at dksX9_law_0 1 rfl rfl)
theorem dX9_law_2 : decode cX9_law 2 = .ok (.putfield 112, 3) := dk_181 0 112 (dk_at dksX9_law_0 2 rfl rfl)
theorem dX9_law_5 : decode cX9_law 5 = .ok (.aload_n 0, 1) := dk_42 (dk_at dksX9_law_0 5 rfl rfl)
theorem dX9_law_6 : decode cX9_law 6 = .ok (.invokevirtual 242, 3) := dk_182 0 242 (dk_at dksX9_law_0 6 rfl rfl)
theorem dX9_law_9 : decode cX9_law 9 = .ok (.istore_n 1, 1) := dk_60 (dk_at dksX9_law_0 9 rfl rfl)
theorem dX9_law_10 : decode cX9_law 10 = .ok (.iload_n 1, 1) := dk_27 (dk_at dksX9_law_0 10 rfl rfl)
theorem dX9_law_11 : decode cX9_law 11 = .ok (.ifCond .ge 11, 3) := dk_156 0 11 (dk_at dksX9_law_0 11 rfl rfl)
theorem dX9_law_14 : decode cX9_law 14 = .ok (.iload_n 1, 1) := dk_27 (dk_at dksX9_law_0 14 rfl rfl)
theorem dX9_law_15 : decode cX9_law 15 = .ok (.iconst 1, 1) := dk_4 (dk_at dksX9_law_0 15 rfl rfl)
theorem dX9_law_16 : decode cX9_law 16 = .ok (.iadd, 1) := dk_96 (dk_at dksX9_law_0 16 rfl rfl)
theorem dX9_law_17 : decode cX9_law 17 = .ok (.sipush 10000, 3) := dk_17 39 16 (dk_at dksX9_law_0 17 rfl rfl)
theorem dX9_law_20 : decode cX9_law 20 = .ok (.isub, 1) := dk_100 (dk_at dksX9_law_0 20 rfl rfl)
theorem dX9_law_21 : decode cX9_law 21 = .ok (.ireturn, 1) := dk_172 (dk_at dksX9_law_0 21 rfl rfl)
theorem dX9_law_22 : decode cX9_law 22 = .ok (.aload_n 0, 1) := dk_42 (dk_at dksX9_law_0 22 rfl rfl)
theorem dX9_law_23 : decode cX9_law 23 = .ok (.bipush 10, 2) := dk_16 10 (dk_at dksX9_law_1 0 rfl rfl)
theorem dX9_law_25 : decode cX9_law 25 = .ok (.invokevirtual 393, 3) := dk_182 1 137 (dk_at dksX9_law_1 2 rfl rfl)
theorem dX9_law_28 : decode cX9_law 28 = .ok (.istore_n 2, 1) := dk_61 (dk_at dksX9_law_1 5 rfl rfl)
theorem dX9_law_29 : decode cX9_law 29 = .ok (.aload_n 0, 1) := dk_42 (dk_at dksX9_law_1 6 rfl rfl)
theorem dX9_law_30 : decode cX9_law 30 = .ok (.getfield 239, 3) := dk_180 0 239 (dk_at dksX9_law_1 7 rfl rfl)
theorem dX9_law_33 : decode cX9_law 33 = .ok (.istore_n 3, 1) := dk_62 (dk_at dksX9_law_1 10 rfl rfl)
theorem dX9_law_34 : decode cX9_law 34 = .ok (.iconst 0, 1) := dk_3 (dk_at dksX9_law_1 11 rfl rfl)
theorem dX9_law_35 : decode cX9_law 35 = .ok (.istore 4, 2) := dk_54 4 (dk_at dksX9_law_1 12 rfl rfl)
theorem dX9_law_37 : decode cX9_law 37 = .ok (.iload 4, 2) := dk_21 4 (dk_at dksX9_law_1 14 rfl rfl)
theorem dX9_law_39 : decode cX9_law 39 = .ok (.aload_n 0, 1) := dk_42 (dk_at dksX9_law_1 16 rfl rfl)
theorem dX9_law_40 : decode cX9_law 40 = .ok (.getfield 239, 3) := dk_180 0 239 (dk_at dksX9_law_1 17 rfl rfl)
theorem dX9_law_43 : decode cX9_law 43 = .ok (.if_icmp .ge 23, 3) := dk_162 0 23 (dk_at dksX9_law_1 20 rfl rfl)
theorem dX9_law_46 : decode cX9_law 46 = .ok (.aload_n 0, 1) := dk_42 (dk_at dksX9_law_1 23 rfl rfl)
theorem dX9_law_47 : decode cX9_law 47 = .ok (.getfield 90, 3) := dk_180 0 90 (dk_at dksX9_law_2 0 rfl rfl)
theorem dX9_law_50 : decode cX9_law 50 = .ok (.iload 4, 2) := dk_21 4 (dk_at dksX9_law_2 3 rfl rfl)
theorem dX9_law_52 : decode cX9_law 52 = .ok (.aload_n 0, 1) := dk_42 (dk_at dksX9_law_2 5 rfl rfl)
theorem dX9_law_53 : decode cX9_law 53 = .ok (.getfield 54, 3) := dk_180 0 54 (dk_at dksX9_law_2 6 rfl rfl)
theorem dX9_law_56 : decode cX9_law 56 = .ok (.iload 4, 2) := dk_21 4 (dk_at dksX9_law_2 9 rfl rfl)
theorem dX9_law_58 : decode cX9_law 58 = .ok (.iaload, 1) := dk_46 (dk_at dksX9_law_2 11 rfl rfl)
theorem dX9_law_59 : decode cX9_law 59 = .ok (.iastore, 1) := dk_79 (dk_at dksX9_law_2 12 rfl rfl)
theorem dX9_law_60 : decode cX9_law 60 = .ok (.iinc 4 1, 3) := dk_132 4 1 (dk_at dksX9_law_2 13 rfl rfl)
theorem dX9_law_63 : decode cX9_law 63 = .ok (.goto (-26), 3) := dk_167 255 230 (dk_at dksX9_law_2 16 rfl rfl)
theorem dX9_law_66 : decode cX9_law 66 = .ok (.aload_n 0, 1) := dk_42 (dk_at dksX9_law_2 19 rfl rfl)
theorem dX9_law_67 : decode cX9_law 67 = .ok (.aload_n 0, 1) := dk_42 (dk_at dksX9_law_2 20 rfl rfl)
theorem dX9_law_68 : decode cX9_law 68 = .ok (.getfield 57, 3) := dk_180 0 57 (dk_at dksX9_law_2 21 rfl rfl)
theorem dX9_law_71 : decode cX9_law 71 = .ok (.aload_n 0, 1) := dk_42 (dk_at dksX9_law_3 0 rfl rfl)
theorem dX9_law_72 : decode cX9_law 72 = .ok (.getfield 218, 3) := dk_180 0 218 (dk_at dksX9_law_3 1 rfl rfl)
theorem dX9_law_75 : decode cX9_law 75 = .ok (.invokevirtual 245, 3) := dk_182 0 245 (dk_at dksX9_law_3 4 rfl rfl)
theorem dX9_law_78 : decode cX9_law 78 = .ok (.aload_n 0, 1) := dk_42 (dk_at dksX9_law_3 7 rfl rfl)
theorem dX9_law_79 : decode cX9_law 79 = .ok (.bipush 10, 2) := dk_16 10 (dk_at dksX9_law_3 8 rfl rfl)
theorem dX9_law_81 : decode cX9_law 81 = .ok (.invokevirtual 393, 3) := dk_182 1 137 (dk_at dksX9_law_3 10 rfl rfl)
theorem dX9_law_84 : decode cX9_law 84 = .ok (.istore 4, 2) := dk_54 4 (dk_at dksX9_law_3 13 rfl rfl)
theorem dX9_law_86 : decode cX9_law 86 = .ok (.aload_n 0, 1) := dk_42 (dk_at dksX9_law_3 15 rfl rfl)
theorem dX9_law_87 : decode cX9_law 87 = .ok (.aload_n 0, 1) := dk_42 (dk_at dksX9_law_3 16 rfl rfl)
theorem dX9_law_88 : decode cX9_law 88 = .ok (.getfield 90, 3) := dk_180 0 90 (dk_at dksX9_law_3 17 rfl rfl)
theorem dX9_law_91 : decode cX9_law 91 = .ok (.iload_n 3, 1) := dk_29 (dk_at dksX9_law_3 20 rfl rfl)
theorem dX9_law_92 : decode cX9_law 92 = .ok (.invokevirtual 245, 3) := dk_182 0 245 (dk_at dksX9_law_3 21 rfl rfl)
theorem dX9_law_95 : decode cX9_law 95 = .ok (.aload_n 0, 1) := dk_42 (dk_at dksX9_law_4 0 rfl rfl)
theorem dX9_law_96 : decode cX9_law 96 = .ok (.iconst 0, 1) := dk_3 (dk_at dksX9_law_4 1 rfl rfl)
theorem dX9_law_97 : decode cX9_law 97 = .ok (.putfield 119, 3) := dk_181 0 119 (dk_at dksX9_law_4 2 rfl rfl)
theorem dX9_law_100 : decode cX9_law 100 = .ok (.aload_n 0, 1) := dk_42 (dk_at dksX9_law_4 5 rfl rfl)
theorem dX9_law_101 : decode cX9_law 101 = .ok (.iload 4, 2) := dk_21 4 (dk_at dksX9_law_4 6 rfl rfl)
theorem dX9_law_103 : decode cX9_law 103 = .ok (.i2l, 1) := dk_133 (dk_at dksX9_law_4 8 rfl rfl)
theorem dX9_law_104 : decode cX9_law 104 = .ok (.invokevirtual 122, 3) := dk_182 0 122 (dk_at dksX9_law_4 9 rfl rfl)
theorem dX9_law_107 : decode cX9_law 107 = .ok (.aload_n 0, 1) := dk_42 (dk_at dksX9_law_4 12 rfl rfl)
theorem dX9_law_108 : decode cX9_law 108 = .ok (.iload_n 2, 1) := dk_28 (dk_at dksX9_law_4 13 rfl rfl)
theorem dX9_law_109 : decode cX9_law 109 = .ok (.i2l, 1) := dk_133 (dk_at dksX9_law_4 14 rfl rfl)
theorem dX9_law_110 : decode cX9_law 110 = .ok (.invokevirtual 122, 3) := dk_182 0 122 (dk_at dksX9_law_4 15 rfl rfl)
theorem dX9_law_113 : decode cX9_law 113 = .ok (.iload 4, 2) := dk_21 4 (dk_at dksX9_law_4 18 rfl rfl)
theorem dX9_law_115 : decode cX9_law 115 = .ok (.iload_n 2, 1) := dk_28 (dk_at dksX9_law_4 20 rfl rfl)
theorem dX9_law_116 : decode cX9_law 116 = .ok (.isub, 1) := dk_100 (dk_at dksX9_law_4 21 rfl rfl)
theorem dX9_law_117 : decode cX9_law 117 = .ok (.ireturn, 1) := dk_172 (dk_at dksX9_law_4 22 rfl rfl)
abbrev cX9_treesIn : ByteArray := prog_15_method_84_code
def yX9_treesIn : MethodName := ⟨RX9, "treesIn", "(I)I"⟩
def dkwX9_treesIn_0 : List UInt8 := [42, 182, 1, 112, 42, 42, 180, 0, 42, 27, 182, 1, 75, 87, 42, 180, 0, 42, 16, 17, 46, 172]
abbrev dktX9_treesIn_0 : List UInt8 := dkwX9_treesIn_0 ++ []
theorem dksX9_treesIn_0 : cX9_treesIn.data.toList.drop 0 = dktX9_treesIn_0 := by decide +kernel
theorem dX9_treesIn_0 : decode cX9_treesIn 0 = .ok (.aload_n 0, 1) := dk_42 (dk_at dksX9_treesIn_0 0 rfl rfl)
theorem dX9_treesIn_1 : decode cX9_treesIn 1 = .ok (.invokevirtual 368, 3) := dk_182 1 112 (dk_at dksX9_treesIn_0 1 rfl rfl)
theorem dX9_treesIn_4 : decode cX9_treesIn 4 = .ok (.aload_n 0, 1) := dk_42 (dk_at dksX9_treesIn_0 4 rfl rfl)
theorem dX9_treesIn_5 : decode cX9_treesIn 5 = .ok (.aload_n 0, 1) := dk_42 (dk_at dksX9_treesIn_0 5 rfl rfl)
theorem dX9_treesIn_6 : decode cX9_treesIn 6 = .ok (.getfield 42, 3) := dk_180 0 42 (dk_at dksX9_treesIn_0 6 rfl rfl)
theorem dX9_treesIn_9 : decode cX9_treesIn 9 = .ok (.iload_n 1, 1) := dk_27 (dk_at dksX9_treesIn_0 9 rfl rfl)
theorem dX9_treesIn_10 : decode cX9_treesIn 10 = .ok (.invokevirtual 331, 3) := dk_182 1 75 (dk_at dksX9_treesIn_0 10 rfl rfl)
theorem dX9_treesIn_13 : decode cX9_treesIn 13 = .ok (.pop, 1) := dk_87 (dk_at dksX9_treesIn_0 13 rfl rfl)
theorem dX9_treesIn_14 : decode cX9_treesIn 14 = .ok (.aload_n 0, 1) := dk_42 (dk_at dksX9_treesIn_0 14 rfl rfl)
theorem dX9_treesIn_15 : decode cX9_treesIn 15 = .ok (.getfield 42, 3) := dk_180 0 42 (dk_at dksX9_treesIn_0 15 rfl rfl)
theorem dX9_treesIn_18 : decode cX9_treesIn 18 = .ok (.bipush 17, 2) := dk_16 17 (dk_at dksX9_treesIn_0 18 rfl rfl)
theorem dX9_treesIn_20 : decode cX9_treesIn 20 = .ok (.iaload, 1) := dk_46 (dk_at dksX9_treesIn_0 20 rfl rfl)
theorem dX9_treesIn_21 : decode cX9_treesIn 21 = .ok (.ireturn, 1) := dk_172 (dk_at dksX9_treesIn_0 21 rfl rfl)
abbrev cX9_sail : ByteArray := prog_15_method_88_code
def yX9_sail : MethodName := ⟨RX9, "sail", "(II)I"⟩
def dkwX9_sail_3 : List UInt8 := [180, 1, 140, 133, 182, 0, 122, 21, 4, 172]
abbrev dktX9_sail_3 : List UInt8 := dkwX9_sail_3 ++ []
def dkwX9_sail_2 : List UInt8 := [42, 27, 28, 29, 182, 1, 143, 54, 4, 42, 3, 181, 0, 119, 42, 29, 133, 182, 0, 122, 42, 42]
abbrev dktX9_sail_2 : List UInt8 := dkwX9_sail_2 ++ dktX9_sail_3
def dkwX9_sail_1 : List UInt8 := [153, 0, 15, 28, 133, 9, 20, 1, 148, 184, 0, 129, 154, 0, 5, 2, 172, 42, 27, 28, 182, 1, 150, 62]
abbrev dktX9_sail_1 : List UInt8 := dkwX9_sail_1 ++ dktX9_sail_2
def dkwX9_sail_0 : List UInt8 := [42, 3, 181, 0, 112, 42, 180, 0, 133, 154, 0, 6, 16, 254, 172, 27, 133, 10, 20, 1, 146, 184, 0, 129]
abbrev dktX9_sail_0 : List UInt8 := dkwX9_sail_0 ++ dktX9_sail_1
theorem dksX9_sail_0 : cX9_sail.data.toList.drop 0 = dktX9_sail_0 := by decide +kernel
theorem dksX9_sail_1 : cX9_sail.data.toList.drop 24 = dktX9_sail_1 := dk_seg dksX9_sail_0 24 rfl rfl
theorem dksX9_sail_2 : cX9_sail.data.toList.drop 48 = dktX9_sail_2 := dk_seg dksX9_sail_1 24 rfl rfl
theorem dksX9_sail_3 : cX9_sail.data.toList.drop 70 = dktX9_sail_3 := dk_seg dksX9_sail_2 22 rfl rfl
theorem dX9_sail_0 : decode cX9_sail 0 = .ok (.aload_n 0, 1) := dk_42 (dk_at dksX9_sail_0 0 rfl rfl)
theorem dX9_sail_1 : decode cX9_sail 1 = .ok (.iconst 0, 1) := dk_3 (dk_at dksX9_sail_0 1 rfl rfl)
theorem dX9_sail_2 : decode cX9_sail 2 = .ok (.putfield 112, 3) := dk_181 0 112 (dk_at dksX9_sail_0 2 rfl rfl)
theorem dX9_sail_5 : decode cX9_sail 5 = .ok (.aload_n 0, 1) := dk_42 (dk_at dksX9_sail_0 5 rfl rfl)
theorem dX9_sail_6 : decode cX9_sail 6 = .ok (.getfield 133, 3) := dk_180 0 133 (dk_at dksX9_sail_0 6 rfl rfl)
theorem dX9_sail_9 : decode cX9_sail 9 = .ok (.ifCond .ne 6, 3) := dk_154 0 6 (dk_at dksX9_sail_0 9 rfl rfl)
theorem dX9_sail_12 : decode cX9_sail 12 = .ok (.bipush (-2), 2) := dk_16 254 (dk_at dksX9_sail_0 12 rfl rfl)
theorem dX9_sail_14 : decode cX9_sail 14 = .ok (.ireturn, 1) := dk_172 (dk_at dksX9_sail_0 14 rfl rfl)
theorem dX9_sail_15 : decode cX9_sail 15 = .ok (.iload_n 1, 1) := dk_27 (dk_at dksX9_sail_0 15 rfl rfl)
theorem dX9_sail_16 : decode cX9_sail 16 = .ok (.i2l, 1) := dk_133 (dk_at dksX9_sail_0 16 rfl rfl)
theorem dX9_sail_17 : decode cX9_sail 17 = .ok (.lconst 1, 1) := dk_10 (dk_at dksX9_sail_0 17 rfl rfl)
theorem dX9_sail_18 : decode cX9_sail 18 = .ok (.ldc2_w 402, 3) := dk_20 1 146 (dk_at dksX9_sail_0 18 rfl rfl)
theorem dX9_sail_21 : decode cX9_sail 21 = .ok (.invokestatic 129, 3) := dk_184 0 129 (dk_at dksX9_sail_0 21 rfl rfl)
theorem dX9_sail_24 : decode cX9_sail 24 = .ok (.ifCond .eq 15, 3) := dk_153 0 15 (dk_at dksX9_sail_1 0 rfl rfl)
theorem dX9_sail_27 : decode cX9_sail 27 = .ok (.iload_n 2, 1) := dk_28 (dk_at dksX9_sail_1 3 rfl rfl)
theorem dX9_sail_28 : decode cX9_sail 28 = .ok (.i2l, 1) := dk_133 (dk_at dksX9_sail_1 4 rfl rfl)
theorem dX9_sail_29 : decode cX9_sail 29 = .ok (.lconst 0, 1) := dk_9 (dk_at dksX9_sail_1 5 rfl rfl)
theorem dX9_sail_30 : decode cX9_sail 30 = .ok (.ldc2_w 404, 3) := dk_20 1 148 (dk_at dksX9_sail_1 6 rfl rfl)
theorem dX9_sail_33 : decode cX9_sail 33 = .ok (.invokestatic 129, 3) := dk_184 0 129 (dk_at dksX9_sail_1 9 rfl rfl)
theorem dX9_sail_36 : decode cX9_sail 36 = .ok (.ifCond .ne 5, 3) := dk_154 0 5 (dk_at dksX9_sail_1 12 rfl rfl)
theorem dX9_sail_39 : decode cX9_sail 39 = .ok (.iconst (-1), 1) := dk_2 (dk_at dksX9_sail_1 15 rfl rfl)
theorem dX9_sail_40 : decode cX9_sail 40 = .ok (.ireturn, 1) := dk_172 (dk_at dksX9_sail_1 16 rfl rfl)
theorem dX9_sail_41 : decode cX9_sail 41 = .ok (.aload_n 0, 1) := dk_42 (dk_at dksX9_sail_1 17 rfl rfl)
theorem dX9_sail_42 : decode cX9_sail 42 = .ok (.iload_n 1, 1) := dk_27 (dk_at dksX9_sail_1 18 rfl rfl)
theorem dX9_sail_43 : decode cX9_sail 43 = .ok (.iload_n 2, 1) := dk_28 (dk_at dksX9_sail_1 19 rfl rfl)
theorem dX9_sail_44 : decode cX9_sail 44 = .ok (.invokevirtual 406, 3) := dk_182 1 150 (dk_at dksX9_sail_1 20 rfl rfl)
theorem dX9_sail_47 : decode cX9_sail 47 = .ok (.istore_n 3, 1) := dk_62 (dk_at dksX9_sail_1 23 rfl rfl)
theorem dX9_sail_48 : decode cX9_sail 48 = .ok (.aload_n 0, 1) := dk_42 (dk_at dksX9_sail_2 0 rfl rfl)
theorem dX9_sail_49 : decode cX9_sail 49 = .ok (.iload_n 1, 1) := dk_27 (dk_at dksX9_sail_2 1 rfl rfl)
theorem dX9_sail_50 : decode cX9_sail 50 = .ok (.iload_n 2, 1) := dk_28 (dk_at dksX9_sail_2 2 rfl rfl)
theorem dX9_sail_51 : decode cX9_sail 51 = .ok (.iload_n 3, 1) := dk_29 (dk_at dksX9_sail_2 3 rfl rfl)
theorem dX9_sail_52 : decode cX9_sail 52 = .ok (.invokevirtual 399, 3) := dk_182 1 143 (dk_at dksX9_sail_2 4 rfl rfl)
theorem dX9_sail_55 : decode cX9_sail 55 = .ok (.istore 4, 2) := dk_54 4 (dk_at dksX9_sail_2 7 rfl rfl)
theorem dX9_sail_57 : decode cX9_sail 57 = .ok (.aload_n 0, 1) := dk_42 (dk_at dksX9_sail_2 9 rfl rfl)
theorem dX9_sail_58 : decode cX9_sail 58 = .ok (.iconst 0, 1) := dk_3 (dk_at dksX9_sail_2 10 rfl rfl)
theorem dX9_sail_59 : decode cX9_sail 59 = .ok (.putfield 119, 3) := dk_181 0 119 (dk_at dksX9_sail_2 11 rfl rfl)
theorem dX9_sail_62 : decode cX9_sail 62 = .ok (.aload_n 0, 1) := dk_42 (dk_at dksX9_sail_2 14 rfl rfl)
theorem dX9_sail_63 : decode cX9_sail 63 = .ok (.iload_n 3, 1) := dk_29 (dk_at dksX9_sail_2 15 rfl rfl)
theorem dX9_sail_64 : decode cX9_sail 64 = .ok (.i2l, 1) := dk_133 (dk_at dksX9_sail_2 16 rfl rfl)
theorem dX9_sail_65 : decode cX9_sail 65 = .ok (.invokevirtual 122, 3) := dk_182 0 122 (dk_at dksX9_sail_2 17 rfl rfl)
theorem dX9_sail_68 : decode cX9_sail 68 = .ok (.aload_n 0, 1) := dk_42 (dk_at dksX9_sail_2 20 rfl rfl)
theorem dX9_sail_69 : decode cX9_sail 69 = .ok (.aload_n 0, 1) := dk_42 (dk_at dksX9_sail_2 21 rfl rfl)
theorem dX9_sail_70 : decode cX9_sail 70 = .ok (.getfield 396, 3) := dk_180 1 140 (dk_at dksX9_sail_3 0 rfl rfl)
theorem dX9_sail_73 : decode cX9_sail 73 = .ok (.i2l, 1) := dk_133 (dk_at dksX9_sail_3 3 rfl rfl)
theorem dX9_sail_74 : decode cX9_sail 74 = .ok (.invokevirtual 122, 3) := dk_182 0 122 (dk_at dksX9_sail_3 4 rfl rfl)
theorem dX9_sail_77 : decode cX9_sail 77 = .ok (.iload 4, 2) := dk_21 4 (dk_at dksX9_sail_3 7 rfl rfl)
theorem dX9_sail_79 : decode cX9_sail 79 = .ok (.ireturn, 1) := dk_172 (dk_at dksX9_sail_3 9 rfl rfl)
abbrev cX9_bestLanding : ByteArray := prog_15_method_87_code
def yX9_bestLanding : MethodName := ⟨RX9, "bestLanding", "(II)I"⟩
def dkwX9_bestLanding_2 : List UInt8 := [172]
abbrev dktX9_bestLanding_2 : List UInt8 := dkwX9_bestLanding_2 ++ []
def dkwX9_bestLanding_1 : List UInt8 := [42, 27, 28, 29, 182, 1, 143, 164, 0, 8, 21, 4, 167, 0, 4, 29, 62, 132, 4, 1, 167, 255, 217, 29]
abbrev dktX9_bestLanding_1 : List UInt8 := dkwX9_bestLanding_1 ++ dktX9_bestLanding_2
def dkwX9_bestLanding_0 : List UInt8 := [3, 62, 4, 54, 4, 21, 4, 4, 42, 180, 0, 133, 120, 162, 0, 34, 42, 27, 28, 21, 4, 182, 1, 143]
abbrev dktX9_bestLanding_0 : List UInt8 := dkwX9_bestLanding_0 ++ dktX9_bestLanding_1
theorem dksX9_bestLanding_0 : cX9_bestLanding.data.toList.drop 0 = dktX9_bestLanding_0 := by decide +kernel
theorem dksX9_bestLanding_1 : cX9_bestLanding.data.toList.drop 24 = dktX9_bestLanding_1 := dk_seg dksX9_bestLanding_0 24 rfl rfl
theorem dksX9_bestLanding_2 : cX9_bestLanding.data.toList.drop 48 = dktX9_bestLanding_2 := dk_seg dksX9_bestLanding_1 24 rfl rfl
theorem dX9_bestLanding_0 : decode cX9_bestLanding 0 = .ok (.iconst 0, 1) := dk_3 (dk_at dksX9_bestLanding_0 0 rfl rfl)
theorem dX9_bestLanding_1 : decode cX9_bestLanding 1 = .ok (.istore_n 3, 1) := dk_62 (dk_at dksX9_bestLanding_0 1 rfl rfl)
theorem dX9_bestLanding_2 : decode cX9_bestLanding 2 = .ok (.iconst 1, 1) := dk_4 (dk_at dksX9_bestLanding_0 2 rfl rfl)
theorem dX9_bestLanding_3 : decode cX9_bestLanding 3 = .ok (.istore 4, 2) := dk_54 4 (dk_at dksX9_bestLanding_0 3 rfl rfl)
theorem dX9_bestLanding_5 : decode cX9_bestLanding 5 = .ok (.iload 4, 2) := dk_21 4 (dk_at dksX9_bestLanding_0 5 rfl rfl)
theorem dX9_bestLanding_7 : decode cX9_bestLanding 7 = .ok (.iconst 1, 1) := dk_4 (dk_at dksX9_bestLanding_0 7 rfl rfl)
theorem dX9_bestLanding_8 : decode cX9_bestLanding 8 = .ok (.aload_n 0, 1) := dk_42 (dk_at dksX9_bestLanding_0 8 rfl rfl)
theorem dX9_bestLanding_9 : decode cX9_bestLanding 9 = .ok (.getfield 133, 3) := dk_180 0 133 (dk_at dksX9_bestLanding_0 9 rfl rfl)
theorem dX9_bestLanding_12 : decode cX9_bestLanding 12 = .ok (.ishl, 1) := dk_120 (dk_at dksX9_bestLanding_0 12 rfl rfl)
theorem dX9_bestLanding_13 : decode cX9_bestLanding 13 = .ok (.if_icmp .ge 34, 3) := dk_162 0 34 (dk_at dksX9_bestLanding_0 13 rfl rfl)
theorem dX9_bestLanding_16 : decode cX9_bestLanding 16 = .ok (.aload_n 0, 1) := dk_42 (dk_at dksX9_bestLanding_0 16 rfl rfl)
theorem dX9_bestLanding_17 : decode cX9_bestLanding 17 = .ok (.iload_n 1, 1) := dk_27 (dk_at dksX9_bestLanding_0 17 rfl rfl)
theorem dX9_bestLanding_18 : decode cX9_bestLanding 18 = .ok (.iload_n 2, 1) := dk_28 (dk_at dksX9_bestLanding_0 18 rfl rfl)
theorem dX9_bestLanding_19 : decode cX9_bestLanding 19 = .ok (.iload 4, 2) := dk_21 4 (dk_at dksX9_bestLanding_0 19 rfl rfl)
theorem dX9_bestLanding_21 : decode cX9_bestLanding 21 = .ok (.invokevirtual 399, 3) := dk_182 1 143 (dk_at dksX9_bestLanding_0 21 rfl rfl)
theorem dX9_bestLanding_24 : decode cX9_bestLanding 24 = .ok (.aload_n 0, 1) := dk_42 (dk_at dksX9_bestLanding_1 0 rfl rfl)
theorem dX9_bestLanding_25 : decode cX9_bestLanding 25 = .ok (.iload_n 1, 1) := dk_27 (dk_at dksX9_bestLanding_1 1 rfl rfl)
theorem dX9_bestLanding_26 : decode cX9_bestLanding 26 = .ok (.iload_n 2, 1) := dk_28 (dk_at dksX9_bestLanding_1 2 rfl rfl)
theorem dX9_bestLanding_27 : decode cX9_bestLanding 27 = .ok (.iload_n 3, 1) := dk_29 (dk_at dksX9_bestLanding_1 3 rfl rfl)
theorem dX9_bestLanding_28 : decode cX9_bestLanding 28 = .ok (.invokevirtual 399, 3) := dk_182 1 143 (dk_at dksX9_bestLanding_1 4 rfl rfl)
theorem dX9_bestLanding_31 : decode cX9_bestLanding 31 = .ok (.if_icmp .le 8, 3) := dk_164 0 8 (dk_at dksX9_bestLanding_1 7 rfl rfl)
theorem dX9_bestLanding_34 : decode cX9_bestLanding 34 = .ok (.iload 4, 2) := dk_21 4 (dk_at dksX9_bestLanding_1 10 rfl rfl)
theorem dX9_bestLanding_36 : decode cX9_bestLanding 36 = .ok (.goto 4, 3) := dk_167 0 4 (dk_at dksX9_bestLanding_1 12 rfl rfl)
theorem dX9_bestLanding_39 : decode cX9_bestLanding 39 = .ok (.iload_n 3, 1) := dk_29 (dk_at dksX9_bestLanding_1 15 rfl rfl)
theorem dX9_bestLanding_40 : decode cX9_bestLanding 40 = .ok (.istore_n 3, 1) := dk_62 (dk_at dksX9_bestLanding_1 16 rfl rfl)
theorem dX9_bestLanding_41 : decode cX9_bestLanding 41 = .ok (.iinc 4 1, 3) := dk_132 4 1 (dk_at dksX9_bestLanding_1 17 rfl rfl)
theorem dX9_bestLanding_44 : decode cX9_bestLanding 44 = .ok (.goto (-39), 3) := dk_167 255 217 (dk_at dksX9_bestLanding_1 20 rfl rfl)
theorem dX9_bestLanding_47 : decode cX9_bestLanding 47 = .ok (.iload_n 3, 1) := dk_29 (dk_at dksX9_bestLanding_1 23 rfl rfl)
theorem dX9_bestLanding_48 : decode cX9_bestLanding 48 = .ok (.ireturn, 1) := dk_172 (dk_at dksX9_bestLanding_2 0 rfl rfl)
abbrev cX9_alive : ByteArray := prog_15_method_86_code
def yX9_alive : MethodName := ⟨RX9, "alive", "(III)I"⟩
def dkwX9_alive_5 : List UInt8 := [46, 100, 184, 1, 38, 54, 4, 132, 5, 1, 167, 255, 141, 21, 4, 172]
abbrev dktX9_alive_5 : List UInt8 := dkwX9_alive_5 ++ []
def dkwX9_alive_4 : List UInt8 := [89, 180, 1, 140, 42, 180, 0, 33, 21, 5, 46, 96, 181, 1, 140, 3, 21, 4, 42, 180, 0, 36, 21, 5]
abbrev dktX9_alive_4 : List UInt8 := dkwX9_alive_4 ++ dktX9_alive_5
def dkwX9_alive_3 : List UInt8 := [21, 7, 184, 0, 154, 100, 54, 4, 132, 6, 1, 167, 255, 200, 29, 21, 5, 184, 1, 1, 153, 0, 35, 42]
abbrev dktX9_alive_3 : List UInt8 := dkwX9_alive_3 ++ dktX9_alive_4
def dkwX9_alive_2 : List UInt8 := [167, 0, 4, 3, 54, 7, 42, 3, 42, 180, 1, 140, 21, 4, 100, 184, 1, 38, 181, 1, 140, 21, 4]
abbrev dktX9_alive_2 : List UInt8 := dkwX9_alive_2 ++ dktX9_alive_3
def dkwX9_alive_1 : List UInt8 := [21, 6, 42, 180, 0, 30, 21, 5, 46, 162, 0, 50, 42, 180, 1, 140, 21, 4, 162, 0, 7, 4]
abbrev dktX9_alive_1 : List UInt8 := dkwX9_alive_1 ++ dktX9_alive_2
def dkwX9_alive_0 : List UInt8 := [27, 54, 4, 42, 28, 181, 1, 140, 3, 54, 5, 21, 5, 42, 180, 0, 133, 162, 0, 112, 3, 54, 6]
abbrev dktX9_alive_0 : List UInt8 := dkwX9_alive_0 ++ dktX9_alive_1
theorem dksX9_alive_0 : cX9_alive.data.toList.drop 0 = dktX9_alive_0 := by decide +kernel
theorem dksX9_alive_1 : cX9_alive.data.toList.drop 23 = dktX9_alive_1 := dk_seg dksX9_alive_0 23 rfl rfl
theorem dksX9_alive_2 : cX9_alive.data.toList.drop 45 = dktX9_alive_2 := dk_seg dksX9_alive_1 22 rfl rfl
theorem dksX9_alive_3 : cX9_alive.data.toList.drop 68 = dktX9_alive_3 := dk_seg dksX9_alive_2 23 rfl rfl
theorem dksX9_alive_4 : cX9_alive.data.toList.drop 92 = dktX9_alive_4 := dk_seg dksX9_alive_3 24 rfl rfl
theorem dksX9_alive_5 : cX9_alive.data.toList.drop 116 = dktX9_alive_5 := dk_seg dksX9_alive_4 24 rfl rfl
theorem dX9_alive_0 : decode cX9_alive 0 = .ok (.iload_n 1, 1) := dk_27 (dk_at dksX9_alive_0 0 rfl rfl)
theorem dX9_alive_1 : decode cX9_alive 1 = .ok (.istore 4, 2) := dk_54 4 (dk_at dksX9_alive_0 1 rfl rfl)
theorem dX9_alive_3 : decode cX9_alive 3 = .ok (.aload_n 0, 1) := dk_42 (dk_at dksX9_alive_0 3 rfl rfl)
theorem dX9_alive_4 : decode cX9_alive 4 = .ok (.iload_n 2, 1) := dk_28 (dk_at dksX9_alive_0 4 rfl rfl)
theorem dX9_alive_5 : decode cX9_alive 5 = .ok (.putfield 396, 3) := dk_181 1 140 (dk_at dksX9_alive_0 5 rfl rfl)
theorem dX9_alive_8 : decode cX9_alive 8 = .ok (.iconst 0, 1) := dk_3 (dk_at dksX9_alive_0 8 rfl rfl)
theorem dX9_alive_9 : decode cX9_alive 9 = .ok (.istore 5, 2) := dk_54 5 (dk_at dksX9_alive_0 9 rfl rfl)
theorem dX9_alive_11 : decode cX9_alive 11 = .ok (.iload 5, 2) := dk_21 5 (dk_at dksX9_alive_0 11 rfl rfl)
theorem dX9_alive_13 : decode cX9_alive 13 = .ok (.aload_n 0, 1) := dk_42 (dk_at dksX9_alive_0 13 rfl rfl)
theorem dX9_alive_14 : decode cX9_alive 14 = .ok (.getfield 133, 3) := dk_180 0 133 (dk_at dksX9_alive_0 14 rfl rfl)
theorem dX9_alive_17 : decode cX9_alive 17 = .ok (.if_icmp .ge 112, 3) := dk_162 0 112 (dk_at dksX9_alive_0 17 rfl rfl)
theorem dX9_alive_20 : decode cX9_alive 20 = .ok (.iconst 0, 1) := dk_3 (dk_at dksX9_alive_0 20 rfl rfl)
theorem dX9_alive_21 : decode cX9_alive 21 = .ok (.istore 6, 2) := dk_54 6 (dk_at dksX9_alive_0 21 rfl rfl)
theorem dX9_alive_23 : decode cX9_alive 23 = .ok (.iload 6, 2) := dk_21 6 (dk_at dksX9_alive_1 0 rfl rfl)
theorem dX9_alive_25 : decode cX9_alive 25 = .ok (.aload_n 0, 1) := dk_42 (dk_at dksX9_alive_1 2 rfl rfl)
theorem dX9_alive_26 : decode cX9_alive 26 = .ok (.getfield 30, 3) := dk_180 0 30 (dk_at dksX9_alive_1 3 rfl rfl)
theorem dX9_alive_29 : decode cX9_alive 29 = .ok (.iload 5, 2) := dk_21 5 (dk_at dksX9_alive_1 6 rfl rfl)
theorem dX9_alive_31 : decode cX9_alive 31 = .ok (.iaload, 1) := dk_46 (dk_at dksX9_alive_1 8 rfl rfl)
theorem dX9_alive_32 : decode cX9_alive 32 = .ok (.if_icmp .ge 50, 3) := dk_162 0 50 (dk_at dksX9_alive_1 9 rfl rfl)
theorem dX9_alive_35 : decode cX9_alive 35 = .ok (.aload_n 0, 1) := dk_42 (dk_at dksX9_alive_1 12 rfl rfl)
theorem dX9_alive_36 : decode cX9_alive 36 = .ok (.getfield 396, 3) := dk_180 1 140 (dk_at dksX9_alive_1 13 rfl rfl)
theorem dX9_alive_39 : decode cX9_alive 39 = .ok (.iload 4, 2) := dk_21 4 (dk_at dksX9_alive_1 16 rfl rfl)
theorem dX9_alive_41 : decode cX9_alive 41 = .ok (.if_icmp .ge 7, 3) := dk_162 0 7 (dk_at dksX9_alive_1 18 rfl rfl)
theorem dX9_alive_44 : decode cX9_alive 44 = .ok (.iconst 1, 1) := dk_4 (dk_at dksX9_alive_1 21 rfl rfl)
theorem dX9_alive_45 : decode cX9_alive 45 = .ok (.goto 4, 3) := dk_167 0 4 (dk_at dksX9_alive_2 0 rfl rfl)
theorem dX9_alive_48 : decode cX9_alive 48 = .ok (.iconst 0, 1) := dk_3 (dk_at dksX9_alive_2 3 rfl rfl)
theorem dX9_alive_49 : decode cX9_alive 49 = .ok (.istore 7, 2) := dk_54 7 (dk_at dksX9_alive_2 4 rfl rfl)
theorem dX9_alive_51 : decode cX9_alive 51 = .ok (.aload_n 0, 1) := dk_42 (dk_at dksX9_alive_2 6 rfl rfl)
theorem dX9_alive_52 : decode cX9_alive 52 = .ok (.iconst 0, 1) := dk_3 (dk_at dksX9_alive_2 7 rfl rfl)
theorem dX9_alive_53 : decode cX9_alive 53 = .ok (.aload_n 0, 1) := dk_42 (dk_at dksX9_alive_2 8 rfl rfl)
theorem dX9_alive_54 : decode cX9_alive 54 = .ok (.getfield 396, 3) := dk_180 1 140 (dk_at dksX9_alive_2 9 rfl rfl)
theorem dX9_alive_57 : decode cX9_alive 57 = .ok (.iload 4, 2) := dk_21 4 (dk_at dksX9_alive_2 12 rfl rfl)
theorem dX9_alive_59 : decode cX9_alive 59 = .ok (.isub, 1) := dk_100 (dk_at dksX9_alive_2 14 rfl rfl)
theorem dX9_alive_60 : decode cX9_alive 60 = .ok (.invokestatic 294, 3) := dk_184 1 38 (dk_at dksX9_alive_2 15 rfl rfl)
theorem dX9_alive_63 : decode cX9_alive 63 = .ok (.putfield 396, 3) := dk_181 1 140 (dk_at dksX9_alive_2 18 rfl rfl)
theorem dX9_alive_66 : decode cX9_alive 66 = .ok (.iload 4, 2) := dk_21 4 (dk_at dksX9_alive_2 21 rfl rfl)
theorem dX9_alive_68 : decode cX9_alive 68 = .ok (.iload 7, 2) := dk_21 7 (dk_at dksX9_alive_3 0 rfl rfl)
theorem dX9_alive_70 : decode cX9_alive 70 = .ok (.invokestatic 154, 3) := dk_184 0 154 (dk_at dksX9_alive_3 2 rfl rfl)
theorem dX9_alive_73 : decode cX9_alive 73 = .ok (.isub, 1) := dk_100 (dk_at dksX9_alive_3 5 rfl rfl)
theorem dX9_alive_74 : decode cX9_alive 74 = .ok (.istore 4, 2) := dk_54 4 (dk_at dksX9_alive_3 6 rfl rfl)
theorem dX9_alive_76 : decode cX9_alive 76 = .ok (.iinc 6 1, 3) := dk_132 6 1 (dk_at dksX9_alive_3 8 rfl rfl)
theorem dX9_alive_79 : decode cX9_alive 79 = .ok (.goto (-56), 3) := dk_167 255 200 (dk_at dksX9_alive_3 11 rfl rfl)
theorem dX9_alive_82 : decode cX9_alive 82 = .ok (.iload_n 3, 1) := dk_29 (dk_at dksX9_alive_3 14 rfl rfl)
theorem dX9_alive_83 : decode cX9_alive 83 = .ok (.iload 5, 2) := dk_21 5 (dk_at dksX9_alive_3 15 rfl rfl)
theorem dX9_alive_85 : decode cX9_alive 85 = .ok (.invokestatic 257, 3) := dk_184 1 1 (dk_at dksX9_alive_3 17 rfl rfl)
theorem dX9_alive_88 : decode cX9_alive 88 = .ok (.ifCond .eq 35, 3) := dk_153 0 35 (dk_at dksX9_alive_3 20 rfl rfl)
theorem dX9_alive_91 : decode cX9_alive 91 = .ok (.aload_n 0, 1) := dk_42 (dk_at dksX9_alive_3 23 rfl rfl)
theorem dX9_alive_92 : decode cX9_alive 92 = .ok (.dup, 1) := dk_89 (dk_at dksX9_alive_4 0 rfl rfl)
theorem dX9_alive_93 : decode cX9_alive 93 = .ok (.getfield 396, 3) := dk_180 1 140 (dk_at dksX9_alive_4 1 rfl rfl)
theorem dX9_alive_96 : decode cX9_alive 96 = .ok (.aload_n 0, 1) := dk_42 (dk_at dksX9_alive_4 4 rfl rfl)
theorem dX9_alive_97 : decode cX9_alive 97 = .ok (.getfield 33, 3) := dk_180 0 33 (dk_at dksX9_alive_4 5 rfl rfl)
theorem dX9_alive_100 : decode cX9_alive 100 = .ok (.iload 5, 2) := dk_21 5 (dk_at dksX9_alive_4 8 rfl rfl)
theorem dX9_alive_102 : decode cX9_alive 102 = .ok (.iaload, 1) := dk_46 (dk_at dksX9_alive_4 10 rfl rfl)
theorem dX9_alive_103 : decode cX9_alive 103 = .ok (.iadd, 1) := dk_96 (dk_at dksX9_alive_4 11 rfl rfl)
theorem dX9_alive_104 : decode cX9_alive 104 = .ok (.putfield 396, 3) := dk_181 1 140 (dk_at dksX9_alive_4 12 rfl rfl)
theorem dX9_alive_107 : decode cX9_alive 107 = .ok (.iconst 0, 1) := dk_3 (dk_at dksX9_alive_4 15 rfl rfl)
theorem dX9_alive_108 : decode cX9_alive 108 = .ok (.iload 4, 2) := dk_21 4 (dk_at dksX9_alive_4 16 rfl rfl)
theorem dX9_alive_110 : decode cX9_alive 110 = .ok (.aload_n 0, 1) := dk_42 (dk_at dksX9_alive_4 18 rfl rfl)
theorem dX9_alive_111 : decode cX9_alive 111 = .ok (.getfield 36, 3) := dk_180 0 36 (dk_at dksX9_alive_4 19 rfl rfl)
theorem dX9_alive_114 : decode cX9_alive 114 = .ok (.iload 5, 2) := dk_21 5 (dk_at dksX9_alive_4 22 rfl rfl)
theorem dX9_alive_116 : decode cX9_alive 116 = .ok (.iaload, 1) := dk_46 (dk_at dksX9_alive_5 0 rfl rfl)
theorem dX9_alive_117 : decode cX9_alive 117 = .ok (.isub, 1) := dk_100 (dk_at dksX9_alive_5 1 rfl rfl)
theorem dX9_alive_118 : decode cX9_alive 118 = .ok (.invokestatic 294, 3) := dk_184 1 38 (dk_at dksX9_alive_5 2 rfl rfl)
theorem dX9_alive_121 : decode cX9_alive 121 = .ok (.istore 4, 2) := dk_54 4 (dk_at dksX9_alive_5 5 rfl rfl)
theorem dX9_alive_123 : decode cX9_alive 123 = .ok (.iinc 5 1, 3) := dk_132 5 1 (dk_at dksX9_alive_5 7 rfl rfl)
theorem dX9_alive_126 : decode cX9_alive 126 = .ok (.goto (-115), 3) := dk_167 255 141 (dk_at dksX9_alive_5 10 rfl rfl)
theorem dX9_alive_129 : decode cX9_alive 129 = .ok (.iload 4, 2) := dk_21 4 (dk_at dksX9_alive_5 13 rfl rfl)
theorem dX9_alive_131 : decode cX9_alive 131 = .ok (.ireturn, 1) := dk_172 (dk_at dksX9_alive_5 15 rfl rfl)
abbrev cX9_bread : ByteArray := prog_15_method_89_code
def yX9_bread : MethodName := ⟨RX9, "bread", "(I)I"⟩
def dkwX9_bread_2 : List UInt8 := [182, 1, 143, 27, 160, 0, 5, 28, 172, 132, 2, 1, 167, 255, 221, 16, 254, 172]
abbrev dktX9_bread_2 : List UInt8 := dkwX9_bread_2 ++ []
def dkwX9_bread_1 : List UInt8 := [17, 3, 231, 163, 0, 34, 42, 180, 0, 133, 158, 0, 27, 42, 27, 28, 42, 27, 28, 182, 1, 150]
abbrev dktX9_bread_1 : List UInt8 := dkwX9_bread_1 ++ dktX9_bread_2
def dkwX9_bread_0 : List UInt8 := [42, 3, 181, 0, 112, 27, 133, 10, 20, 1, 146, 184, 0, 129, 154, 0, 5, 2, 172, 3, 61, 28]
abbrev dktX9_bread_0 : List UInt8 := dkwX9_bread_0 ++ dktX9_bread_1
theorem dksX9_bread_0 : cX9_bread.data.toList.drop 0 = dktX9_bread_0 := by decide +kernel
theorem dksX9_bread_1 : cX9_bread.data.toList.drop 22 = dktX9_bread_1 := dk_seg dksX9_bread_0 22 rfl rfl
theorem dksX9_bread_2 : cX9_bread.data.toList.drop 44 = dktX9_bread_2 := dk_seg dksX9_bread_1 22 rfl rfl
theorem dX9_bread_0 : decode cX9_bread 0 = .ok (.aload_n 0, 1) := dk_42 (dk_at dksX9_bread_0 0 rfl rfl)
theorem dX9_bread_1 : decode cX9_bread 1 = .ok (.iconst 0, 1) := dk_3 (dk_at dksX9_bread_0 1 rfl rfl)
theorem dX9_bread_2 : decode cX9_bread 2 = .ok (.putfield 112, 3) := dk_181 0 112 (dk_at dksX9_bread_0 2 rfl rfl)
theorem dX9_bread_5 : decode cX9_bread 5 = .ok (.iload_n 1, 1) := dk_27 (dk_at dksX9_bread_0 5 rfl rfl)
theorem dX9_bread_6 : decode cX9_bread 6 = .ok (.i2l, 1) := dk_133 (dk_at dksX9_bread_0 6 rfl rfl)
theorem dX9_bread_7 : decode cX9_bread 7 = .ok (.lconst 1, 1) := dk_10 (dk_at dksX9_bread_0 7 rfl rfl)
theorem dX9_bread_8 : decode cX9_bread 8 = .ok (.ldc2_w 402, 3) := dk_20 1 146 (dk_at dksX9_bread_0 8 rfl rfl)
theorem dX9_bread_11 : decode cX9_bread 11 = .ok (.invokestatic 129, 3) := dk_184 0 129 (dk_at dksX9_bread_0 11 rfl rfl)
theorem dX9_bread_14 : decode cX9_bread 14 = .ok (.ifCond .ne 5, 3) := dk_154 0 5 (dk_at dksX9_bread_0 14 rfl rfl)
theorem dX9_bread_17 : decode cX9_bread 17 = .ok (.iconst (-1), 1) := dk_2 (dk_at dksX9_bread_0 17 rfl rfl)
theorem dX9_bread_18 : decode cX9_bread 18 = .ok (.ireturn, 1) := dk_172 (dk_at dksX9_bread_0 18 rfl rfl)
theorem dX9_bread_19 : decode cX9_bread 19 = .ok (.iconst 0, 1) := dk_3 (dk_at dksX9_bread_0 19 rfl rfl)
theorem dX9_bread_20 : decode cX9_bread 20 = .ok (.istore_n 2, 1) := dk_61 (dk_at dksX9_bread_0 20 rfl rfl)
theorem dX9_bread_21 : decode cX9_bread 21 = .ok (.iload_n 2, 1) := dk_28 (dk_at dksX9_bread_0 21 rfl rfl)
theorem dX9_bread_22 : decode cX9_bread 22 = .ok (.sipush 999, 3) := dk_17 3 231 (dk_at dksX9_bread_1 0 rfl rfl)
theorem dX9_bread_25 : decode cX9_bread 25 = .ok (.if_icmp .gt 34, 3) := dk_163 0 34 (dk_at dksX9_bread_1 3 rfl rfl)
theorem dX9_bread_28 : decode cX9_bread 28 = .ok (.aload_n 0, 1) := dk_42 (dk_at dksX9_bread_1 6 rfl rfl)
theorem dX9_bread_29 : decode cX9_bread 29 = .ok (.getfield 133, 3) := dk_180 0 133 (dk_at dksX9_bread_1 7 rfl rfl)
theorem dX9_bread_32 : decode cX9_bread 32 = .ok (.ifCond .le 27, 3) := dk_158 0 27 (dk_at dksX9_bread_1 10 rfl rfl)
theorem dX9_bread_35 : decode cX9_bread 35 = .ok (.aload_n 0, 1) := dk_42 (dk_at dksX9_bread_1 13 rfl rfl)
theorem dX9_bread_36 : decode cX9_bread 36 = .ok (.iload_n 1, 1) := dk_27 (dk_at dksX9_bread_1 14 rfl rfl)
theorem dX9_bread_37 : decode cX9_bread 37 = .ok (.iload_n 2, 1) := dk_28 (dk_at dksX9_bread_1 15 rfl rfl)
theorem dX9_bread_38 : decode cX9_bread 38 = .ok (.aload_n 0, 1) := dk_42 (dk_at dksX9_bread_1 16 rfl rfl)
theorem dX9_bread_39 : decode cX9_bread 39 = .ok (.iload_n 1, 1) := dk_27 (dk_at dksX9_bread_1 17 rfl rfl)
theorem dX9_bread_40 : decode cX9_bread 40 = .ok (.iload_n 2, 1) := dk_28 (dk_at dksX9_bread_1 18 rfl rfl)
theorem dX9_bread_41 : decode cX9_bread 41 = .ok (.invokevirtual 406, 3) := dk_182 1 150 (dk_at dksX9_bread_1 19 rfl rfl)
theorem dX9_bread_44 : decode cX9_bread 44 = .ok (.invokevirtual 399, 3) := dk_182 1 143 (dk_at dksX9_bread_2 0 rfl rfl)
theorem dX9_bread_47 : decode cX9_bread 47 = .ok (.iload_n 1, 1) := dk_27 (dk_at dksX9_bread_2 3 rfl rfl)
theorem dX9_bread_48 : decode cX9_bread 48 = .ok (.if_icmp .ne 5, 3) := dk_160 0 5 (dk_at dksX9_bread_2 4 rfl rfl)
theorem dX9_bread_51 : decode cX9_bread 51 = .ok (.iload_n 2, 1) := dk_28 (dk_at dksX9_bread_2 7 rfl rfl)
theorem dX9_bread_52 : decode cX9_bread 52 = .ok (.ireturn, 1) := dk_172 (dk_at dksX9_bread_2 8 rfl rfl)
theorem dX9_bread_53 : decode cX9_bread 53 = .ok (.iinc 2 1, 3) := dk_132 2 1 (dk_at dksX9_bread_2 9 rfl rfl)
theorem dX9_bread_56 : decode cX9_bread 56 = .ok (.goto (-35), 3) := dk_167 255 221 (dk_at dksX9_bread_2 12 rfl rfl)
theorem dX9_bread_59 : decode cX9_bread 59 = .ok (.bipush (-2), 2) := dk_16 254 (dk_at dksX9_bread_2 15 rfl rfl)
theorem dX9_bread_61 : decode cX9_bread 61 = .ok (.ireturn, 1) := dk_172 (dk_at dksX9_bread_2 17 rfl rfl)
abbrev cX9_shares : ByteArray := prog_15_method_90_code
def yX9_shares : MethodName := ⟨RX9, "shares", "(III)I"⟩
def dkwX9_shares_2 : List UInt8 := [181, 0, 119, 42, 27, 28, 29, 104, 112, 133, 182, 0, 122, 16, 100, 27, 104, 28, 29, 104, 108, 172]
abbrev dktX9_shares_2 : List UInt8 := dkwX9_shares_2 ++ []
def dkwX9_shares_1 : List UInt8 := [184, 0, 129, 153, 0, 15, 29, 133, 10, 20, 1, 56, 184, 0, 129, 154, 0, 5, 2, 172, 42, 3]
abbrev dktX9_shares_1 : List UInt8 := dkwX9_shares_1 ++ dktX9_shares_2
def dkwX9_shares_0 : List UInt8 := [42, 3, 181, 0, 112, 27, 133, 9, 20, 1, 148, 184, 0, 129, 153, 0, 27, 28, 133, 10, 20, 1, 146]
abbrev dktX9_shares_0 : List UInt8 := dkwX9_shares_0 ++ dktX9_shares_1
theorem dksX9_shares_0 : cX9_shares.data.toList.drop 0 = dktX9_shares_0 := by decide +kernel
theorem dksX9_shares_1 : cX9_shares.data.toList.drop 23 = dktX9_shares_1 := dk_seg dksX9_shares_0 23 rfl rfl
theorem dksX9_shares_2 : cX9_shares.data.toList.drop 45 = dktX9_shares_2 := dk_seg dksX9_shares_1 22 rfl rfl
theorem dX9_shares_0 : decode cX9_shares 0 = .ok (.aload_n 0, 1) := dk_42 (dk_at dksX9_shares_0 0 rfl rfl)
theorem dX9_shares_1 : decode cX9_shares 1 = .ok (.iconst 0, 1) := dk_3 (dk_at dksX9_shares_0 1 rfl rfl)
theorem dX9_shares_2 : decode cX9_shares 2 = .ok (.putfield 112, 3) := dk_181 0 112 (dk_at dksX9_shares_0 2 rfl rfl)
theorem dX9_shares_5 : decode cX9_shares 5 = .ok (.iload_n 1, 1) := dk_27 (dk_at dksX9_shares_0 5 rfl rfl)
theorem dX9_shares_6 : decode cX9_shares 6 = .ok (.i2l, 1) := dk_133 (dk_at dksX9_shares_0 6 rfl rfl)
theorem dX9_shares_7 : decode cX9_shares 7 = .ok (.lconst 0, 1) := dk_9 (dk_at dksX9_shares_0 7 rfl rfl)
theorem dX9_shares_8 : decode cX9_shares 8 = .ok (.ldc2_w 404, 3) := dk_20 1 148 (dk_at dksX9_shares_0 8 rfl rfl)
theorem dX9_shares_11 : decode cX9_shares 11 = .ok (.invokestatic 129, 3) := dk_184 0 129 (dk_at dksX9_shares_0 11 rfl rfl)
theorem dX9_shares_14 : decode cX9_shares 14 = .ok (.ifCond .eq 27, 3) := dk_153 0 27 (dk_at dksX9_shares_0 14 rfl rfl)
theorem dX9_shares_17 : decode cX9_shares 17 = .ok (.iload_n 2, 1) := dk_28 (dk_at dksX9_shares_0 17 rfl rfl)
theorem dX9_shares_18 : decode cX9_shares 18 = .ok (.i2l, 1) := dk_133 (dk_at dksX9_shares_0 18 rfl rfl)
theorem dX9_shares_19 : decode cX9_shares 19 = .ok (.lconst 1, 1) := dk_10 (dk_at dksX9_shares_0 19 rfl rfl)
theorem dX9_shares_20 : decode cX9_shares 20 = .ok (.ldc2_w 402, 3) := dk_20 1 146 (dk_at dksX9_shares_0 20 rfl rfl)
theorem dX9_shares_23 : decode cX9_shares 23 = .ok (.invokestatic 129, 3) := dk_184 0 129 (dk_at dksX9_shares_1 0 rfl rfl)
theorem dX9_shares_26 : decode cX9_shares 26 = .ok (.ifCond .eq 15, 3) := dk_153 0 15 (dk_at dksX9_shares_1 3 rfl rfl)
theorem dX9_shares_29 : decode cX9_shares 29 = .ok (.iload_n 3, 1) := dk_29 (dk_at dksX9_shares_1 6 rfl rfl)
theorem dX9_shares_30 : decode cX9_shares 30 = .ok (.i2l, 1) := dk_133 (dk_at dksX9_shares_1 7 rfl rfl)
theorem dX9_shares_31 : decode cX9_shares 31 = .ok (.lconst 1, 1) := dk_10 (dk_at dksX9_shares_1 8 rfl rfl)
theorem dX9_shares_32 : decode cX9_shares 32 = .ok (.ldc2_w 312, 3) := dk_20 1 56 (dk_at dksX9_shares_1 9 rfl rfl)
theorem dX9_shares_35 : decode cX9_shares 35 = .ok (.invokestatic 129, 3) := dk_184 0 129 (dk_at dksX9_shares_1 12 rfl rfl)
theorem dX9_shares_38 : decode cX9_shares 38 = .ok (.ifCond .ne 5, 3) := dk_154 0 5 (dk_at dksX9_shares_1 15 rfl rfl)
theorem dX9_shares_41 : decode cX9_shares 41 = .ok (.iconst (-1), 1) := dk_2 (dk_at dksX9_shares_1 18 rfl rfl)
theorem dX9_shares_42 : decode cX9_shares 42 = .ok (.ireturn, 1) := dk_172 (dk_at dksX9_shares_1 19 rfl rfl)
theorem dX9_shares_43 : decode cX9_shares 43 = .ok (.aload_n 0, 1) := dk_42 (dk_at dksX9_shares_1 20 rfl rfl)
theorem dX9_shares_44 : decode cX9_shares 44 = .ok (.iconst 0, 1) := dk_3 (dk_at dksX9_shares_1 21 rfl rfl)
theorem dX9_shares_45 : decode cX9_shares 45 = .ok (.putfield 119, 3) := dk_181 0 119 (dk_at dksX9_shares_2 0 rfl rfl)
theorem dX9_shares_48 : decode cX9_shares 48 = .ok (.aload_n 0, 1) := dk_42 (dk_at dksX9_shares_2 3 rfl rfl)
theorem dX9_shares_49 : decode cX9_shares 49 = .ok (.iload_n 1, 1) := dk_27 (dk_at dksX9_shares_2 4 rfl rfl)
theorem dX9_shares_50 : decode cX9_shares 50 = .ok (.iload_n 2, 1) := dk_28 (dk_at dksX9_shares_2 5 rfl rfl)
theorem dX9_shares_51 : decode cX9_shares 51 = .ok (.iload_n 3, 1) := dk_29 (dk_at dksX9_shares_2 6 rfl rfl)
theorem dX9_shares_52 : decode cX9_shares 52 = .ok (.imul, 1) := dk_104 (dk_at dksX9_shares_2 7 rfl rfl)
theorem dX9_shares_53 : decode cX9_shares 53 = .ok (.irem, 1) := dk_112 (dk_at dksX9_shares_2 8 rfl rfl)
theorem dX9_shares_54 : decode cX9_shares 54 = .ok (.i2l, 1) := dk_133 (dk_at dksX9_shares_2 9 rfl rfl)
theorem dX9_shares_55 : decode cX9_shares 55 = .ok (.invokevirtual 122, 3) := dk_182 0 122 (dk_at dksX9_shares_2 10 rfl rfl)
theorem dX9_shares_58 : decode cX9_shares 58 = .ok (.bipush 100, 2) := dk_16 100 (dk_at dksX9_shares_2 13 rfl rfl)
theorem dX9_shares_60 : decode cX9_shares 60 = .ok (.iload_n 1, 1) := dk_27 (dk_at dksX9_shares_2 15 rfl rfl)
theorem dX9_shares_61 : decode cX9_shares 61 = .ok (.imul, 1) := dk_104 (dk_at dksX9_shares_2 16 rfl rfl)
theorem dX9_shares_62 : decode cX9_shares 62 = .ok (.iload_n 2, 1) := dk_28 (dk_at dksX9_shares_2 17 rfl rfl)
theorem dX9_shares_63 : decode cX9_shares 63 = .ok (.iload_n 3, 1) := dk_29 (dk_at dksX9_shares_2 18 rfl rfl)
theorem dX9_shares_64 : decode cX9_shares 64 = .ok (.imul, 1) := dk_104 (dk_at dksX9_shares_2 19 rfl rfl)
theorem dX9_shares_65 : decode cX9_shares 65 = .ok (.idiv, 1) := dk_108 (dk_at dksX9_shares_2 20 rfl rfl)
theorem dX9_shares_66 : decode cX9_shares 66 = .ok (.ireturn, 1) := dk_172 (dk_at dksX9_shares_2 21 rfl rfl)
abbrev cX9_searched : ByteArray := prog_15_method_92_code
def yX9_searched : MethodName := ⟨RX9, "searched", "(I)I"⟩
def dkwX9_searched_2 : List UInt8 := [172]
abbrev dktX9_searched_2 : List UInt8 := dkwX9_searched_2 ++ []
def dkwX9_searched_1 : List UInt8 := [42, 180, 0, 93, 42, 180, 1, 153, 27, 79, 42, 89, 180, 1, 153, 4, 96, 181, 1, 153, 42, 180, 1, 153]
abbrev dktX9_searched_1 : List UInt8 := dkwX9_searched_1 ++ dktX9_searched_2
def dkwX9_searched_0 : List UInt8 := [42, 3, 181, 0, 112, 42, 27, 182, 1, 30, 153, 0, 12, 42, 180, 1, 153, 16, 12, 160, 0, 5, 2, 172]
abbrev dktX9_searched_0 : List UInt8 := dkwX9_searched_0 ++ dktX9_searched_1
theorem dksX9_searched_0 : cX9_searched.data.toList.drop 0 = dktX9_searched_0 := by decide +kernel
theorem dksX9_searched_1 : cX9_searched.data.toList.drop 24 = dktX9_searched_1 := dk_seg dksX9_searched_0 24 rfl rfl
theorem dksX9_searched_2 : cX9_searched.data.toList.drop 48 = dktX9_searched_2 := dk_seg dksX9_searched_1 24 rfl rfl
theorem dX9_searched_0 : decode cX9_searched 0 = .ok (.aload_n 0, 1) := dk_42 (dk_at dksX9_searched_0 0 rfl rfl)
theorem dX9_searched_1 : decode cX9_searched 1 = .ok (.iconst 0, 1) := dk_3 (dk_at dksX9_searched_0 1 rfl rfl)
theorem dX9_searched_2 : decode cX9_searched 2 = .ok (.putfield 112, 3) := dk_181 0 112 (dk_at dksX9_searched_0 2 rfl rfl)
theorem dX9_searched_5 : decode cX9_searched 5 = .ok (.aload_n 0, 1) := dk_42 (dk_at dksX9_searched_0 5 rfl rfl)
theorem dX9_searched_6 : decode cX9_searched 6 = .ok (.iload_n 1, 1) := dk_27 (dk_at dksX9_searched_0 6 rfl rfl)
theorem dX9_searched_7 : decode cX9_searched 7 = .ok (.invokevirtual 286, 3) := dk_182 1 30 (dk_at dksX9_searched_0 7 rfl rfl)
theorem dX9_searched_10 : decode cX9_searched 10 = .ok (.ifCond .eq 12, 3) := dk_153 0 12 (dk_at dksX9_searched_0 10 rfl rfl)
theorem dX9_searched_13 : decode cX9_searched 13 = .ok (.aload_n 0, 1) := dk_42 (dk_at dksX9_searched_0 13 rfl rfl)
theorem dX9_searched_14 : decode cX9_searched 14 = .ok (.getfield 409, 3) := dk_180 1 153 (dk_at dksX9_searched_0 14 rfl rfl)
theorem dX9_searched_17 : decode cX9_searched 17 = .ok (.bipush 12, 2) := dk_16 12 (dk_at dksX9_searched_0 17 rfl rfl)
theorem dX9_searched_19 : decode cX9_searched 19 = .ok (.if_icmp .ne 5, 3) := dk_160 0 5 (dk_at dksX9_searched_0 19 rfl rfl)
theorem dX9_searched_22 : decode cX9_searched 22 = .ok (.iconst (-1), 1) := dk_2 (dk_at dksX9_searched_0 22 rfl rfl)
theorem dX9_searched_23 : decode cX9_searched 23 = .ok (.ireturn, 1) := dk_172 (dk_at dksX9_searched_0 23 rfl rfl)
theorem dX9_searched_24 : decode cX9_searched 24 = .ok (.aload_n 0, 1) := dk_42 (dk_at dksX9_searched_1 0 rfl rfl)
theorem dX9_searched_25 : decode cX9_searched 25 = .ok (.getfield 93, 3) := dk_180 0 93 (dk_at dksX9_searched_1 1 rfl rfl)
theorem dX9_searched_28 : decode cX9_searched 28 = .ok (.aload_n 0, 1) := dk_42 (dk_at dksX9_searched_1 4 rfl rfl)
theorem dX9_searched_29 : decode cX9_searched 29 = .ok (.getfield 409, 3) := dk_180 1 153 (dk_at dksX9_searched_1 5 rfl rfl)
theorem dX9_searched_32 : decode cX9_searched 32 = .ok (.iload_n 1, 1) := dk_27 (dk_at dksX9_searched_1 8 rfl rfl)
theorem dX9_searched_33 : decode cX9_searched 33 = .ok (.iastore, 1) := dk_79 (dk_at dksX9_searched_1 9 rfl rfl)
theorem dX9_searched_34 : decode cX9_searched 34 = .ok (.aload_n 0, 1) := dk_42 (dk_at dksX9_searched_1 10 rfl rfl)
theorem dX9_searched_35 : decode cX9_searched 35 = .ok (.dup, 1) := dk_89 (dk_at dksX9_searched_1 11 rfl rfl)
theorem dX9_searched_36 : decode cX9_searched 36 = .ok (.getfield 409, 3) := dk_180 1 153 (dk_at dksX9_searched_1 12 rfl rfl)
theorem dX9_searched_39 : decode cX9_searched 39 = .ok (.iconst 1, 1) := dk_4 (dk_at dksX9_searched_1 15 rfl rfl)
theorem dX9_searched_40 : decode cX9_searched 40 = .ok (.iadd, 1) := dk_96 (dk_at dksX9_searched_1 16 rfl rfl)
theorem dX9_searched_41 : decode cX9_searched 41 = .ok (.putfield 409, 3) := dk_181 1 153 (dk_at dksX9_searched_1 17 rfl rfl)
theorem dX9_searched_44 : decode cX9_searched 44 = .ok (.aload_n 0, 1) := dk_42 (dk_at dksX9_searched_1 20 rfl rfl)
theorem dX9_searched_45 : decode cX9_searched 45 = .ok (.getfield 409, 3) := dk_180 1 153 (dk_at dksX9_searched_1 21 rfl rfl)
theorem dX9_searched_48 : decode cX9_searched 48 = .ok (.ireturn, 1) := dk_172 (dk_at dksX9_searched_2 0 rfl rfl)
abbrev cX9_forget : ByteArray := prog_15_method_93_code
def yX9_forget : MethodName := ⟨RX9, "forget", "()I"⟩
def dkwX9_forget_0 : List UInt8 := [42, 3, 181, 0, 112, 42, 180, 1, 153, 60, 42, 3, 181, 1, 153, 27, 172]
abbrev dktX9_forget_0 : List UInt8 := dkwX9_forget_0 ++ []
theorem dksX9_forget_0 : cX9_forget.data.toList.drop 0 = dktX9_forget_0 := by decide +kernel
theorem dX9_forget_0 : decode cX9_forget 0 = .ok (.aload_n 0, 1) := dk_42 (dk_at dksX9_forget_0 0 rfl rfl)
theorem dX9_forget_1 : decode cX9_forget 1 = .ok (.iconst 0, 1) := dk_3 (dk_at dksX9_forget_0 1 rfl rfl)
theorem dX9_forget_2 : decode cX9_forget 2 = .ok (.putfield 112, 3) := dk_181 0 112 (dk_at dksX9_forget_0 2 rfl rfl)
theorem dX9_forget_5 : decode cX9_forget 5 = .ok (.aload_n 0, 1) := dk_42 (dk_at dksX9_forget_0 5 rfl rfl)
theorem dX9_forget_6 : decode cX9_forget 6 = .ok (.getfield 409, 3) := dk_180 1 153 (dk_at dksX9_forget_0 6 rfl rfl)
theorem dX9_forget_9 : decode cX9_forget 9 = .ok (.istore_n 1, 1) := dk_60 (dk_at dksX9_forget_0 9 rfl rfl)
theorem dX9_forget_10 : decode cX9_forget 10 = .ok (.aload_n 0, 1) := dk_42 (dk_at dksX9_forget_0 10 rfl rfl)
theorem dX9_forget_11 : decode cX9_forget 11 = .ok (.iconst 0, 1) := dk_3 (dk_at dksX9_forget_0 11 rfl rfl)
theorem dX9_forget_12 : decode cX9_forget 12 = .ok (.putfield 409, 3) := dk_181 1 153 (dk_at dksX9_forget_0 12 rfl rfl)
theorem dX9_forget_15 : decode cX9_forget 15 = .ok (.iload_n 1, 1) := dk_27 (dk_at dksX9_forget_0 15 rfl rfl)
theorem dX9_forget_16 : decode cX9_forget 16 = .ok (.ireturn, 1) := dk_172 (dk_at dksX9_forget_0 16 rfl rfl)
abbrev cX9_belief : ByteArray := prog_15_method_96_code
def yX9_belief : MethodName := ⟨RX9, "belief", "(II)I"⟩
def dkwX9_belief_2 : List UInt8 := [182, 1, 158, 33, 182, 1, 166, 3, 172]
abbrev dktX9_belief_2 : List UInt8 := dkwX9_belief_2 ++ []
def dkwX9_belief_1 : List UInt8 := [154, 0, 5, 2, 172, 42, 28, 182, 1, 162, 66, 33, 9, 148, 154, 0, 6, 16, 254, 172, 42, 42, 27, 28]
abbrev dktX9_belief_1 : List UInt8 := dkwX9_belief_1 ++ dktX9_belief_2
def dkwX9_belief_0 : List UInt8 := [42, 3, 181, 0, 112, 42, 27, 182, 1, 30, 153, 0, 15, 28, 133, 9, 20, 1, 156, 184, 0, 129]
abbrev dktX9_belief_0 : List UInt8 := dkwX9_belief_0 ++ dktX9_belief_1
theorem dksX9_belief_0 : cX9_belief.data.toList.drop 0 = dktX9_belief_0 := by decide +kernel
theorem dksX9_belief_1 : cX9_belief.data.toList.drop 22 = dktX9_belief_1 := dk_seg dksX9_belief_0 22 rfl rfl
theorem dksX9_belief_2 : cX9_belief.data.toList.drop 46 = dktX9_belief_2 := dk_seg dksX9_belief_1 24 rfl rfl
theorem dX9_belief_0 : decode cX9_belief 0 = .ok (.aload_n 0, 1) := dk_42 (dk_at dksX9_belief_0 0 rfl rfl)
theorem dX9_belief_1 : decode cX9_belief 1 = .ok (.iconst 0, 1) := dk_3 (dk_at dksX9_belief_0 1 rfl rfl)
theorem dX9_belief_2 : decode cX9_belief 2 = .ok (.putfield 112, 3) := dk_181 0 112 (dk_at dksX9_belief_0 2 rfl rfl)
theorem dX9_belief_5 : decode cX9_belief 5 = .ok (.aload_n 0, 1) := dk_42 (dk_at dksX9_belief_0 5 rfl rfl)
theorem dX9_belief_6 : decode cX9_belief 6 = .ok (.iload_n 1, 1) := dk_27 (dk_at dksX9_belief_0 6 rfl rfl)
theorem dX9_belief_7 : decode cX9_belief 7 = .ok (.invokevirtual 286, 3) := dk_182 1 30 (dk_at dksX9_belief_0 7 rfl rfl)
theorem dX9_belief_10 : decode cX9_belief 10 = .ok (.ifCond .eq 15, 3) := dk_153 0 15 (dk_at dksX9_belief_0 10 rfl rfl)
theorem dX9_belief_13 : decode cX9_belief 13 = .ok (.iload_n 2, 1) := dk_28 (dk_at dksX9_belief_0 13 rfl rfl)
theorem dX9_belief_14 : decode cX9_belief 14 = .ok (.i2l, 1) := dk_133 (dk_at dksX9_belief_0 14 rfl rfl)
theorem dX9_belief_15 : decode cX9_belief 15 = .ok (.lconst 0, 1) := dk_9 (dk_at dksX9_belief_0 15 rfl rfl)
theorem dX9_belief_16 : decode cX9_belief 16 = .ok (.ldc2_w 412, 3) := dk_20 1 156 (dk_at dksX9_belief_0 16 rfl rfl)
theorem dX9_belief_19 : decode cX9_belief 19 = .ok (.invokestatic 129, 3) := dk_184 0 129 (dk_at dksX9_belief_0 19 rfl rfl)
theorem dX9_belief_22 : decode cX9_belief 22 = .ok (.ifCond .ne 5, 3) := dk_154 0 5 (dk_at dksX9_belief_1 0 rfl rfl)
theorem dX9_belief_25 : decode cX9_belief 25 = .ok (.iconst (-1), 1) := dk_2 (dk_at dksX9_belief_1 3 rfl rfl)
theorem dX9_belief_26 : decode cX9_belief 26 = .ok (.ireturn, 1) := dk_172 (dk_at dksX9_belief_1 4 rfl rfl)
theorem dX9_belief_27 : decode cX9_belief 27 = .ok (.aload_n 0, 1) := dk_42 (dk_at dksX9_belief_1 5 rfl rfl)
theorem dX9_belief_28 : decode cX9_belief 28 = .ok (.iload_n 2, 1) := dk_28 (dk_at dksX9_belief_1 6 rfl rfl)
theorem dX9_belief_29 : decode cX9_belief 29 = .ok (.invokevirtual 418, 3) := dk_182 1 162 (dk_at dksX9_belief_1 7 rfl rfl)
theorem dX9_belief_32 : decode cX9_belief 32 = .ok (.lstore_n 3, 1) := dk_66 (dk_at dksX9_belief_1 10 rfl rfl)
theorem dX9_belief_33 : decode cX9_belief 33 = .ok (.lload_n 3, 1) := dk_33 (dk_at dksX9_belief_1 11 rfl rfl)
theorem dX9_belief_34 : decode cX9_belief 34 = .ok (.lconst 0, 1) := dk_9 (dk_at dksX9_belief_1 12 rfl rfl)
theorem dX9_belief_35 : decode cX9_belief 35 = .ok (.lcmp, 1) := dk_148 (dk_at dksX9_belief_1 13 rfl rfl)
theorem dX9_belief_36 : decode cX9_belief 36 = .ok (.ifCond .ne 6, 3) := dk_154 0 6 (dk_at dksX9_belief_1 14 rfl rfl)
theorem dX9_belief_39 : decode cX9_belief 39 = .ok (.bipush (-2), 2) := dk_16 254 (dk_at dksX9_belief_1 17 rfl rfl)
theorem dX9_belief_41 : decode cX9_belief 41 = .ok (.ireturn, 1) := dk_172 (dk_at dksX9_belief_1 19 rfl rfl)
theorem dX9_belief_42 : decode cX9_belief 42 = .ok (.aload_n 0, 1) := dk_42 (dk_at dksX9_belief_1 20 rfl rfl)
theorem dX9_belief_43 : decode cX9_belief 43 = .ok (.aload_n 0, 1) := dk_42 (dk_at dksX9_belief_1 21 rfl rfl)
theorem dX9_belief_44 : decode cX9_belief 44 = .ok (.iload_n 1, 1) := dk_27 (dk_at dksX9_belief_1 22 rfl rfl)
theorem dX9_belief_45 : decode cX9_belief 45 = .ok (.iload_n 2, 1) := dk_28 (dk_at dksX9_belief_1 23 rfl rfl)
theorem dX9_belief_46 : decode cX9_belief 46 = .ok (.invokevirtual 414, 3) := dk_182 1 158 (dk_at dksX9_belief_2 0 rfl rfl)
theorem dX9_belief_49 : decode cX9_belief 49 = .ok (.lload_n 3, 1) := dk_33 (dk_at dksX9_belief_2 3 rfl rfl)
theorem dX9_belief_50 : decode cX9_belief 50 = .ok (.invokevirtual 422, 3) := dk_182 1 166 (dk_at dksX9_belief_2 4 rfl rfl)
theorem dX9_belief_53 : decode cX9_belief 53 = .ok (.iconst 0, 1) := dk_3 (dk_at dksX9_belief_2 7 rfl rfl)
theorem dX9_belief_54 : decode cX9_belief 54 = .ok (.ireturn, 1) := dk_172 (dk_at dksX9_belief_2 8 rfl rfl)
abbrev cX9_allWeights : ByteArray := prog_15_method_95_code
def yX9_allWeights : MethodName := ⟨RX9, "allWeights", "(I)J"⟩
def dkwX9_allWeights_1 : List UInt8 := [132, 4, 1, 167, 255, 234, 32, 173]
abbrev dktX9_allWeights_1 : List UInt8 := dkwX9_allWeights_1 ++ []
def dkwX9_allWeights_0 : List UInt8 := [9, 65, 3, 54, 4, 21, 4, 42, 180, 0, 133, 162, 0, 19, 32, 42, 21, 4, 27, 182, 1, 158, 97, 65]
abbrev dktX9_allWeights_0 : List UInt8 := dkwX9_allWeights_0 ++ dktX9_allWeights_1
theorem dksX9_allWeights_0 : cX9_allWeights.data.toList.drop 0 = dktX9_allWeights_0 := by decide +kernel
theorem dksX9_allWeights_1 : cX9_allWeights.data.toList.drop 24 = dktX9_allWeights_1 := dk_seg dksX9_allWeights_0 24 rfl rfl
theorem dX9_allWeights_0 : decode cX9_allWeights 0 = .ok (.lconst 0, 1) := dk_9 (dk_at dksX9_allWeights_0 0 rfl rfl)
theorem dX9_allWeights_1 : decode cX9_allWeights 1 = .ok (.lstore_n 2, 1) := dk_65 (dk_at dksX9_allWeights_0 1 rfl rfl)
theorem dX9_allWeights_2 : decode cX9_allWeights 2 = .ok (.iconst 0, 1) := dk_3 (dk_at dksX9_allWeights_0 2 rfl rfl)
theorem dX9_allWeights_3 : decode cX9_allWeights 3 = .ok (.istore 4, 2) := dk_54 4 (dk_at dksX9_allWeights_0 3 rfl rfl)
theorem dX9_allWeights_5 : decode cX9_allWeights 5 = .ok (.iload 4, 2) := dk_21 4 (dk_at dksX9_allWeights_0 5 rfl rfl)
theorem dX9_allWeights_7 : decode cX9_allWeights 7 = .ok (.aload_n 0, 1) := dk_42 (dk_at dksX9_allWeights_0 7 rfl rfl)
theorem dX9_allWeights_8 : decode cX9_allWeights 8 = .ok (.getfield 133, 3) := dk_180 0 133 (dk_at dksX9_allWeights_0 8 rfl rfl)
theorem dX9_allWeights_11 : decode cX9_allWeights 11 = .ok (.if_icmp .ge 19, 3) := dk_162 0 19 (dk_at dksX9_allWeights_0 11 rfl rfl)
theorem dX9_allWeights_14 : decode cX9_allWeights 14 = .ok (.lload_n 2, 1) := dk_32 (dk_at dksX9_allWeights_0 14 rfl rfl)
theorem dX9_allWeights_15 : decode cX9_allWeights 15 = .ok (.aload_n 0, 1) := dk_42 (dk_at dksX9_allWeights_0 15 rfl rfl)
theorem dX9_allWeights_16 : decode cX9_allWeights 16 = .ok (.iload 4, 2) := dk_21 4 (dk_at dksX9_allWeights_0 16 rfl rfl)
theorem dX9_allWeights_18 : decode cX9_allWeights 18 = .ok (.iload_n 1, 1) := dk_27 (dk_at dksX9_allWeights_0 18 rfl rfl)
theorem dX9_allWeights_19 : decode cX9_allWeights 19 = .ok (.invokevirtual 414, 3) := dk_182 1 158 (dk_at dksX9_allWeights_0 19 rfl rfl)
theorem dX9_allWeights_22 : decode cX9_allWeights 22 = .ok (.ladd, 1) := dk_97 (dk_at dksX9_allWeights_0 22 rfl rfl)
theorem dX9_allWeights_23 : decode cX9_allWeights 23 = .ok (.lstore_n 2, 1) := dk_65 (dk_at dksX9_allWeights_0 23 rfl rfl)
theorem dX9_allWeights_24 : decode cX9_allWeights 24 = .ok (.iinc 4 1, 3) := dk_132 4 1 (dk_at dksX9_allWeights_1 0 rfl rfl)
theorem dX9_allWeights_27 : decode cX9_allWeights 27 = .ok (.goto (-22), 3) := dk_167 255 234 (dk_at dksX9_allWeights_1 3 rfl rfl)
theorem dX9_allWeights_30 : decode cX9_allWeights 30 = .ok (.lload_n 2, 1) := dk_32 (dk_at dksX9_allWeights_1 6 rfl rfl)
theorem dX9_allWeights_31 : decode cX9_allWeights 31 = .ok (.lreturn, 1) := dk_173 (dk_at dksX9_allWeights_1 7 rfl rfl)
abbrev cX9_weightOf : ByteArray := prog_15_method_94_code
def yX9_weightOf : MethodName := ⟨RX9, "weightOf", "(II)J"⟩
def dkwX9_weightOf_2 : List UInt8 := [132, 5, 1, 167, 255, 219, 33, 173]
abbrev dktX9_weightOf_2 : List UInt8 := dkwX9_weightOf_2 ++ []
def dkwX9_weightOf_1 : List UInt8 := [180, 0, 93, 21, 5, 46, 27, 160, 0, 11, 16, 10, 28, 100, 133, 167, 0, 6, 20, 1, 156, 105, 66]
abbrev dktX9_weightOf_1 : List UInt8 := dkwX9_weightOf_1 ++ dktX9_weightOf_2
def dkwX9_weightOf_0 : List UInt8 := [42, 180, 0, 33, 27, 46, 4, 96, 133, 66, 3, 54, 5, 21, 5, 42, 180, 1, 153, 162, 0, 34, 33, 42]
abbrev dktX9_weightOf_0 : List UInt8 := dkwX9_weightOf_0 ++ dktX9_weightOf_1
theorem dksX9_weightOf_0 : cX9_weightOf.data.toList.drop 0 = dktX9_weightOf_0 := by decide +kernel
theorem dksX9_weightOf_1 : cX9_weightOf.data.toList.drop 24 = dktX9_weightOf_1 := dk_seg dksX9_weightOf_0 24 rfl rfl
theorem dksX9_weightOf_2 : cX9_weightOf.data.toList.drop 47 = dktX9_weightOf_2 := dk_seg dksX9_weightOf_1 23 rfl rfl
theorem dX9_weightOf_0 : decode cX9_weightOf 0 = .ok (.aload_n 0, 1) := dk_42 (dk_at dksX9_weightOf_0 0 rfl rfl)
theorem dX9_weightOf_1 : decode cX9_weightOf 1 = .ok (.getfield 33, 3) := dk_180 0 33 (dk_at dksX9_weightOf_0 1 rfl rfl)
theorem dX9_weightOf_4 : decode cX9_weightOf 4 = .ok (.iload_n 1, 1) := dk_27 (dk_at dksX9_weightOf_0 4 rfl rfl)
theorem dX9_weightOf_5 : decode cX9_weightOf 5 = .ok (.iaload, 1) := dk_46 (dk_at dksX9_weightOf_0 5 rfl rfl)
theorem dX9_weightOf_6 : decode cX9_weightOf 6 = .ok (.iconst 1, 1) := dk_4 (dk_at dksX9_weightOf_0 6 rfl rfl)
theorem dX9_weightOf_7 : decode cX9_weightOf 7 = .ok (.iadd, 1) := dk_96 (dk_at dksX9_weightOf_0 7 rfl rfl)
theorem dX9_weightOf_8 : decode cX9_weightOf 8 = .ok (.i2l, 1) := dk_133 (dk_at dksX9_weightOf_0 8 rfl rfl)
theorem dX9_weightOf_9 : decode cX9_weightOf 9 = .ok (.lstore_n 3, 1) := dk_66 (dk_at dksX9_weightOf_0 9 rfl rfl)
theorem dX9_weightOf_10 : decode cX9_weightOf 10 = .ok (.iconst 0, 1) := dk_3 (dk_at dksX9_weightOf_0 10 rfl rfl)
theorem dX9_weightOf_11 : decode cX9_weightOf 11 = .ok (.istore 5, 2) := dk_54 5 (dk_at dksX9_weightOf_0 11 rfl rfl)
theorem dX9_weightOf_13 : decode cX9_weightOf 13 = .ok (.iload 5, 2) := dk_21 5 (dk_at dksX9_weightOf_0 13 rfl rfl)
theorem dX9_weightOf_15 : decode cX9_weightOf 15 = .ok (.aload_n 0, 1) := dk_42 (dk_at dksX9_weightOf_0 15 rfl rfl)
theorem dX9_weightOf_16 : decode cX9_weightOf 16 = .ok (.getfield 409, 3) := dk_180 1 153 (dk_at dksX9_weightOf_0 16 rfl rfl)
theorem dX9_weightOf_19 : decode cX9_weightOf 19 = .ok (.if_icmp .ge 34, 3) := dk_162 0 34 (dk_at dksX9_weightOf_0 19 rfl rfl)
theorem dX9_weightOf_22 : decode cX9_weightOf 22 = .ok (.lload_n 3, 1) := dk_33 (dk_at dksX9_weightOf_0 22 rfl rfl)
theorem dX9_weightOf_23 : decode cX9_weightOf 23 = .ok (.aload_n 0, 1) := dk_42 (dk_at dksX9_weightOf_0 23 rfl rfl)
theorem dX9_weightOf_24 : decode cX9_weightOf 24 = .ok (.getfield 93, 3) := dk_180 0 93 (dk_at dksX9_weightOf_1 0 rfl rfl)
theorem dX9_weightOf_27 : decode cX9_weightOf 27 = .ok (.iload 5, 2) := dk_21 5 (dk_at dksX9_weightOf_1 3 rfl rfl)
theorem dX9_weightOf_29 : decode cX9_weightOf 29 = .ok (.iaload, 1) := dk_46 (dk_at dksX9_weightOf_1 5 rfl rfl)
theorem dX9_weightOf_30 : decode cX9_weightOf 30 = .ok (.iload_n 1, 1) := dk_27 (dk_at dksX9_weightOf_1 6 rfl rfl)
theorem dX9_weightOf_31 : decode cX9_weightOf 31 = .ok (.if_icmp .ne 11, 3) := dk_160 0 11 (dk_at dksX9_weightOf_1 7 rfl rfl)
theorem dX9_weightOf_34 : decode cX9_weightOf 34 = .ok (.bipush 10, 2) := dk_16 10 (dk_at dksX9_weightOf_1 10 rfl rfl)
theorem dX9_weightOf_36 : decode cX9_weightOf 36 = .ok (.iload_n 2, 1) := dk_28 (dk_at dksX9_weightOf_1 12 rfl rfl)
theorem dX9_weightOf_37 : decode cX9_weightOf 37 = .ok (.isub, 1) := dk_100 (dk_at dksX9_weightOf_1 13 rfl rfl)
theorem dX9_weightOf_38 : decode cX9_weightOf 38 = .ok (.i2l, 1) := dk_133 (dk_at dksX9_weightOf_1 14 rfl rfl)
theorem dX9_weightOf_39 : decode cX9_weightOf 39 = .ok (.goto 6, 3) := dk_167 0 6 (dk_at dksX9_weightOf_1 15 rfl rfl)
theorem dX9_weightOf_42 : decode cX9_weightOf 42 = .ok (.ldc2_w 412, 3) := dk_20 1 156 (dk_at dksX9_weightOf_1 18 rfl rfl)
theorem dX9_weightOf_45 : decode cX9_weightOf 45 = .ok (.lmul, 1) := dk_105 (dk_at dksX9_weightOf_1 21 rfl rfl)
theorem dX9_weightOf_46 : decode cX9_weightOf 46 = .ok (.lstore_n 3, 1) := dk_66 (dk_at dksX9_weightOf_1 22 rfl rfl)
theorem dX9_weightOf_47 : decode cX9_weightOf 47 = .ok (.iinc 5 1, 3) := dk_132 5 1 (dk_at dksX9_weightOf_2 0 rfl rfl)
theorem dX9_weightOf_50 : decode cX9_weightOf 50 = .ok (.goto (-37), 3) := dk_167 255 219 (dk_at dksX9_weightOf_2 3 rfl rfl)
theorem dX9_weightOf_53 : decode cX9_weightOf 53 = .ok (.lload_n 3, 1) := dk_33 (dk_at dksX9_weightOf_2 6 rfl rfl)
theorem dX9_weightOf_54 : decode cX9_weightOf 54 = .ok (.lreturn, 1) := dk_173 (dk_at dksX9_weightOf_2 7 rfl rfl)
abbrev cX9_tellsFraction : ByteArray := prog_15_method_9_code
def yX9_tellsFraction : MethodName := ⟨RX9, "tellsFraction", "(JJ)V"⟩
def dkwX9_tellsFraction_1 : List UInt8 := [109, 182, 0, 122, 177]
abbrev dktX9_tellsFraction_1 : List UInt8 := dkwX9_tellsFraction_1 ++ []
def dkwX9_tellsFraction_0 : List UInt8 := [31, 33, 184, 0, 115, 55, 5, 42, 3, 181, 0, 119, 42, 31, 22, 5, 109, 182, 0, 122, 42, 33, 22, 5]
abbrev dktX9_tellsFraction_0 : List UInt8 := dkwX9_tellsFraction_0 ++ dktX9_tellsFraction_1
theorem dksX9_tellsFraction_0 : cX9_tellsFraction.data.toList.drop 0 = dktX9_tellsFraction_0 := by decide +kernel
theorem dksX9_tellsFraction_1 : cX9_tellsFraction.data.toList.drop 24 = dktX9_tellsFraction_1 := dk_seg dksX9_tellsFraction_0 24 rfl rfl
theorem dX9_tellsFraction_0 : decode cX9_tellsFraction 0 = .ok (.lload_n 1, 1) := dk_31 (dk_at dksX9_tellsFraction_0 0 rfl rfl)
theorem dX9_tellsFraction_1 : decode cX9_tellsFraction 1 = .ok (.lload_n 3, 1) := dk_33 (dk_at dksX9_tellsFraction_0 1 rfl rfl)
theorem dX9_tellsFraction_2 : decode cX9_tellsFraction 2 = .ok (.invokestatic 115, 3) := dk_184 0 115 (dk_at dksX9_tellsFraction_0 2 rfl rfl)
theorem dX9_tellsFraction_5 : decode cX9_tellsFraction 5 = .ok (.lstore 5, 2) := dk_55 5 (dk_at dksX9_tellsFraction_0 5 rfl rfl)
theorem dX9_tellsFraction_7 : decode cX9_tellsFraction 7 = .ok (.aload_n 0, 1) := dk_42 (dk_at dksX9_tellsFraction_0 7 rfl rfl)
theorem dX9_tellsFraction_8 : decode cX9_tellsFraction 8 = .ok (.iconst 0, 1) := dk_3 (dk_at dksX9_tellsFraction_0 8 rfl rfl)
theorem dX9_tellsFraction_9 : decode cX9_tellsFraction 9 = .ok (.putfield 119, 3) := dk_181 0 119 (dk_at dksX9_tellsFraction_0 9 rfl rfl)
theorem dX9_tellsFraction_12 : decode cX9_tellsFraction 12 = .ok (.aload_n 0, 1) := dk_42 (dk_at dksX9_tellsFraction_0 12 rfl rfl)
theorem dX9_tellsFraction_13 : decode cX9_tellsFraction 13 = .ok (.lload_n 1, 1) := dk_31 (dk_at dksX9_tellsFraction_0 13 rfl rfl)
theorem dX9_tellsFraction_14 : decode cX9_tellsFraction 14 = .ok (.lload 5, 2) := dk_22 5 (dk_at dksX9_tellsFraction_0 14 rfl rfl)
theorem dX9_tellsFraction_16 : decode cX9_tellsFraction 16 = .ok (.ldiv, 1) := dk_109 (dk_at dksX9_tellsFraction_0 16 rfl rfl)
theorem dX9_tellsFraction_17 : decode cX9_tellsFraction 17 = .ok (.invokevirtual 122, 3) := dk_182 0 122 (dk_at dksX9_tellsFraction_0 17 rfl rfl)
theorem dX9_tellsFraction_20 : decode cX9_tellsFraction 20 = .ok (.aload_n 0, 1) := dk_42 (dk_at dksX9_tellsFraction_0 20 rfl rfl)
theorem dX9_tellsFraction_21 : decode cX9_tellsFraction 21 = .ok (.lload_n 3, 1) := dk_33 (dk_at dksX9_tellsFraction_0 21 rfl rfl)
theorem dX9_tellsFraction_22 : decode cX9_tellsFraction 22 = .ok (.lload 5, 2) := dk_22 5 (dk_at dksX9_tellsFraction_0 22 rfl rfl)
theorem dX9_tellsFraction_24 : decode cX9_tellsFraction 24 = .ok (.ldiv, 1) := dk_109 (dk_at dksX9_tellsFraction_1 0 rfl rfl)
theorem dX9_tellsFraction_25 : decode cX9_tellsFraction 25 = .ok (.invokevirtual 122, 3) := dk_182 0 122 (dk_at dksX9_tellsFraction_1 1 rfl rfl)
theorem dX9_tellsFraction_28 : decode cX9_tellsFraction 28 = .ok (.return_, 1) := dk_177 (dk_at dksX9_tellsFraction_1 4 rfl rfl)
abbrev cX9_common : ByteArray := prog_15_method_7_code
def yX9_common : MethodName := ⟨RX9, "common", "(JJ)J"⟩
def dkwX9_common_0 : List UInt8 := [32, 9, 148, 154, 0, 7, 30, 167, 0, 10, 32, 30, 32, 113, 184, 0, 115, 173]
abbrev dktX9_common_0 : List UInt8 := dkwX9_common_0 ++ []
theorem dksX9_common_0 : cX9_common.data.toList.drop 0 = dktX9_common_0 := by decide +kernel
theorem dX9_common_0 : decode cX9_common 0 = .ok (.lload_n 2, 1) := dk_32 (dk_at dksX9_common_0 0 rfl rfl)
theorem dX9_common_1 : decode cX9_common 1 = .ok (.lconst 0, 1) := dk_9 (dk_at dksX9_common_0 1 rfl rfl)
theorem dX9_common_2 : decode cX9_common 2 = .ok (.lcmp, 1) := dk_148 (dk_at dksX9_common_0 2 rfl rfl)
theorem dX9_common_3 : decode cX9_common 3 = .ok (.ifCond .ne 7, 3) := dk_154 0 7 (dk_at dksX9_common_0 3 rfl rfl)
theorem dX9_common_6 : decode cX9_common 6 = .ok (.lload_n 0, 1) := dk_30 (dk_at dksX9_common_0 6 rfl rfl)
theorem dX9_common_7 : decode cX9_common 7 = .ok (.goto 10, 3) := dk_167 0 10 (dk_at dksX9_common_0 7 rfl rfl)
theorem dX9_common_10 : decode cX9_common 10 = .ok (.lload_n 2, 1) := dk_32 (dk_at dksX9_common_0 10 rfl rfl)
theorem dX9_common_11 : decode cX9_common 11 = .ok (.lload_n 0, 1) := dk_30 (dk_at dksX9_common_0 11 rfl rfl)
theorem dX9_common_12 : decode cX9_common 12 = .ok (.lload_n 2, 1) := dk_32 (dk_at dksX9_common_0 12 rfl rfl)
theorem dX9_common_13 : decode cX9_common 13 = .ok (.lrem, 1) := dk_113 (dk_at dksX9_common_0 13 rfl rfl)
theorem dX9_common_14 : decode cX9_common 14 = .ok (.invokestatic 115, 3) := dk_184 0 115 (dk_at dksX9_common_0 14 rfl rfl)
theorem dX9_common_17 : decode cX9_common 17 = .ok (.lreturn, 1) := dk_173 (dk_at dksX9_common_0 17 rfl rfl)
abbrev cX9_hunt : ByteArray := prog_15_method_97_code
def yX9_hunt : MethodName := ⟨RX9, "hunt", "(I)I"⟩
def dkwX9_hunt_4 : List UInt8 := [27, 182, 1, 158, 105, 20, 1, 156, 32, 105, 182, 1, 166, 21, 4, 172]
abbrev dktX9_hunt_4 : List UInt8 := dkwX9_hunt_4 ++ []
def dkwX9_hunt_3 : List UInt8 := [158, 0, 8, 21, 5, 167, 0, 5, 21, 4, 54, 4, 132, 5, 1, 167, 255, 213, 42, 27, 133, 42, 21, 4]
abbrev dktX9_hunt_3 : List UInt8 := dkwX9_hunt_3 ++ dktX9_hunt_4
def dkwX9_hunt_2 : List UInt8 := [162, 0, 40, 27, 158, 0, 36, 42, 21, 5, 27, 182, 1, 158, 42, 21, 4, 27, 182, 1, 158, 148]
abbrev dktX9_hunt_2 : List UInt8 := dkwX9_hunt_2 ++ dktX9_hunt_3
def dkwX9_hunt_1 : List UInt8 := [65, 32, 9, 148, 154, 0, 6, 16, 254, 172, 3, 54, 4, 4, 54, 5, 21, 5, 42, 180, 0, 133]
abbrev dktX9_hunt_1 : List UInt8 := dkwX9_hunt_1 ++ dktX9_hunt_2
def dkwX9_hunt_0 : List UInt8 := [42, 3, 181, 0, 112, 27, 133, 9, 20, 1, 156, 184, 0, 129, 154, 0, 5, 2, 172, 42, 27, 182, 1, 162]
abbrev dktX9_hunt_0 : List UInt8 := dkwX9_hunt_0 ++ dktX9_hunt_1
theorem dksX9_hunt_0 : cX9_hunt.data.toList.drop 0 = dktX9_hunt_0 := by decide +kernel
theorem dksX9_hunt_1 : cX9_hunt.data.toList.drop 24 = dktX9_hunt_1 := dk_seg dksX9_hunt_0 24 rfl rfl
theorem dksX9_hunt_2 : cX9_hunt.data.toList.drop 46 = dktX9_hunt_2 := dk_seg dksX9_hunt_1 22 rfl rfl
theorem dksX9_hunt_3 : cX9_hunt.data.toList.drop 68 = dktX9_hunt_3 := dk_seg dksX9_hunt_2 22 rfl rfl
theorem dksX9_hunt_4 : cX9_hunt.data.toList.drop 92 = dktX9_hunt_4 := dk_seg dksX9_hunt_3 24 rfl rfl
theorem dX9_hunt_0 : decode cX9_hunt 0 = .ok (.aload_n 0, 1) := dk_42 (dk_at dksX9_hunt_0 0 rfl rfl)
theorem dX9_hunt_1 : decode cX9_hunt 1 = .ok (.iconst 0, 1) := dk_3 (dk_at dksX9_hunt_0 1 rfl rfl)
theorem dX9_hunt_2 : decode cX9_hunt 2 = .ok (.putfield 112, 3) := dk_181 0 112 (dk_at dksX9_hunt_0 2 rfl rfl)
theorem dX9_hunt_5 : decode cX9_hunt 5 = .ok (.iload_n 1, 1) := dk_27 (dk_at dksX9_hunt_0 5 rfl rfl)
theorem dX9_hunt_6 : decode cX9_hunt 6 = .ok (.i2l, 1) := dk_133 (dk_at dksX9_hunt_0 6 rfl rfl)
theorem dX9_hunt_7 : decode cX9_hunt 7 = .ok (.lconst 0, 1) := dk_9 (dk_at dksX9_hunt_0 7 rfl rfl)
theorem dX9_hunt_8 : decode cX9_hunt 8 = .ok (.ldc2_w 412, 3) := dk_20 1 156 (dk_at dksX9_hunt_0 8 rfl rfl)
theorem dX9_hunt_11 : decode cX9_hunt 11 = .ok (.invokestatic 129, 3) := dk_184 0 129 (dk_at dksX9_hunt_0 11 rfl rfl)
theorem dX9_hunt_14 : decode cX9_hunt 14 = .ok (.ifCond .ne 5, 3) := dk_154 0 5 (dk_at dksX9_hunt_0 14 rfl rfl)
theorem dX9_hunt_17 : decode cX9_hunt 17 = .ok (.iconst (-1), 1) := dk_2 (dk_at dksX9_hunt_0 17 rfl rfl)
theorem dX9_hunt_18 : decode cX9_hunt 18 = .ok (.ireturn, 1) := dk_172 (dk_at dksX9_hunt_0 18 rfl rfl)
theorem dX9_hunt_19 : decode cX9_hunt 19 = .ok (.aload_n 0, 1) := dk_42 (dk_at dksX9_hunt_0 19 rfl rfl)
theorem dX9_hunt_20 : decode cX9_hunt 20 = .ok (.iload_n 1, 1) := dk_27 (dk_at dksX9_hunt_0 20 rfl rfl)
theorem dX9_hunt_21 : decode cX9_hunt 21 = .ok (.invokevirtual 418, 3) := dk_182 1 162 (dk_at dksX9_hunt_0 21 rfl rfl)
theorem dX9_hunt_24 : decode cX9_hunt 24 = .ok (.lstore_n 2, 1) := dk_65 (dk_at dksX9_hunt_1 0 rfl rfl)
theorem dX9_hunt_25 : decode cX9_hunt 25 = .ok (.lload_n 2, 1) := dk_32 (dk_at dksX9_hunt_1 1 rfl rfl)
theorem dX9_hunt_26 : decode cX9_hunt 26 = .ok (.lconst 0, 1) := dk_9 (dk_at dksX9_hunt_1 2 rfl rfl)
theorem dX9_hunt_27 : decode cX9_hunt 27 = .ok (.lcmp, 1) := dk_148 (dk_at dksX9_hunt_1 3 rfl rfl)
theorem dX9_hunt_28 : decode cX9_hunt 28 = .ok (.ifCond .ne 6, 3) := dk_154 0 6 (dk_at dksX9_hunt_1 4 rfl rfl)
theorem dX9_hunt_31 : decode cX9_hunt 31 = .ok (.bipush (-2), 2) := dk_16 254 (dk_at dksX9_hunt_1 7 rfl rfl)
theorem dX9_hunt_33 : decode cX9_hunt 33 = .ok (.ireturn, 1) := dk_172 (dk_at dksX9_hunt_1 9 rfl rfl)
theorem dX9_hunt_34 : decode cX9_hunt 34 = .ok (.iconst 0, 1) := dk_3 (dk_at dksX9_hunt_1 10 rfl rfl)
theorem dX9_hunt_35 : decode cX9_hunt 35 = .ok (.istore 4, 2) := dk_54 4 (dk_at dksX9_hunt_1 11 rfl rfl)
theorem dX9_hunt_37 : decode cX9_hunt 37 = .ok (.iconst 1, 1) := dk_4 (dk_at dksX9_hunt_1 13 rfl rfl)
theorem dX9_hunt_38 : decode cX9_hunt 38 = .ok (.istore 5, 2) := dk_54 5 (dk_at dksX9_hunt_1 14 rfl rfl)
theorem dX9_hunt_40 : decode cX9_hunt 40 = .ok (.iload 5, 2) := dk_21 5 (dk_at dksX9_hunt_1 16 rfl rfl)
theorem dX9_hunt_42 : decode cX9_hunt 42 = .ok (.aload_n 0, 1) := dk_42 (dk_at dksX9_hunt_1 18 rfl rfl)
theorem dX9_hunt_43 : decode cX9_hunt 43 = .ok (.getfield 133, 3) := dk_180 0 133 (dk_at dksX9_hunt_1 19 rfl rfl)
theorem dX9_hunt_46 : decode cX9_hunt 46 = .ok (.if_icmp .ge 40, 3) := dk_162 0 40 (dk_at dksX9_hunt_2 0 rfl rfl)
theorem dX9_hunt_49 : decode cX9_hunt 49 = .ok (.iload_n 1, 1) := dk_27 (dk_at dksX9_hunt_2 3 rfl rfl)
theorem dX9_hunt_50 : decode cX9_hunt 50 = .ok (.ifCond .le 36, 3) := dk_158 0 36 (dk_at dksX9_hunt_2 4 rfl rfl)
theorem dX9_hunt_53 : decode cX9_hunt 53 = .ok (.aload_n 0, 1) := dk_42 (dk_at dksX9_hunt_2 7 rfl rfl)
theorem dX9_hunt_54 : decode cX9_hunt 54 = .ok (.iload 5, 2) := dk_21 5 (dk_at dksX9_hunt_2 8 rfl rfl)
theorem dX9_hunt_56 : decode cX9_hunt 56 = .ok (.iload_n 1, 1) := dk_27 (dk_at dksX9_hunt_2 10 rfl rfl)
theorem dX9_hunt_57 : decode cX9_hunt 57 = .ok (.invokevirtual 414, 3) := dk_182 1 158 (dk_at dksX9_hunt_2 11 rfl rfl)
theorem dX9_hunt_60 : decode cX9_hunt 60 = .ok (.aload_n 0, 1) := dk_42 (dk_at dksX9_hunt_2 14 rfl rfl)
theorem dX9_hunt_61 : decode cX9_hunt 61 = .ok (.iload 4, 2) := dk_21 4 (dk_at dksX9_hunt_2 15 rfl rfl)
theorem dX9_hunt_63 : decode cX9_hunt 63 = .ok (.iload_n 1, 1) := dk_27 (dk_at dksX9_hunt_2 17 rfl rfl)
theorem dX9_hunt_64 : decode cX9_hunt 64 = .ok (.invokevirtual 414, 3) := dk_182 1 158 (dk_at dksX9_hunt_2 18 rfl rfl)
theorem dX9_hunt_67 : decode cX9_hunt 67 = .ok (.lcmp, 1) := dk_148 (dk_at dksX9_hunt_2 21 rfl rfl)
theorem dX9_hunt_68 : decode cX9_hunt 68 = .ok (.ifCond .le 8, 3) := dk_158 0 8 (dk_at dksX9_hunt_3 0 rfl rfl)
theorem dX9_hunt_71 : decode cX9_hunt 71 = .ok (.iload 5, 2) := dk_21 5 (dk_at dksX9_hunt_3 3 rfl rfl)
theorem dX9_hunt_73 : decode cX9_hunt 73 = .ok (.goto 5, 3) := dk_167 0 5 (dk_at dksX9_hunt_3 5 rfl rfl)
theorem dX9_hunt_76 : decode cX9_hunt 76 = .ok (.iload 4, 2) := dk_21 4 (dk_at dksX9_hunt_3 8 rfl rfl)
theorem dX9_hunt_78 : decode cX9_hunt 78 = .ok (.istore 4, 2) := dk_54 4 (dk_at dksX9_hunt_3 10 rfl rfl)
theorem dX9_hunt_80 : decode cX9_hunt 80 = .ok (.iinc 5 1, 3) := dk_132 5 1 (dk_at dksX9_hunt_3 12 rfl rfl)
theorem dX9_hunt_83 : decode cX9_hunt 83 = .ok (.goto (-43), 3) := dk_167 255 213 (dk_at dksX9_hunt_3 15 rfl rfl)
theorem dX9_hunt_86 : decode cX9_hunt 86 = .ok (.aload_n 0, 1) := dk_42 (dk_at dksX9_hunt_3 18 rfl rfl)
theorem dX9_hunt_87 : decode cX9_hunt 87 = .ok (.iload_n 1, 1) := dk_27 (dk_at dksX9_hunt_3 19 rfl rfl)
theorem dX9_hunt_88 : decode cX9_hunt 88 = .ok (.i2l, 1) := dk_133 (dk_at dksX9_hunt_3 20 rfl rfl)
theorem dX9_hunt_89 : decode cX9_hunt 89 = .ok (.aload_n 0, 1) := dk_42 (dk_at dksX9_hunt_3 21 rfl rfl)
theorem dX9_hunt_90 : decode cX9_hunt 90 = .ok (.iload 4, 2) := dk_21 4 (dk_at dksX9_hunt_3 22 rfl rfl)
theorem dX9_hunt_92 : decode cX9_hunt 92 = .ok (.iload_n 1, 1) := dk_27 (dk_at dksX9_hunt_4 0 rfl rfl)
theorem dX9_hunt_93 : decode cX9_hunt 93 = .ok (.invokevirtual 414, 3) := dk_182 1 158 (dk_at dksX9_hunt_4 1 rfl rfl)
theorem dX9_hunt_96 : decode cX9_hunt 96 = .ok (.lmul, 1) := dk_105 (dk_at dksX9_hunt_4 4 rfl rfl)
theorem dX9_hunt_97 : decode cX9_hunt 97 = .ok (.ldc2_w 412, 3) := dk_20 1 156 (dk_at dksX9_hunt_4 5 rfl rfl)
theorem dX9_hunt_100 : decode cX9_hunt 100 = .ok (.lload_n 2, 1) := dk_32 (dk_at dksX9_hunt_4 8 rfl rfl)
theorem dX9_hunt_101 : decode cX9_hunt 101 = .ok (.lmul, 1) := dk_105 (dk_at dksX9_hunt_4 9 rfl rfl)
theorem dX9_hunt_102 : decode cX9_hunt 102 = .ok (.invokevirtual 422, 3) := dk_182 1 166 (dk_at dksX9_hunt_4 10 rfl rfl)
theorem dX9_hunt_105 : decode cX9_hunt 105 = .ok (.iload 4, 2) := dk_21 4 (dk_at dksX9_hunt_4 13 rfl rfl)
theorem dX9_hunt_107 : decode cX9_hunt 107 = .ok (.ireturn, 1) := dk_172 (dk_at dksX9_hunt_4 15 rfl rfl)
abbrev cX9_heard : ByteArray := prog_15_method_98_code
def yX9_heard : MethodName := ⟨RX9, "heard", "(II)I"⟩
def dkwX9_heard_4 : List UInt8 := [172]
abbrev dktX9_heard_4 : List UInt8 := dkwX9_heard_4 ++ []
def dkwX9_heard_3 : List UInt8 := [42, 180, 0, 99, 42, 180, 1, 170, 28, 79, 42, 89, 180, 1, 170, 4, 96, 181, 1, 170, 42, 180, 1, 170]
abbrev dktX9_heard_3 : List UInt8 := dkwX9_heard_3 ++ dktX9_heard_4
def dkwX9_heard_2 : List UInt8 := [153, 0, 12, 42, 180, 1, 170, 16, 12, 160, 0, 5, 2, 172, 42, 180, 0, 96, 42, 180, 1, 170, 27, 79]
abbrev dktX9_heard_2 : List UInt8 := dkwX9_heard_2 ++ dktX9_heard_3
def dkwX9_heard_1 : List UInt8 := [16, 9, 62, 27, 133, 9, 20, 1, 33, 184, 0, 129, 153, 0, 23, 28, 133, 9, 29, 133, 184, 0, 129]
abbrev dktX9_heard_1 : List UInt8 := dkwX9_heard_1 ++ dktX9_heard_2
def dkwX9_heard_0 : List UInt8 := [42, 3, 181, 0, 112, 27, 154, 0, 7, 7, 167, 0, 15, 27, 6, 160, 0, 8, 16, 99, 167, 0, 5]
abbrev dktX9_heard_0 : List UInt8 := dkwX9_heard_0 ++ dktX9_heard_1
theorem dksX9_heard_0 : cX9_heard.data.toList.drop 0 = dktX9_heard_0 := by decide +kernel
theorem dksX9_heard_1 : cX9_heard.data.toList.drop 23 = dktX9_heard_1 := dk_seg dksX9_heard_0 23 rfl rfl
theorem dksX9_heard_2 : cX9_heard.data.toList.drop 46 = dktX9_heard_2 := dk_seg dksX9_heard_1 23 rfl rfl
theorem dksX9_heard_3 : cX9_heard.data.toList.drop 70 = dktX9_heard_3 := dk_seg dksX9_heard_2 24 rfl rfl
theorem dksX9_heard_4 : cX9_heard.data.toList.drop 94 = dktX9_heard_4 := dk_seg dksX9_heard_3 24 rfl rfl
theorem dX9_heard_0 : decode cX9_heard 0 = .ok (.aload_n 0, 1) := dk_42 (dk_at dksX9_heard_0 0 rfl rfl)
theorem dX9_heard_1 : decode cX9_heard 1 = .ok (.iconst 0, 1) := dk_3 (dk_at dksX9_heard_0 1 rfl rfl)
theorem dX9_heard_2 : decode cX9_heard 2 = .ok (.putfield 112, 3) := dk_181 0 112 (dk_at dksX9_heard_0 2 rfl rfl)
theorem dX9_heard_5 : decode cX9_heard 5 = .ok (.iload_n 1, 1) := dk_27 (dk_at dksX9_heard_0 5 rfl rfl)
theorem dX9_heard_6 : decode cX9_heard 6 = .ok (.ifCond .ne 7, 3) := dk_154 0 7 (dk_at dksX9_heard_0 6 rfl rfl)
theorem dX9_heard_9 : decode cX9_heard 9 = .ok (.iconst 4, 1) := dk_7 (dk_at dksX9_heard_0 9 rfl rfl)
theorem dX9_heard_10 : decode cX9_heard 10 = .ok (.goto 15, 3) := dk_167 0 15 (dk_at dksX9_heard_0 10 rfl rfl)
theorem dX9_heard_13 : decode cX9_heard 13 = .ok (.iload_n 1, 1) := dk_27 (dk_at dksX9_heard_0 13 rfl rfl)
theorem dX9_heard_14 : decode cX9_heard 14 = .ok (.iconst 3, 1) := dk_6 (dk_at dksX9_heard_0 14 rfl rfl)
theorem dX9_heard_15 : decode cX9_heard 15 = .ok (.if_icmp .ne 8, 3) := dk_160 0 8 (dk_at dksX9_heard_0 15 rfl rfl)
theorem dX9_heard_18 : decode cX9_heard 18 = .ok (.bipush 99, 2) := dk_16 99 (dk_at dksX9_heard_0 18 rfl rfl)
theorem dX9_heard_20 : decode cX9_heard 20 = .ok (.goto 5, 3) := dk_167 0 5 (dk_at dksX9_heard_0 20 rfl rfl)
theorem dX9_heard_23 : decode cX9_heard 23 = .ok (.bipush 9, 2) := dk_16 9 (dk_at dksX9_heard_1 0 rfl rfl)
theorem dX9_heard_25 : decode cX9_heard 25 = .ok (.istore_n 3, 1) := dk_62 (dk_at dksX9_heard_1 2 rfl rfl)
theorem dX9_heard_26 : decode cX9_heard 26 = .ok (.iload_n 1, 1) := dk_27 (dk_at dksX9_heard_1 3 rfl rfl)
theorem dX9_heard_27 : decode cX9_heard 27 = .ok (.i2l, 1) := dk_133 (dk_at dksX9_heard_1 4 rfl rfl)
theorem dX9_heard_28 : decode cX9_heard 28 = .ok (.lconst 0, 1) := dk_9 (dk_at dksX9_heard_1 5 rfl rfl)
theorem dX9_heard_29 : decode cX9_heard 29 = .ok (.ldc2_w 289, 3) := dk_20 1 33 (dk_at dksX9_heard_1 6 rfl rfl)
theorem dX9_heard_32 : decode cX9_heard 32 = .ok (.invokestatic 129, 3) := dk_184 0 129 (dk_at dksX9_heard_1 9 rfl rfl)
theorem dX9_heard_35 : decode cX9_heard 35 = .ok (.ifCond .eq 23, 3) := dk_153 0 23 (dk_at dksX9_heard_1 12 rfl rfl)
theorem dX9_heard_38 : decode cX9_heard 38 = .ok (.iload_n 2, 1) := dk_28 (dk_at dksX9_heard_1 15 rfl rfl)
theorem dX9_heard_39 : decode cX9_heard 39 = .ok (.i2l, 1) := dk_133 (dk_at dksX9_heard_1 16 rfl rfl)
theorem dX9_heard_40 : decode cX9_heard 40 = .ok (.lconst 0, 1) := dk_9 (dk_at dksX9_heard_1 17 rfl rfl)
theorem dX9_heard_41 : decode cX9_heard 41 = .ok (.iload_n 3, 1) := dk_29 (dk_at dksX9_heard_1 18 rfl rfl)
theorem dX9_heard_42 : decode cX9_heard 42 = .ok (.i2l, 1) := dk_133 (dk_at dksX9_heard_1 19 rfl rfl)
theorem dX9_heard_43 : decode cX9_heard 43 = .ok (.invokestatic 129, 3) := dk_184 0 129 (dk_at dksX9_heard_1 20 rfl rfl)
theorem dX9_heard_46 : decode cX9_heard 46 = .ok (.ifCond .eq 12, 3) := dk_153 0 12 (dk_at dksX9_heard_2 0 rfl rfl)
theorem dX9_heard_49 : decode cX9_heard 49 = .ok (.aload_n 0, 1) := dk_42 (dk_at dksX9_heard_2 3 rfl rfl)
theorem dX9_heard_50 : decode cX9_heard 50 = .ok (.getfield 426, 3) := dk_180 1 170 (dk_at dksX9_heard_2 4 rfl rfl)
theorem dX9_heard_53 : decode cX9_heard 53 = .ok (.bipush 12, 2) := dk_16 12 (dk_at dksX9_heard_2 7 rfl rfl)
theorem dX9_heard_55 : decode cX9_heard 55 = .ok (.if_icmp .ne 5, 3) := dk_160 0 5 (dk_at dksX9_heard_2 9 rfl rfl)
theorem dX9_heard_58 : decode cX9_heard 58 = .ok (.iconst (-1), 1) := dk_2 (dk_at dksX9_heard_2 12 rfl rfl)
theorem dX9_heard_59 : decode cX9_heard 59 = .ok (.ireturn, 1) := dk_172 (dk_at dksX9_heard_2 13 rfl rfl)
theorem dX9_heard_60 : decode cX9_heard 60 = .ok (.aload_n 0, 1) := dk_42 (dk_at dksX9_heard_2 14 rfl rfl)
theorem dX9_heard_61 : decode cX9_heard 61 = .ok (.getfield 96, 3) := dk_180 0 96 (dk_at dksX9_heard_2 15 rfl rfl)
theorem dX9_heard_64 : decode cX9_heard 64 = .ok (.aload_n 0, 1) := dk_42 (dk_at dksX9_heard_2 18 rfl rfl)
theorem dX9_heard_65 : decode cX9_heard 65 = .ok (.getfield 426, 3) := dk_180 1 170 (dk_at dksX9_heard_2 19 rfl rfl)
theorem dX9_heard_68 : decode cX9_heard 68 = .ok (.iload_n 1, 1) := dk_27 (dk_at dksX9_heard_2 22 rfl rfl)
theorem dX9_heard_69 : decode cX9_heard 69 = .ok (.iastore, 1) := dk_79 (dk_at dksX9_heard_2 23 rfl rfl)
theorem dX9_heard_70 : decode cX9_heard 70 = .ok (.aload_n 0, 1) := dk_42 (dk_at dksX9_heard_3 0 rfl rfl)
theorem dX9_heard_71 : decode cX9_heard 71 = .ok (.getfield 99, 3) := dk_180 0 99 (dk_at dksX9_heard_3 1 rfl rfl)
theorem dX9_heard_74 : decode cX9_heard 74 = .ok (.aload_n 0, 1) := dk_42 (dk_at dksX9_heard_3 4 rfl rfl)
theorem dX9_heard_75 : decode cX9_heard 75 = .ok (.getfield 426, 3) := dk_180 1 170 (dk_at dksX9_heard_3 5 rfl rfl)
theorem dX9_heard_78 : decode cX9_heard 78 = .ok (.iload_n 2, 1) := dk_28 (dk_at dksX9_heard_3 8 rfl rfl)
theorem dX9_heard_79 : decode cX9_heard 79 = .ok (.iastore, 1) := dk_79 (dk_at dksX9_heard_3 9 rfl rfl)
theorem dX9_heard_80 : decode cX9_heard 80 = .ok (.aload_n 0, 1) := dk_42 (dk_at dksX9_heard_3 10 rfl rfl)
theorem dX9_heard_81 : decode cX9_heard 81 = .ok (.dup, 1) := dk_89 (dk_at dksX9_heard_3 11 rfl rfl)
theorem dX9_heard_82 : decode cX9_heard 82 = .ok (.getfield 426, 3) := dk_180 1 170 (dk_at dksX9_heard_3 12 rfl rfl)
theorem dX9_heard_85 : decode cX9_heard 85 = .ok (.iconst 1, 1) := dk_4 (dk_at dksX9_heard_3 15 rfl rfl)
theorem dX9_heard_86 : decode cX9_heard 86 = .ok (.iadd, 1) := dk_96 (dk_at dksX9_heard_3 16 rfl rfl)
theorem dX9_heard_87 : decode cX9_heard 87 = .ok (.putfield 426, 3) := dk_181 1 170 (dk_at dksX9_heard_3 17 rfl rfl)
theorem dX9_heard_90 : decode cX9_heard 90 = .ok (.aload_n 0, 1) := dk_42 (dk_at dksX9_heard_3 20 rfl rfl)
theorem dX9_heard_91 : decode cX9_heard 91 = .ok (.getfield 426, 3) := dk_180 1 170 (dk_at dksX9_heard_3 21 rfl rfl)
theorem dX9_heard_94 : decode cX9_heard 94 = .ok (.ireturn, 1) := dk_172 (dk_at dksX9_heard_4 0 rfl rfl)
abbrev cX9_pardon : ByteArray := prog_15_method_99_code
def yX9_pardon : MethodName := ⟨RX9, "pardon", "()I"⟩
def dkwX9_pardon_0 : List UInt8 := [42, 3, 181, 0, 112, 42, 180, 1, 170, 60, 42, 3, 181, 1, 170, 27, 172]
abbrev dktX9_pardon_0 : List UInt8 := dkwX9_pardon_0 ++ []
theorem dksX9_pardon_0 : cX9_pardon.data.toList.drop 0 = dktX9_pardon_0 := by decide +kernel
theorem dX9_pardon_0 : decode cX9_pardon 0 = .ok (.aload_n 0, 1) := dk_42 (dk_at dksX9_pardon_0 0 rfl rfl)
theorem dX9_pardon_1 : decode cX9_pardon 1 = .ok (.iconst 0, 1) := dk_3 (dk_at dksX9_pardon_0 1 rfl rfl)
theorem dX9_pardon_2 : decode cX9_pardon 2 = .ok (.putfield 112, 3) := dk_181 0 112 (dk_at dksX9_pardon_0 2 rfl rfl)
theorem dX9_pardon_5 : decode cX9_pardon 5 = .ok (.aload_n 0, 1) := dk_42 (dk_at dksX9_pardon_0 5 rfl rfl)
theorem dX9_pardon_6 : decode cX9_pardon 6 = .ok (.getfield 426, 3) := dk_180 1 170 (dk_at dksX9_pardon_0 6 rfl rfl)
theorem dX9_pardon_9 : decode cX9_pardon 9 = .ok (.istore_n 1, 1) := dk_60 (dk_at dksX9_pardon_0 9 rfl rfl)
theorem dX9_pardon_10 : decode cX9_pardon 10 = .ok (.aload_n 0, 1) := dk_42 (dk_at dksX9_pardon_0 10 rfl rfl)
theorem dX9_pardon_11 : decode cX9_pardon 11 = .ok (.iconst 0, 1) := dk_3 (dk_at dksX9_pardon_0 11 rfl rfl)
theorem dX9_pardon_12 : decode cX9_pardon 12 = .ok (.putfield 426, 3) := dk_181 1 170 (dk_at dksX9_pardon_0 12 rfl rfl)
theorem dX9_pardon_15 : decode cX9_pardon 15 = .ok (.iload_n 1, 1) := dk_27 (dk_at dksX9_pardon_0 15 rfl rfl)
theorem dX9_pardon_16 : decode cX9_pardon 16 = .ok (.ireturn, 1) := dk_172 (dk_at dksX9_pardon_0 16 rfl rfl)
abbrev cX9_fits : ByteArray := prog_15_method_102_code
def yX9_fits : MethodName := ⟨RX9, "fits", "()I"⟩
def dkwX9_fits_1 : List UInt8 := [27, 172]
abbrev dktX9_fits_1 : List UInt8 := dkwX9_fits_1 ++ []
def dkwX9_fits_0 : List UInt8 := [42, 3, 181, 0, 112, 42, 182, 1, 177, 60, 42, 3, 181, 0, 119, 42, 27, 184, 1, 5, 133, 182, 0, 122]
abbrev dktX9_fits_0 : List UInt8 := dkwX9_fits_0 ++ dktX9_fits_1
theorem dksX9_fits_0 : cX9_fits.data.toList.drop 0 = dktX9_fits_0 := by decide +kernel
theorem dksX9_fits_1 : cX9_fits.data.toList.drop 24 = dktX9_fits_1 := dk_seg dksX9_fits_0 24 rfl rfl
theorem dX9_fits_0 : decode cX9_fits 0 = .ok (.aload_n 0, 1) := dk_42 (dk_at dksX9_fits_0 0 rfl rfl)
theorem dX9_fits_1 : decode cX9_fits 1 = .ok (.iconst 0, 1) := dk_3 (dk_at dksX9_fits_0 1 rfl rfl)
theorem dX9_fits_2 : decode cX9_fits 2 = .ok (.putfield 112, 3) := dk_181 0 112 (dk_at dksX9_fits_0 2 rfl rfl)
theorem dX9_fits_5 : decode cX9_fits 5 = .ok (.aload_n 0, 1) := dk_42 (dk_at dksX9_fits_0 5 rfl rfl)
theorem dX9_fits_6 : decode cX9_fits 6 = .ok (.invokevirtual 433, 3) := dk_182 1 177 (dk_at dksX9_fits_0 6 rfl rfl)
theorem dX9_fits_9 : decode cX9_fits 9 = .ok (.istore_n 1, 1) := dk_60 (dk_at dksX9_fits_0 9 rfl rfl)
theorem dX9_fits_10 : decode cX9_fits 10 = .ok (.aload_n 0, 1) := dk_42 (dk_at dksX9_fits_0 10 rfl rfl)
theorem dX9_fits_11 : decode cX9_fits 11 = .ok (.iconst 0, 1) := dk_3 (dk_at dksX9_fits_0 11 rfl rfl)
theorem dX9_fits_12 : decode cX9_fits 12 = .ok (.putfield 119, 3) := dk_181 0 119 (dk_at dksX9_fits_0 12 rfl rfl)
theorem dX9_fits_15 : decode cX9_fits 15 = .ok (.aload_n 0, 1) := dk_42 (dk_at dksX9_fits_0 15 rfl rfl)
theorem dX9_fits_16 : decode cX9_fits 16 = .ok (.iload_n 1, 1) := dk_27 (dk_at dksX9_fits_0 16 rfl rfl)
theorem dX9_fits_17 : decode cX9_fits 17 = .ok (.invokestatic 261, 3) := dk_184 1 5 (dk_at dksX9_fits_0 17 rfl rfl)
theorem dX9_fits_20 : decode cX9_fits 20 = .ok (.i2l, 1) := dk_133 (dk_at dksX9_fits_0 20 rfl rfl)
theorem dX9_fits_21 : decode cX9_fits 21 = .ok (.invokevirtual 122, 3) := dk_182 0 122 (dk_at dksX9_fits_0 21 rfl rfl)
theorem dX9_fits_24 : decode cX9_fits 24 = .ok (.iload_n 1, 1) := dk_27 (dk_at dksX9_fits_1 0 rfl rfl)
theorem dX9_fits_25 : decode cX9_fits 25 = .ok (.ireturn, 1) := dk_172 (dk_at dksX9_fits_1 1 rfl rfl)
abbrev cX9_fitting : ByteArray := prog_15_method_101_code
def yX9_fitting : MethodName := ⟨RX9, "fitting", "()I"⟩
def dkwX9_fitting_3 : List UInt8 := [28, 120, 167, 0, 4, 3, 128, 60, 132, 2, 1, 167, 255, 179, 27, 172]
abbrev dktX9_fitting_3 : List UInt8 := dkwX9_fitting_3 ++ []
def dkwX9_fitting_2 : List UInt8 := [182, 1, 173, 153, 0, 7, 4, 167, 0, 4, 3, 62, 132, 4, 1, 167, 255, 212, 27, 29, 153, 0, 9, 4]
abbrev dktX9_fitting_2 : List UInt8 := dkwX9_fitting_2 ++ dktX9_fitting_3
def dkwX9_fitting_1 : List UInt8 := [162, 0, 41, 29, 153, 0, 29, 42, 28, 42, 180, 0, 96, 21, 4, 46, 42, 180, 0, 99, 21, 4, 46]
abbrev dktX9_fitting_1 : List UInt8 := dkwX9_fitting_1 ++ dktX9_fitting_2
def dkwX9_fitting_0 : List UInt8 := [3, 60, 3, 61, 28, 42, 180, 0, 126, 162, 0, 75, 4, 62, 3, 54, 4, 21, 4, 42, 180, 1, 170]
abbrev dktX9_fitting_0 : List UInt8 := dkwX9_fitting_0 ++ dktX9_fitting_1
theorem dksX9_fitting_0 : cX9_fitting.data.toList.drop 0 = dktX9_fitting_0 := by decide +kernel
theorem dksX9_fitting_1 : cX9_fitting.data.toList.drop 23 = dktX9_fitting_1 := dk_seg dksX9_fitting_0 23 rfl rfl
theorem dksX9_fitting_2 : cX9_fitting.data.toList.drop 46 = dktX9_fitting_2 := dk_seg dksX9_fitting_1 23 rfl rfl
theorem dksX9_fitting_3 : cX9_fitting.data.toList.drop 70 = dktX9_fitting_3 := dk_seg dksX9_fitting_2 24 rfl rfl
theorem dX9_fitting_0 : decode cX9_fitting 0 = .ok (.iconst 0, 1) := dk_3 (dk_at dksX9_fitting_0 0 rfl rfl)
theorem dX9_fitting_1 : decode cX9_fitting 1 = .ok (.istore_n 1, 1) := dk_60 (dk_at dksX9_fitting_0 1 rfl rfl)
theorem dX9_fitting_2 : decode cX9_fitting 2 = .ok (.iconst 0, 1) := dk_3 (dk_at dksX9_fitting_0 2 rfl rfl)
theorem dX9_fitting_3 : decode cX9_fitting 3 = .ok (.istore_n 2, 1) := dk_61 (dk_at dksX9_fitting_0 3 rfl rfl)
theorem dX9_fitting_4 : decode cX9_fitting 4 = .ok (.iload_n 2, 1) := dk_28 (dk_at dksX9_fitting_0 4 rfl rfl)
theorem dX9_fitting_5 : decode cX9_fitting 5 = .ok (.aload_n 0, 1) := dk_42 (dk_at dksX9_fitting_0 5 rfl rfl)
theorem dX9_fitting_6 : decode cX9_fitting 6 = .ok (.getfield 126, 3) := dk_180 0 126 (dk_at dksX9_fitting_0 6 rfl rfl)
theorem dX9_fitting_9 : decode cX9_fitting 9 = .ok (.if_icmp .ge 75, 3) := dk_162 0 75 (dk_at dksX9_fitting_0 9 rfl rfl)
theorem dX9_fitting_12 : decode cX9_fitting 12 = .ok (.iconst 1, 1) := dk_4 (dk_at dksX9_fitting_0 12 rfl rfl)
theorem dX9_fitting_13 : decode cX9_fitting 13 = .ok (.istore_n 3, 1) := dk_62 (dk_at dksX9_fitting_0 13 rfl rfl)
theorem dX9_fitting_14 : decode cX9_fitting 14 = .ok (.iconst 0, 1) := dk_3 (dk_at dksX9_fitting_0 14 rfl rfl)
theorem dX9_fitting_15 : decode cX9_fitting 15 = .ok (.istore 4, 2) := dk_54 4 (dk_at dksX9_fitting_0 15 rfl rfl)
theorem dX9_fitting_17 : decode cX9_fitting 17 = .ok (.iload 4, 2) := dk_21 4 (dk_at dksX9_fitting_0 17 rfl rfl)
theorem dX9_fitting_19 : decode cX9_fitting 19 = .ok (.aload_n 0, 1) := dk_42 (dk_at dksX9_fitting_0 19 rfl rfl)
theorem dX9_fitting_20 : decode cX9_fitting 20 = .ok (.getfield 426, 3) := dk_180 1 170 (dk_at dksX9_fitting_0 20 rfl rfl)
theorem dX9_fitting_23 : decode cX9_fitting 23 = .ok (.if_icmp .ge 41, 3) := dk_162 0 41 (dk_at dksX9_fitting_1 0 rfl rfl)
theorem dX9_fitting_26 : decode cX9_fitting 26 = .ok (.iload_n 3, 1) := dk_29 (dk_at dksX9_fitting_1 3 rfl rfl)
theorem dX9_fitting_27 : decode cX9_fitting 27 = .ok (.ifCond .eq 29, 3) := dk_153 0 29 (dk_at dksX9_fitting_1 4 rfl rfl)
theorem dX9_fitting_30 : decode cX9_fitting 30 = .ok (.aload_n 0, 1) := dk_42 (dk_at dksX9_fitting_1 7 rfl rfl)
theorem dX9_fitting_31 : decode cX9_fitting 31 = .ok (.iload_n 2, 1) := dk_28 (dk_at dksX9_fitting_1 8 rfl rfl)
theorem dX9_fitting_32 : decode cX9_fitting 32 = .ok (.aload_n 0, 1) := dk_42 (dk_at dksX9_fitting_1 9 rfl rfl)
theorem dX9_fitting_33 : decode cX9_fitting 33 = .ok (.getfield 96, 3) := dk_180 0 96 (dk_at dksX9_fitting_1 10 rfl rfl)
theorem dX9_fitting_36 : decode cX9_fitting 36 = .ok (.iload 4, 2) := dk_21 4 (dk_at dksX9_fitting_1 13 rfl rfl)
theorem dX9_fitting_38 : decode cX9_fitting 38 = .ok (.iaload, 1) := dk_46 (dk_at dksX9_fitting_1 15 rfl rfl)
theorem dX9_fitting_39 : decode cX9_fitting 39 = .ok (.aload_n 0, 1) := dk_42 (dk_at dksX9_fitting_1 16 rfl rfl)
theorem dX9_fitting_40 : decode cX9_fitting 40 = .ok (.getfield 99, 3) := dk_180 0 99 (dk_at dksX9_fitting_1 17 rfl rfl)
theorem dX9_fitting_43 : decode cX9_fitting 43 = .ok (.iload 4, 2) := dk_21 4 (dk_at dksX9_fitting_1 20 rfl rfl)
theorem dX9_fitting_45 : decode cX9_fitting 45 = .ok (.iaload, 1) := dk_46 (dk_at dksX9_fitting_1 22 rfl rfl)
theorem dX9_fitting_46 : decode cX9_fitting 46 = .ok (.invokevirtual 429, 3) := dk_182 1 173 (dk_at dksX9_fitting_2 0 rfl rfl)
theorem dX9_fitting_49 : decode cX9_fitting 49 = .ok (.ifCond .eq 7, 3) := dk_153 0 7 (dk_at dksX9_fitting_2 3 rfl rfl)
theorem dX9_fitting_52 : decode cX9_fitting 52 = .ok (.iconst 1, 1) := dk_4 (dk_at dksX9_fitting_2 6 rfl rfl)
theorem dX9_fitting_53 : decode cX9_fitting 53 = .ok (.goto 4, 3) := dk_167 0 4 (dk_at dksX9_fitting_2 7 rfl rfl)
theorem dX9_fitting_56 : decode cX9_fitting 56 = .ok (.iconst 0, 1) := dk_3 (dk_at dksX9_fitting_2 10 rfl rfl)
theorem dX9_fitting_57 : decode cX9_fitting 57 = .ok (.istore_n 3, 1) := dk_62 (dk_at dksX9_fitting_2 11 rfl rfl)
theorem dX9_fitting_58 : decode cX9_fitting 58 = .ok (.iinc 4 1, 3) := dk_132 4 1 (dk_at dksX9_fitting_2 12 rfl rfl)
theorem dX9_fitting_61 : decode cX9_fitting 61 = .ok (.goto (-44), 3) := dk_167 255 212 (dk_at dksX9_fitting_2 15 rfl rfl)
theorem dX9_fitting_64 : decode cX9_fitting 64 = .ok (.iload_n 1, 1) := dk_27 (dk_at dksX9_fitting_2 18 rfl rfl)
theorem dX9_fitting_65 : decode cX9_fitting 65 = .ok (.iload_n 3, 1) := dk_29 (dk_at dksX9_fitting_2 19 rfl rfl)
theorem dX9_fitting_66 : decode cX9_fitting 66 = .ok (.ifCond .eq 9, 3) := dk_153 0 9 (dk_at dksX9_fitting_2 20 rfl rfl)
theorem dX9_fitting_69 : decode cX9_fitting 69 = .ok (.iconst 1, 1) := dk_4 (dk_at dksX9_fitting_2 23 rfl rfl)
theorem dX9_fitting_70 : decode cX9_fitting 70 = .ok (.iload_n 2, 1) := dk_28 (dk_at dksX9_fitting_3 0 rfl rfl)
theorem dX9_fitting_71 : decode cX9_fitting 71 = .ok (.ishl, 1) := dk_120 (dk_at dksX9_fitting_3 1 rfl rfl)
theorem dX9_fitting_72 : decode cX9_fitting 72 = .ok (.goto 4, 3) := dk_167 0 4 (dk_at dksX9_fitting_3 2 rfl rfl)
theorem dX9_fitting_75 : decode cX9_fitting 75 = .ok (.iconst 0, 1) := dk_3 (dk_at dksX9_fitting_3 5 rfl rfl)
theorem dX9_fitting_76 : decode cX9_fitting 76 = .ok (.ior, 1) := dk_128 (dk_at dksX9_fitting_3 6 rfl rfl)
theorem dX9_fitting_77 : decode cX9_fitting 77 = .ok (.istore_n 1, 1) := dk_60 (dk_at dksX9_fitting_3 7 rfl rfl)
theorem dX9_fitting_78 : decode cX9_fitting 78 = .ok (.iinc 2 1, 3) := dk_132 2 1 (dk_at dksX9_fitting_3 8 rfl rfl)
theorem dX9_fitting_81 : decode cX9_fitting 81 = .ok (.goto (-77), 3) := dk_167 255 179 (dk_at dksX9_fitting_3 11 rfl rfl)
theorem dX9_fitting_84 : decode cX9_fitting 84 = .ok (.iload_n 1, 1) := dk_27 (dk_at dksX9_fitting_3 14 rfl rfl)
theorem dX9_fitting_85 : decode cX9_fitting 85 = .ok (.ireturn, 1) := dk_172 (dk_at dksX9_fitting_3 15 rfl rfl)
abbrev cX9_isSo : ByteArray := prog_15_method_100_code
def yX9_isSo : MethodName := ⟨RX9, "isSo", "(III)Z"⟩
def dkwX9_isSo_4 : List UInt8 := [172, 42, 180, 0, 39, 27, 46, 29, 161, 0, 7, 4, 167, 0, 4, 3, 172]
abbrev dktX9_isSo_4 : List UInt8 := dkwX9_isSo_4 ++ []
def dkwX9_isSo_3 : List UInt8 := [161, 0, 7, 4, 167, 0, 4, 3, 172, 42, 180, 0, 24, 27, 46, 29, 163, 0, 7, 4, 167, 0, 4, 3]
abbrev dktX9_isSo_3 : List UInt8 := dkwX9_isSo_3 ++ dktX9_isSo_4
def dkwX9_isSo_2 : List UInt8 := [42, 180, 0, 27, 27, 46, 29, 160, 0, 7, 4, 167, 0, 4, 3, 172, 42, 180, 0, 21, 27, 46, 29]
abbrev dktX9_isSo_2 : List UInt8 := dkwX9_isSo_2 ++ dktX9_isSo_3
def dkwX9_isSo_1 : List UInt8 := [170, 0, 0, 0, 0, 0, 75, 0, 0, 0, 0, 0, 0, 0, 2, 0, 0, 0, 27, 0, 0, 0, 43, 0, 0, 0, 59]
abbrev dktX9_isSo_1 : List UInt8 := dkwX9_isSo_1 ++ dktX9_isSo_2
def dkwX9_isSo_0 : List UInt8 := [28]
abbrev dktX9_isSo_0 : List UInt8 := dkwX9_isSo_0 ++ dktX9_isSo_1
theorem dksX9_isSo_0 : cX9_isSo.data.toList.drop 0 = dktX9_isSo_0 := by decide +kernel
theorem dksX9_isSo_1 : cX9_isSo.data.toList.drop 1 = dktX9_isSo_1 := dk_seg dksX9_isSo_0 1 rfl rfl
theorem dksX9_isSo_2 : cX9_isSo.data.toList.drop 28 = dktX9_isSo_2 := dk_seg dksX9_isSo_1 27 rfl rfl
theorem dksX9_isSo_3 : cX9_isSo.data.toList.drop 51 = dktX9_isSo_3 := dk_seg dksX9_isSo_2 23 rfl rfl
theorem dksX9_isSo_4 : cX9_isSo.data.toList.drop 75 = dktX9_isSo_4 := dk_seg dksX9_isSo_3 24 rfl rfl
theorem dX9_isSo_0 : decode cX9_isSo 0 = .ok (.iload_n 2, 1) := dk_28 (dk_at dksX9_isSo_0 0 rfl rfl)
theorem dX9_isSo_1 : decode cX9_isSo 1 = .ok (.tableswitch 75 0 2 #[27, 43, 59], 27) := by decide +kernel
theorem dX9_isSo_28 : decode cX9_isSo 28 = .ok (.aload_n 0, 1) := dk_42 (dk_at dksX9_isSo_2 0 rfl rfl)
theorem dX9_isSo_29 : decode cX9_isSo 29 = .ok (.getfield 27, 3) := dk_180 0 27 (dk_at dksX9_isSo_2 1 rfl rfl)
theorem dX9_isSo_32 : decode cX9_isSo 32 = .ok (.iload_n 1, 1) := dk_27 (dk_at dksX9_isSo_2 4 rfl rfl)
theorem dX9_isSo_33 : decode cX9_isSo 33 = .ok (.iaload, 1) := dk_46 (dk_at dksX9_isSo_2 5 rfl rfl)
theorem dX9_isSo_34 : decode cX9_isSo 34 = .ok (.iload_n 3, 1) := dk_29 (dk_at dksX9_isSo_2 6 rfl rfl)
theorem dX9_isSo_35 : decode cX9_isSo 35 = .ok (.if_icmp .ne 7, 3) := dk_160 0 7 (dk_at dksX9_isSo_2 7 rfl rfl)
theorem dX9_isSo_38 : decode cX9_isSo 38 = .ok (.iconst 1, 1) := dk_4 (dk_at dksX9_isSo_2 10 rfl rfl)
theorem dX9_isSo_39 : decode cX9_isSo 39 = .ok (.goto 4, 3) := dk_167 0 4 (dk_at dksX9_isSo_2 11 rfl rfl)
theorem dX9_isSo_42 : decode cX9_isSo 42 = .ok (.iconst 0, 1) := dk_3 (dk_at dksX9_isSo_2 14 rfl rfl)
theorem dX9_isSo_43 : decode cX9_isSo 43 = .ok (.ireturn, 1) := dk_172 (dk_at dksX9_isSo_2 15 rfl rfl)
theorem dX9_isSo_44 : decode cX9_isSo 44 = .ok (.aload_n 0, 1) := dk_42 (dk_at dksX9_isSo_2 16 rfl rfl)
theorem dX9_isSo_45 : decode cX9_isSo 45 = .ok (.getfield 21, 3) := dk_180 0 21 (dk_at dksX9_isSo_2 17 rfl rfl)
theorem dX9_isSo_48 : decode cX9_isSo 48 = .ok (.iload_n 1, 1) := dk_27 (dk_at dksX9_isSo_2 20 rfl rfl)
theorem dX9_isSo_49 : decode cX9_isSo 49 = .ok (.iaload, 1) := dk_46 (dk_at dksX9_isSo_2 21 rfl rfl)
theorem dX9_isSo_50 : decode cX9_isSo 50 = .ok (.iload_n 3, 1) := dk_29 (dk_at dksX9_isSo_2 22 rfl rfl)
theorem dX9_isSo_51 : decode cX9_isSo 51 = .ok (.if_icmp .lt 7, 3) := dk_161 0 7 (dk_at dksX9_isSo_3 0 rfl rfl)
theorem dX9_isSo_54 : decode cX9_isSo 54 = .ok (.iconst 1, 1) := dk_4 (dk_at dksX9_isSo_3 3 rfl rfl)
theorem dX9_isSo_55 : decode cX9_isSo 55 = .ok (.goto 4, 3) := dk_167 0 4 (dk_at dksX9_isSo_3 4 rfl rfl)
theorem dX9_isSo_58 : decode cX9_isSo 58 = .ok (.iconst 0, 1) := dk_3 (dk_at dksX9_isSo_3 7 rfl rfl)
theorem dX9_isSo_59 : decode cX9_isSo 59 = .ok (.ireturn, 1) := dk_172 (dk_at dksX9_isSo_3 8 rfl rfl)
theorem dX9_isSo_60 : decode cX9_isSo 60 = .ok (.aload_n 0, 1) := dk_42 (dk_at dksX9_isSo_3 9 rfl rfl)
theorem dX9_isSo_61 : decode cX9_isSo 61 = .ok (.getfield 24, 3) := dk_180 0 24 (dk_at dksX9_isSo_3 10 rfl rfl)
theorem dX9_isSo_64 : decode cX9_isSo 64 = .ok (.iload_n 1, 1) := dk_27 (dk_at dksX9_isSo_3 13 rfl rfl)
theorem dX9_isSo_65 : decode cX9_isSo 65 = .ok (.iaload, 1) := dk_46 (dk_at dksX9_isSo_3 14 rfl rfl)
theorem dX9_isSo_66 : decode cX9_isSo 66 = .ok (.iload_n 3, 1) := dk_29 (dk_at dksX9_isSo_3 15 rfl rfl)
theorem dX9_isSo_67 : decode cX9_isSo 67 = .ok (.if_icmp .gt 7, 3) := dk_163 0 7 (dk_at dksX9_isSo_3 16 rfl rfl)
theorem dX9_isSo_70 : decode cX9_isSo 70 = .ok (.iconst 1, 1) := dk_4 (dk_at dksX9_isSo_3 19 rfl rfl)
theorem dX9_isSo_71 : decode cX9_isSo 71 = .ok (.goto 4, 3) := dk_167 0 4 (dk_at dksX9_isSo_3 20 rfl rfl)
theorem dX9_isSo_74 : decode cX9_isSo 74 = .ok (.iconst 0, 1) := dk_3 (dk_at dksX9_isSo_3 23 rfl rfl)
theorem dX9_isSo_75 : decode cX9_isSo 75 = .ok (.ireturn, 1) := dk_172 (dk_at dksX9_isSo_4 0 rfl rfl)
theorem dX9_isSo_76 : decode cX9_isSo 76 = .ok (.aload_n 0, 1) := dk_42 (dk_at dksX9_isSo_4 1 rfl rfl)
theorem dX9_isSo_77 : decode cX9_isSo 77 = .ok (.getfield 39, 3) := dk_180 0 39 (dk_at dksX9_isSo_4 2 rfl rfl)
theorem dX9_isSo_80 : decode cX9_isSo 80 = .ok (.iload_n 1, 1) := dk_27 (dk_at dksX9_isSo_4 5 rfl rfl)
theorem dX9_isSo_81 : decode cX9_isSo 81 = .ok (.iaload, 1) := dk_46 (dk_at dksX9_isSo_4 6 rfl rfl)
theorem dX9_isSo_82 : decode cX9_isSo 82 = .ok (.iload_n 3, 1) := dk_29 (dk_at dksX9_isSo_4 7 rfl rfl)
theorem dX9_isSo_83 : decode cX9_isSo 83 = .ok (.if_icmp .lt 7, 3) := dk_161 0 7 (dk_at dksX9_isSo_4 8 rfl rfl)
theorem dX9_isSo_86 : decode cX9_isSo 86 = .ok (.iconst 1, 1) := dk_4 (dk_at dksX9_isSo_4 11 rfl rfl)
theorem dX9_isSo_87 : decode cX9_isSo 87 = .ok (.goto 4, 3) := dk_167 0 4 (dk_at dksX9_isSo_4 12 rfl rfl)
theorem dX9_isSo_90 : decode cX9_isSo 90 = .ok (.iconst 0, 1) := dk_3 (dk_at dksX9_isSo_4 15 rfl rfl)
theorem dX9_isSo_91 : decode cX9_isSo 91 = .ok (.ireturn, 1) := dk_172 (dk_at dksX9_isSo_4 16 rfl rfl)
abbrev cX9_ask : ByteArray := prog_15_method_103_code
def yX9_ask : MethodName := ⟨RX9, "ask", "()I"⟩
def dkwX9_ask_5 : List UInt8 := [184, 0, 145, 62, 132, 4, 1, 167, 255, 158, 42, 3, 181, 0, 119, 42, 29, 133, 182, 0, 122, 28, 172]
abbrev dktX9_ask_5 : List UInt8 := dkwX9_ask_5 ++ []
def dkwX9_ask_4 : List UInt8 := [100, 184, 1, 38, 54, 6, 21, 6, 29, 162, 0, 8, 21, 4, 167, 0, 4, 28, 61, 29, 21, 6]
abbrev dktX9_ask_4 : List UInt8 := dkwX9_ask_4 ++ dktX9_ask_5
def dkwX9_ask_3 : List UInt8 := [167, 0, 4, 3, 184, 0, 154, 96, 54, 5, 132, 6, 1, 167, 255, 210, 21, 5, 27, 184, 1, 5, 21, 5]
abbrev dktX9_ask_3 : List UInt8 := dkwX9_ask_3 ++ dktX9_ask_4
def dkwX9_ask_2 : List UInt8 := [21, 5, 27, 21, 6, 184, 1, 1, 153, 0, 19, 42, 180, 0, 27, 21, 6, 46, 21, 4, 160, 0, 7, 4]
abbrev dktX9_ask_2 : List UInt8 := dkwX9_ask_2 ++ dktX9_ask_3
def dkwX9_ask_1 : List UInt8 := [54, 4, 21, 4, 7, 163, 0, 98, 3, 54, 5, 3, 54, 6, 21, 6, 42, 180, 0, 126, 162, 0, 43]
abbrev dktX9_ask_1 : List UInt8 := dkwX9_ask_1 ++ dktX9_ask_2
def dkwX9_ask_0 : List UInt8 := [42, 3, 181, 0, 112, 42, 182, 1, 177, 60, 27, 154, 0, 6, 16, 254, 172, 2, 61, 19, 1, 115, 62, 3]
abbrev dktX9_ask_0 : List UInt8 := dkwX9_ask_0 ++ dktX9_ask_1
theorem dksX9_ask_0 : cX9_ask.data.toList.drop 0 = dktX9_ask_0 := by decide +kernel
theorem dksX9_ask_1 : cX9_ask.data.toList.drop 24 = dktX9_ask_1 := dk_seg dksX9_ask_0 24 rfl rfl
theorem dksX9_ask_2 : cX9_ask.data.toList.drop 47 = dktX9_ask_2 := dk_seg dksX9_ask_1 23 rfl rfl
theorem dksX9_ask_3 : cX9_ask.data.toList.drop 71 = dktX9_ask_3 := dk_seg dksX9_ask_2 24 rfl rfl
theorem dksX9_ask_4 : cX9_ask.data.toList.drop 95 = dktX9_ask_4 := dk_seg dksX9_ask_3 24 rfl rfl
theorem dksX9_ask_5 : cX9_ask.data.toList.drop 117 = dktX9_ask_5 := dk_seg dksX9_ask_4 22 rfl rfl
theorem dX9_ask_0 : decode cX9_ask 0 = .ok (.aload_n 0, 1) := dk_42 (dk_at dksX9_ask_0 0 rfl rfl)
theorem dX9_ask_1 : decode cX9_ask 1 = .ok (.iconst 0, 1) := dk_3 (dk_at dksX9_ask_0 1 rfl rfl)
theorem dX9_ask_2 : decode cX9_ask 2 = .ok (.putfield 112, 3) := dk_181 0 112 (dk_at dksX9_ask_0 2 rfl rfl)
theorem dX9_ask_5 : decode cX9_ask 5 = .ok (.aload_n 0, 1) := dk_42 (dk_at dksX9_ask_0 5 rfl rfl)
theorem dX9_ask_6 : decode cX9_ask 6 = .ok (.invokevirtual 433, 3) := dk_182 1 177 (dk_at dksX9_ask_0 6 rfl rfl)
theorem dX9_ask_9 : decode cX9_ask 9 = .ok (.istore_n 1, 1) := dk_60 (dk_at dksX9_ask_0 9 rfl rfl)
theorem dX9_ask_10 : decode cX9_ask 10 = .ok (.iload_n 1, 1) := dk_27 (dk_at dksX9_ask_0 10 rfl rfl)
theorem dX9_ask_11 : decode cX9_ask 11 = .ok (.ifCond .ne 6, 3) := dk_154 0 6 (dk_at dksX9_ask_0 11 rfl rfl)
theorem dX9_ask_14 : decode cX9_ask 14 = .ok (.bipush (-2), 2) := dk_16 254 (dk_at dksX9_ask_0 14 rfl rfl)
theorem dX9_ask_16 : decode cX9_ask 16 = .ok (.ireturn, 1) := dk_172 (dk_at dksX9_ask_0 16 rfl rfl)
theorem dX9_ask_17 : decode cX9_ask 17 = .ok (.iconst (-1), 1) := dk_2 (dk_at dksX9_ask_0 17 rfl rfl)
theorem dX9_ask_18 : decode cX9_ask 18 = .ok (.istore_n 2, 1) := dk_61 (dk_at dksX9_ask_0 18 rfl rfl)
theorem dX9_ask_19 : decode cX9_ask 19 = .ok (.ldc_w 371, 3) := dk_19 1 115 (dk_at dksX9_ask_0 19 rfl rfl)
theorem dX9_ask_22 : decode cX9_ask 22 = .ok (.istore_n 3, 1) := dk_62 (dk_at dksX9_ask_0 22 rfl rfl)
theorem dX9_ask_23 : decode cX9_ask 23 = .ok (.iconst 0, 1) := dk_3 (dk_at dksX9_ask_0 23 rfl rfl)
theorem dX9_ask_24 : decode cX9_ask 24 = .ok (.istore 4, 2) := dk_54 4 (dk_at dksX9_ask_1 0 rfl rfl)
theorem dX9_ask_26 : decode cX9_ask 26 = .ok (.iload 4, 2) := dk_21 4 (dk_at dksX9_ask_1 2 rfl rfl)
theorem dX9_ask_28 : decode cX9_ask 28 = .ok (.iconst 4, 1) := dk_7 (dk_at dksX9_ask_1 4 rfl rfl)
theorem dX9_ask_29 : decode cX9_ask 29 = .ok (.if_icmp .gt 98, 3) := dk_163 0 98 (dk_at dksX9_ask_1 5 rfl rfl)
theorem dX9_ask_32 : decode cX9_ask 32 = .ok (.iconst 0, 1) := dk_3 (dk_at dksX9_ask_1 8 rfl rfl)
theorem dX9_ask_33 : decode cX9_ask 33 = .ok (.istore 5, 2) := dk_54 5 (dk_at dksX9_ask_1 9 rfl rfl)
theorem dX9_ask_35 : decode cX9_ask 35 = .ok (.iconst 0, 1) := dk_3 (dk_at dksX9_ask_1 11 rfl rfl)
theorem dX9_ask_36 : decode cX9_ask 36 = .ok (.istore 6, 2) := dk_54 6 (dk_at dksX9_ask_1 12 rfl rfl)
theorem dX9_ask_38 : decode cX9_ask 38 = .ok (.iload 6, 2) := dk_21 6 (dk_at dksX9_ask_1 14 rfl rfl)
theorem dX9_ask_40 : decode cX9_ask 40 = .ok (.aload_n 0, 1) := dk_42 (dk_at dksX9_ask_1 16 rfl rfl)
theorem dX9_ask_41 : decode cX9_ask 41 = .ok (.getfield 126, 3) := dk_180 0 126 (dk_at dksX9_ask_1 17 rfl rfl)
theorem dX9_ask_44 : decode cX9_ask 44 = .ok (.if_icmp .ge 43, 3) := dk_162 0 43 (dk_at dksX9_ask_1 20 rfl rfl)
theorem dX9_ask_47 : decode cX9_ask 47 = .ok (.iload 5, 2) := dk_21 5 (dk_at dksX9_ask_2 0 rfl rfl)
theorem dX9_ask_49 : decode cX9_ask 49 = .ok (.iload_n 1, 1) := dk_27 (dk_at dksX9_ask_2 2 rfl rfl)
theorem dX9_ask_50 : decode cX9_ask 50 = .ok (.iload 6, 2) := dk_21 6 (dk_at dksX9_ask_2 3 rfl rfl)
theorem dX9_ask_52 : decode cX9_ask 52 = .ok (.invokestatic 257, 3) := dk_184 1 1 (dk_at dksX9_ask_2 5 rfl rfl)
theorem dX9_ask_55 : decode cX9_ask 55 = .ok (.ifCond .eq 19, 3) := dk_153 0 19 (dk_at dksX9_ask_2 8 rfl rfl)
theorem dX9_ask_58 : decode cX9_ask 58 = .ok (.aload_n 0, 1) := dk_42 (dk_at dksX9_ask_2 11 rfl rfl)
theorem dX9_ask_59 : decode cX9_ask 59 = .ok (.getfield 27, 3) := dk_180 0 27 (dk_at dksX9_ask_2 12 rfl rfl)
theorem dX9_ask_62 : decode cX9_ask 62 = .ok (.iload 6, 2) := dk_21 6 (dk_at dksX9_ask_2 15 rfl rfl)
theorem dX9_ask_64 : decode cX9_ask 64 = .ok (.iaload, 1) := dk_46 (dk_at dksX9_ask_2 17 rfl rfl)
theorem dX9_ask_65 : decode cX9_ask 65 = .ok (.iload 4, 2) := dk_21 4 (dk_at dksX9_ask_2 18 rfl rfl)
theorem dX9_ask_67 : decode cX9_ask 67 = .ok (.if_icmp .ne 7, 3) := dk_160 0 7 (dk_at dksX9_ask_2 20 rfl rfl)
theorem dX9_ask_70 : decode cX9_ask 70 = .ok (.iconst 1, 1) := dk_4 (dk_at dksX9_ask_2 23 rfl rfl)
theorem dX9_ask_71 : decode cX9_ask 71 = .ok (.goto 4, 3) := dk_167 0 4 (dk_at dksX9_ask_3 0 rfl rfl)
theorem dX9_ask_74 : decode cX9_ask 74 = .ok (.iconst 0, 1) := dk_3 (dk_at dksX9_ask_3 3 rfl rfl)
theorem dX9_ask_75 : decode cX9_ask 75 = .ok (.invokestatic 154, 3) := dk_184 0 154 (dk_at dksX9_ask_3 4 rfl rfl)
theorem dX9_ask_78 : decode cX9_ask 78 = .ok (.iadd, 1) := dk_96 (dk_at dksX9_ask_3 7 rfl rfl)
theorem dX9_ask_79 : decode cX9_ask 79 = .ok (.istore 5, 2) := dk_54 5 (dk_at dksX9_ask_3 8 rfl rfl)
theorem dX9_ask_81 : decode cX9_ask 81 = .ok (.iinc 6 1, 3) := dk_132 6 1 (dk_at dksX9_ask_3 10 rfl rfl)
theorem dX9_ask_84 : decode cX9_ask 84 = .ok (.goto (-46), 3) := dk_167 255 210 (dk_at dksX9_ask_3 13 rfl rfl)
theorem dX9_ask_87 : decode cX9_ask 87 = .ok (.iload 5, 2) := dk_21 5 (dk_at dksX9_ask_3 16 rfl rfl)
theorem dX9_ask_89 : decode cX9_ask 89 = .ok (.iload_n 1, 1) := dk_27 (dk_at dksX9_ask_3 18 rfl rfl)
theorem dX9_ask_90 : decode cX9_ask 90 = .ok (.invokestatic 261, 3) := dk_184 1 5 (dk_at dksX9_ask_3 19 rfl rfl)
theorem dX9_ask_93 : decode cX9_ask 93 = .ok (.iload 5, 2) := dk_21 5 (dk_at dksX9_ask_3 22 rfl rfl)
theorem dX9_ask_95 : decode cX9_ask 95 = .ok (.isub, 1) := dk_100 (dk_at dksX9_ask_4 0 rfl rfl)
theorem dX9_ask_96 : decode cX9_ask 96 = .ok (.invokestatic 294, 3) := dk_184 1 38 (dk_at dksX9_ask_4 1 rfl rfl)
theorem dX9_ask_99 : decode cX9_ask 99 = .ok (.istore 6, 2) := dk_54 6 (dk_at dksX9_ask_4 4 rfl rfl)
theorem dX9_ask_101 : decode cX9_ask 101 = .ok (.iload 6, 2) := dk_21 6 (dk_at dksX9_ask_4 6 rfl rfl)
theorem dX9_ask_103 : decode cX9_ask 103 = .ok (.iload_n 3, 1) := dk_29 (dk_at dksX9_ask_4 8 rfl rfl)
theorem dX9_ask_104 : decode cX9_ask 104 = .ok (.if_icmp .ge 8, 3) := dk_162 0 8 (dk_at dksX9_ask_4 9 rfl rfl)
theorem dX9_ask_107 : decode cX9_ask 107 = .ok (.iload 4, 2) := dk_21 4 (dk_at dksX9_ask_4 12 rfl rfl)
theorem dX9_ask_109 : decode cX9_ask 109 = .ok (.goto 4, 3) := dk_167 0 4 (dk_at dksX9_ask_4 14 rfl rfl)
theorem dX9_ask_112 : decode cX9_ask 112 = .ok (.iload_n 2, 1) := dk_28 (dk_at dksX9_ask_4 17 rfl rfl)
theorem dX9_ask_113 : decode cX9_ask 113 = .ok (.istore_n 2, 1) := dk_61 (dk_at dksX9_ask_4 18 rfl rfl)
theorem dX9_ask_114 : decode cX9_ask 114 = .ok (.iload_n 3, 1) := dk_29 (dk_at dksX9_ask_4 19 rfl rfl)
theorem dX9_ask_115 : decode cX9_ask 115 = .ok (.iload 6, 2) := dk_21 6 (dk_at dksX9_ask_4 20 rfl rfl)
theorem dX9_ask_117 : decode cX9_ask 117 = .ok (.invokestatic 145, 3) := dk_184 0 145 (dk_at dksX9_ask_5 0 rfl rfl)
theorem dX9_ask_120 : decode cX9_ask 120 = .ok (.istore_n 3, 1) := dk_62 (dk_at dksX9_ask_5 3 rfl rfl)
theorem dX9_ask_121 : decode cX9_ask 121 = .ok (.iinc 4 1, 3) := dk_132 4 1 (dk_at dksX9_ask_5 4 rfl rfl)
theorem dX9_ask_124 : decode cX9_ask 124 = .ok (.goto (-98), 3) := dk_167 255 158 (dk_at dksX9_ask_5 7 rfl rfl)
theorem dX9_ask_127 : decode cX9_ask 127 = .ok (.aload_n 0, 1) := dk_42 (dk_at dksX9_ask_5 10 rfl rfl)
theorem dX9_ask_128 : decode cX9_ask 128 = .ok (.iconst 0, 1) := dk_3 (dk_at dksX9_ask_5 11 rfl rfl)
theorem dX9_ask_129 : decode cX9_ask 129 = .ok (.putfield 119, 3) := dk_181 0 119 (dk_at dksX9_ask_5 12 rfl rfl)
theorem dX9_ask_132 : decode cX9_ask 132 = .ok (.aload_n 0, 1) := dk_42 (dk_at dksX9_ask_5 15 rfl rfl)
theorem dX9_ask_133 : decode cX9_ask 133 = .ok (.iload_n 3, 1) := dk_29 (dk_at dksX9_ask_5 16 rfl rfl)
theorem dX9_ask_134 : decode cX9_ask 134 = .ok (.i2l, 1) := dk_133 (dk_at dksX9_ask_5 17 rfl rfl)
theorem dX9_ask_135 : decode cX9_ask 135 = .ok (.invokevirtual 122, 3) := dk_182 0 122 (dk_at dksX9_ask_5 18 rfl rfl)
theorem dX9_ask_138 : decode cX9_ask 138 = .ok (.iload_n 2, 1) := dk_28 (dk_at dksX9_ask_5 21 rfl rfl)
theorem dX9_ask_139 : decode cX9_ask 139 = .ok (.ireturn, 1) := dk_172 (dk_at dksX9_ask_5 22 rfl rfl)
abbrev cX9_rests : ByteArray := prog_15_method_106_code
def yX9_rests : MethodName := ⟨RX9, "rests", "(I)I"⟩
def dkwX9_rests_4 : List UInt8 := [167, 255, 191, 28, 172]
abbrev dktX9_rests_4 : List UInt8 := dkwX9_rests_4 ++ []
def dkwX9_rests_3 : List UInt8 := [182, 0, 122, 42, 21, 4, 133, 182, 0, 122, 132, 2, 1, 132, 4, 1, 167, 255, 206, 132, 3, 1]
abbrev dktX9_rests_3 : List UInt8 := dkwX9_rests_3 ++ dktX9_rests_4
def dkwX9_rests_2 : List UInt8 := [27, 184, 1, 185, 153, 0, 33, 21, 4, 29, 27, 184, 1, 185, 153, 0, 23, 28, 154, 0, 16, 42, 29, 133]
abbrev dktX9_rests_2 : List UInt8 := dkwX9_rests_2 ++ dktX9_rests_3
def dkwX9_rests_1 : List UInt8 := [181, 0, 119, 3, 62, 29, 16, 9, 163, 0, 65, 3, 54, 4, 21, 4, 16, 9, 163, 0, 49, 29, 21, 4]
abbrev dktX9_rests_1 : List UInt8 := dkwX9_rests_1 ++ dktX9_rests_2
def dkwX9_rests_0 : List UInt8 := [42, 3, 181, 0, 112, 27, 133, 9, 20, 1, 183, 184, 0, 129, 154, 0, 5, 2, 172, 3, 61, 42, 3]
abbrev dktX9_rests_0 : List UInt8 := dkwX9_rests_0 ++ dktX9_rests_1
theorem dksX9_rests_0 : cX9_rests.data.toList.drop 0 = dktX9_rests_0 := by decide +kernel
theorem dksX9_rests_1 : cX9_rests.data.toList.drop 23 = dktX9_rests_1 := dk_seg dksX9_rests_0 23 rfl rfl
theorem dksX9_rests_2 : cX9_rests.data.toList.drop 47 = dktX9_rests_2 := dk_seg dksX9_rests_1 24 rfl rfl
theorem dksX9_rests_3 : cX9_rests.data.toList.drop 71 = dktX9_rests_3 := dk_seg dksX9_rests_2 24 rfl rfl
theorem dksX9_rests_4 : cX9_rests.data.toList.drop 93 = dktX9_rests_4 := dk_seg dksX9_rests_3 22 rfl rfl
theorem dX9_rests_0 : decode cX9_rests 0 = .ok (.aload_n 0, 1) := dk_42 (dk_at dksX9_rests_0 0 rfl rfl)
theorem dX9_rests_1 : decode cX9_rests 1 = .ok (.iconst 0, 1) := dk_3 (dk_at dksX9_rests_0 1 rfl rfl)
theorem dX9_rests_2 : decode cX9_rests 2 = .ok (.putfield 112, 3) := dk_181 0 112 (dk_at dksX9_rests_0 2 rfl rfl)
theorem dX9_rests_5 : decode cX9_rests 5 = .ok (.iload_n 1, 1) := dk_27 (dk_at dksX9_rests_0 5 rfl rfl)
theorem dX9_rests_6 : decode cX9_rests 6 = .ok (.i2l, 1) := dk_133 (dk_at dksX9_rests_0 6 rfl rfl)
theorem dX9_rests_7 : decode cX9_rests 7 = .ok (.lconst 0, 1) := dk_9 (dk_at dksX9_rests_0 7 rfl rfl)
theorem dX9_rests_8 : decode cX9_rests 8 = .ok (.ldc2_w 439, 3) := dk_20 1 183 (dk_at dksX9_rests_0 8 rfl rfl)
theorem dX9_rests_11 : decode cX9_rests 11 = .ok (.invokestatic 129, 3) := dk_184 0 129 (dk_at dksX9_rests_0 11 rfl rfl)
theorem dX9_rests_14 : decode cX9_rests 14 = .ok (.ifCond .ne 5, 3) := dk_154 0 5 (dk_at dksX9_rests_0 14 rfl rfl)
theorem dX9_rests_17 : decode cX9_rests 17 = .ok (.iconst (-1), 1) := dk_2 (dk_at dksX9_rests_0 17 rfl rfl)
theorem dX9_rests_18 : decode cX9_rests 18 = .ok (.ireturn, 1) := dk_172 (dk_at dksX9_rests_0 18 rfl rfl)
theorem dX9_rests_19 : decode cX9_rests 19 = .ok (.iconst 0, 1) := dk_3 (dk_at dksX9_rests_0 19 rfl rfl)
theorem dX9_rests_20 : decode cX9_rests 20 = .ok (.istore_n 2, 1) := dk_61 (dk_at dksX9_rests_0 20 rfl rfl)
theorem dX9_rests_21 : decode cX9_rests 21 = .ok (.aload_n 0, 1) := dk_42 (dk_at dksX9_rests_0 21 rfl rfl)
theorem dX9_rests_22 : decode cX9_rests 22 = .ok (.iconst 0, 1) := dk_3 (dk_at dksX9_rests_0 22 rfl rfl)
theorem dX9_rests_23 : decode cX9_rests 23 = .ok (.putfield 119, 3) := dk_181 0 119 (dk_at dksX9_rests_1 0 rfl rfl)
theorem dX9_rests_26 : decode cX9_rests 26 = .ok (.iconst 0, 1) := dk_3 (dk_at dksX9_rests_1 3 rfl rfl)
theorem dX9_rests_27 : decode cX9_rests 27 = .ok (.istore_n 3, 1) := dk_62 (dk_at dksX9_rests_1 4 rfl rfl)
theorem dX9_rests_28 : decode cX9_rests 28 = .ok (.iload_n 3, 1) := dk_29 (dk_at dksX9_rests_1 5 rfl rfl)
theorem dX9_rests_29 : decode cX9_rests 29 = .ok (.bipush 9, 2) := dk_16 9 (dk_at dksX9_rests_1 6 rfl rfl)
theorem dX9_rests_31 : decode cX9_rests 31 = .ok (.if_icmp .gt 65, 3) := dk_163 0 65 (dk_at dksX9_rests_1 8 rfl rfl)
theorem dX9_rests_34 : decode cX9_rests 34 = .ok (.iconst 0, 1) := dk_3 (dk_at dksX9_rests_1 11 rfl rfl)
theorem dX9_rests_35 : decode cX9_rests 35 = .ok (.istore 4, 2) := dk_54 4 (dk_at dksX9_rests_1 12 rfl rfl)
theorem dX9_rests_37 : decode cX9_rests 37 = .ok (.iload 4, 2) := dk_21 4 (dk_at dksX9_rests_1 14 rfl rfl)
theorem dX9_rests_39 : decode cX9_rests 39 = .ok (.bipush 9, 2) := dk_16 9 (dk_at dksX9_rests_1 16 rfl rfl)
theorem dX9_rests_41 : decode cX9_rests 41 = .ok (.if_icmp .gt 49, 3) := dk_163 0 49 (dk_at dksX9_rests_1 18 rfl rfl)
theorem dX9_rests_44 : decode cX9_rests 44 = .ok (.iload_n 3, 1) := dk_29 (dk_at dksX9_rests_1 21 rfl rfl)
theorem dX9_rests_45 : decode cX9_rests 45 = .ok (.iload 4, 2) := dk_21 4 (dk_at dksX9_rests_1 22 rfl rfl)
theorem dX9_rests_47 : decode cX9_rests 47 = .ok (.iload_n 1, 1) := dk_27 (dk_at dksX9_rests_2 0 rfl rfl)
theorem dX9_rests_48 : decode cX9_rests 48 = .ok (.invokestatic 441, 3) := dk_184 1 185 (dk_at dksX9_rests_2 1 rfl rfl)
theorem dX9_rests_51 : decode cX9_rests 51 = .ok (.ifCond .eq 33, 3) := dk_153 0 33 (dk_at dksX9_rests_2 4 rfl rfl)
theorem dX9_rests_54 : decode cX9_rests 54 = .ok (.iload 4, 2) := dk_21 4 (dk_at dksX9_rests_2 7 rfl rfl)
theorem dX9_rests_56 : decode cX9_rests 56 = .ok (.iload_n 3, 1) := dk_29 (dk_at dksX9_rests_2 9 rfl rfl)
theorem dX9_rests_57 : decode cX9_rests 57 = .ok (.iload_n 1, 1) := dk_27 (dk_at dksX9_rests_2 10 rfl rfl)
theorem dX9_rests_58 : decode cX9_rests 58 = .ok (.invokestatic 441, 3) := dk_184 1 185 (dk_at dksX9_rests_2 11 rfl rfl)
theorem dX9_rests_61 : decode cX9_rests 61 = .ok (.ifCond .eq 23, 3) := dk_153 0 23 (dk_at dksX9_rests_2 14 rfl rfl)
theorem dX9_rests_64 : decode cX9_rests 64 = .ok (.iload_n 2, 1) := dk_28 (dk_at dksX9_rests_2 17 rfl rfl)
theorem dX9_rests_65 : decode cX9_rests 65 = .ok (.ifCond .ne 16, 3) := dk_154 0 16 (dk_at dksX9_rests_2 18 rfl rfl)
theorem dX9_rests_68 : decode cX9_rests 68 = .ok (.aload_n 0, 1) := dk_42 (dk_at dksX9_rests_2 21 rfl rfl)
theorem dX9_rests_69 : decode cX9_rests 69 = .ok (.iload_n 3, 1) := dk_29 (dk_at dksX9_rests_2 22 rfl rfl)
theorem dX9_rests_70 : decode cX9_rests 70 = .ok (.i2l, 1) := dk_133 (dk_at dksX9_rests_2 23 rfl rfl)
theorem dX9_rests_71 : decode cX9_rests 71 = .ok (.invokevirtual 122, 3) := dk_182 0 122 (dk_at dksX9_rests_3 0 rfl rfl)
theorem dX9_rests_74 : decode cX9_rests 74 = .ok (.aload_n 0, 1) := dk_42 (dk_at dksX9_rests_3 3 rfl rfl)
theorem dX9_rests_75 : decode cX9_rests 75 = .ok (.iload 4, 2) := dk_21 4 (dk_at dksX9_rests_3 4 rfl rfl)
theorem dX9_rests_77 : decode cX9_rests 77 = .ok (.i2l, 1) := dk_133 (dk_at dksX9_rests_3 6 rfl rfl)
theorem dX9_rests_78 : decode cX9_rests 78 = .ok (.invokevirtual 122, 3) := dk_182 0 122 (dk_at dksX9_rests_3 7 rfl rfl)
theorem dX9_rests_81 : decode cX9_rests 81 = .ok (.iinc 2 1, 3) := dk_132 2 1 (dk_at dksX9_rests_3 10 rfl rfl)
theorem dX9_rests_84 : decode cX9_rests 84 = .ok (.iinc 4 1, 3) := dk_132 4 1 (dk_at dksX9_rests_3 13 rfl rfl)
theorem dX9_rests_87 : decode cX9_rests 87 = .ok (.goto (-50), 3) := dk_167 255 206 (dk_at dksX9_rests_3 16 rfl rfl)
theorem dX9_rests_90 : decode cX9_rests 90 = .ok (.iinc 3 1, 3) := dk_132 3 1 (dk_at dksX9_rests_3 19 rfl rfl)
theorem dX9_rests_93 : decode cX9_rests 93 = .ok (.goto (-65), 3) := dk_167 255 191 (dk_at dksX9_rests_4 0 rfl rfl)
theorem dX9_rests_96 : decode cX9_rests 96 = .ok (.iload_n 2, 1) := dk_28 (dk_at dksX9_rests_4 3 rfl rfl)
theorem dX9_rests_97 : decode cX9_rests 97 = .ok (.ireturn, 1) := dk_172 (dk_at dksX9_rests_4 4 rfl rfl)
abbrev cX9_isRest : ByteArray := prog_15_method_105_code
def yX9_isRest : MethodName := ⟨RX9, "isRest", "(III)Z"⟩
def dkwX9_isRest_1 : List UInt8 := [27, 28, 184, 1, 180, 163, 0, 7, 4, 167, 0, 4, 3, 62, 132, 4, 1, 167, 255, 220, 29, 172]
abbrev dktX9_isRest_1 : List UInt8 := dkwX9_isRest_1 ++ []
def dkwX9_isRest_0 : List UInt8 := [4, 62, 3, 54, 4, 21, 4, 16, 9, 163, 0, 35, 29, 153, 0, 23, 21, 4, 27, 28, 184, 1, 180, 26]
abbrev dktX9_isRest_0 : List UInt8 := dkwX9_isRest_0 ++ dktX9_isRest_1
theorem dksX9_isRest_0 : cX9_isRest.data.toList.drop 0 = dktX9_isRest_0 := by decide +kernel
theorem dksX9_isRest_1 : cX9_isRest.data.toList.drop 24 = dktX9_isRest_1 := dk_seg dksX9_isRest_0 24 rfl rfl
theorem dX9_isRest_0 : decode cX9_isRest 0 = .ok (.iconst 1, 1) := dk_4 (dk_at dksX9_isRest_0 0 rfl rfl)
theorem dX9_isRest_1 : decode cX9_isRest 1 = .ok (.istore_n 3, 1) := dk_62 (dk_at dksX9_isRest_0 1 rfl rfl)
theorem dX9_isRest_2 : decode cX9_isRest 2 = .ok (.iconst 0, 1) := dk_3 (dk_at dksX9_isRest_0 2 rfl rfl)
theorem dX9_isRest_3 : decode cX9_isRest 3 = .ok (.istore 4, 2) := dk_54 4 (dk_at dksX9_isRest_0 3 rfl rfl)
theorem dX9_isRest_5 : decode cX9_isRest 5 = .ok (.iload 4, 2) := dk_21 4 (dk_at dksX9_isRest_0 5 rfl rfl)
theorem dX9_isRest_7 : decode cX9_isRest 7 = .ok (.bipush 9, 2) := dk_16 9 (dk_at dksX9_isRest_0 7 rfl rfl)
theorem dX9_isRest_9 : decode cX9_isRest 9 = .ok (.if_icmp .gt 35, 3) := dk_163 0 35 (dk_at dksX9_isRest_0 9 rfl rfl)
theorem dX9_isRest_12 : decode cX9_isRest 12 = .ok (.iload_n 3, 1) := dk_29 (dk_at dksX9_isRest_0 12 rfl rfl)
theorem dX9_isRest_13 : decode cX9_isRest 13 = .ok (.ifCond .eq 23, 3) := dk_153 0 23 (dk_at dksX9_isRest_0 13 rfl rfl)
theorem dX9_isRest_16 : decode cX9_isRest 16 = .ok (.iload 4, 2) := dk_21 4 (dk_at dksX9_isRest_0 16 rfl rfl)
theorem dX9_isRest_18 : decode cX9_isRest 18 = .ok (.iload_n 1, 1) := dk_27 (dk_at dksX9_isRest_0 18 rfl rfl)
theorem dX9_isRest_19 : decode cX9_isRest 19 = .ok (.iload_n 2, 1) := dk_28 (dk_at dksX9_isRest_0 19 rfl rfl)
theorem dX9_isRest_20 : decode cX9_isRest 20 = .ok (.invokestatic 436, 3) := dk_184 1 180 (dk_at dksX9_isRest_0 20 rfl rfl)
theorem dX9_isRest_23 : decode cX9_isRest 23 = .ok (.iload_n 0, 1) := dk_26 (dk_at dksX9_isRest_0 23 rfl rfl)
theorem dX9_isRest_24 : decode cX9_isRest 24 = .ok (.iload_n 1, 1) := dk_27 (dk_at dksX9_isRest_1 0 rfl rfl)
theorem dX9_isRest_25 : decode cX9_isRest 25 = .ok (.iload_n 2, 1) := dk_28 (dk_at dksX9_isRest_1 1 rfl rfl)
theorem dX9_isRest_26 : decode cX9_isRest 26 = .ok (.invokestatic 436, 3) := dk_184 1 180 (dk_at dksX9_isRest_1 2 rfl rfl)
theorem dX9_isRest_29 : decode cX9_isRest 29 = .ok (.if_icmp .gt 7, 3) := dk_163 0 7 (dk_at dksX9_isRest_1 5 rfl rfl)
theorem dX9_isRest_32 : decode cX9_isRest 32 = .ok (.iconst 1, 1) := dk_4 (dk_at dksX9_isRest_1 8 rfl rfl)
theorem dX9_isRest_33 : decode cX9_isRest 33 = .ok (.goto 4, 3) := dk_167 0 4 (dk_at dksX9_isRest_1 9 rfl rfl)
theorem dX9_isRest_36 : decode cX9_isRest 36 = .ok (.iconst 0, 1) := dk_3 (dk_at dksX9_isRest_1 12 rfl rfl)
theorem dX9_isRest_37 : decode cX9_isRest 37 = .ok (.istore_n 3, 1) := dk_62 (dk_at dksX9_isRest_1 13 rfl rfl)
theorem dX9_isRest_38 : decode cX9_isRest 38 = .ok (.iinc 4 1, 3) := dk_132 4 1 (dk_at dksX9_isRest_1 14 rfl rfl)
theorem dX9_isRest_41 : decode cX9_isRest 41 = .ok (.goto (-36), 3) := dk_167 255 220 (dk_at dksX9_isRest_1 17 rfl rfl)
theorem dX9_isRest_44 : decode cX9_isRest 44 = .ok (.iload_n 3, 1) := dk_29 (dk_at dksX9_isRest_1 20 rfl rfl)
theorem dX9_isRest_45 : decode cX9_isRest 45 = .ok (.ireturn, 1) := dk_172 (dk_at dksX9_isRest_1 21 rfl rfl)
abbrev cX9_gets : ByteArray := prog_15_method_104_code
def yX9_gets : MethodName := ⟨RX9, "gets", "(III)I"⟩
def dkwX9_gets_0 : List UInt8 := [26, 27, 96, 28, 163, 0, 7, 26, 167, 0, 12, 3, 28, 5, 108, 4, 100, 184, 1, 38, 172]
abbrev dktX9_gets_0 : List UInt8 := dkwX9_gets_0 ++ []
theorem dksX9_gets_0 : cX9_gets.data.toList.drop 0 = dktX9_gets_0 := by decide +kernel
theorem dX9_gets_0 : decode cX9_gets 0 = .ok (.iload_n 0, 1) := dk_26 (dk_at dksX9_gets_0 0 rfl rfl)
theorem dX9_gets_1 : decode cX9_gets 1 = .ok (.iload_n 1, 1) := dk_27 (dk_at dksX9_gets_0 1 rfl rfl)
theorem dX9_gets_2 : decode cX9_gets 2 = .ok (.iadd, 1) := dk_96 (dk_at dksX9_gets_0 2 rfl rfl)
theorem dX9_gets_3 : decode cX9_gets 3 = .ok (.iload_n 2, 1) := dk_28 (dk_at dksX9_gets_0 3 rfl rfl)
theorem dX9_gets_4 : decode cX9_gets 4 = .ok (.if_icmp .gt 7, 3) := dk_163 0 7 (dk_at dksX9_gets_0 4 rfl rfl)
theorem dX9_gets_7 : decode cX9_gets 7 = .ok (.iload_n 0, 1) := dk_26 (dk_at dksX9_gets_0 7 rfl rfl)
theorem dX9_gets_8 : decode cX9_gets 8 = .ok (.goto 12, 3) := dk_167 0 12 (dk_at dksX9_gets_0 8 rfl rfl)
theorem dX9_gets_11 : decode cX9_gets 11 = .ok (.iconst 0, 1) := dk_3 (dk_at dksX9_gets_0 11 rfl rfl)
theorem dX9_gets_12 : decode cX9_gets 12 = .ok (.iload_n 2, 1) := dk_28 (dk_at dksX9_gets_0 12 rfl rfl)
theorem dX9_gets_13 : decode cX9_gets 13 = .ok (.iconst 2, 1) := dk_5 (dk_at dksX9_gets_0 13 rfl rfl)
theorem dX9_gets_14 : decode cX9_gets 14 = .ok (.idiv, 1) := dk_108 (dk_at dksX9_gets_0 14 rfl rfl)
theorem dX9_gets_15 : decode cX9_gets 15 = .ok (.iconst 1, 1) := dk_4 (dk_at dksX9_gets_0 15 rfl rfl)
theorem dX9_gets_16 : decode cX9_gets 16 = .ok (.isub, 1) := dk_100 (dk_at dksX9_gets_0 16 rfl rfl)
theorem dX9_gets_17 : decode cX9_gets 17 = .ok (.invokestatic 294, 3) := dk_184 1 38 (dk_at dksX9_gets_0 17 rfl rfl)
theorem dX9_gets_20 : decode cX9_gets 20 = .ok (.ireturn, 1) := dk_172 (dk_at dksX9_gets_0 20 rfl rfl)
abbrev cX9_voyages : ByteArray := prog_15_method_108_code
def yX9_voyages : MethodName := ⟨RX9, "voyages", "(II)I"⟩
def dkwX9_voyages_7 : List UInt8 := [16, 17, 46, 172]
abbrev dktX9_voyages_7 : List UInt8 := dkwX9_voyages_7 ++ []
def dkwX9_voyages_6 : List UInt8 := [184, 1, 5, 133, 182, 0, 122, 42, 42, 180, 0, 42, 16, 16, 46, 133, 182, 0, 122, 42, 180, 0, 42]
abbrev dktX9_voyages_6 : List UInt8 := dkwX9_voyages_6 ++ dktX9_voyages_7
def dkwX9_voyages_5 : List UInt8 := [132, 3, 1, 167, 255, 167, 42, 3, 181, 0, 119, 42, 42, 42, 180, 0, 42, 3, 2, 182, 1, 14]
abbrev dktX9_voyages_5 : List UInt8 := dkwX9_voyages_5 ++ dktX9_voyages_6
def dkwX9_voyages_4 : List UInt8 := [180, 0, 126, 182, 1, 192, 21, 4, 5, 160, 0, 7, 6, 167, 0, 5, 16, 253, 182, 1, 86, 87]
abbrev dktX9_voyages_4 : List UInt8 := dkwX9_voyages_4 ++ dktX9_voyages_5
def dkwX9_voyages_3 : List UInt8 := [16, 10, 182, 1, 80, 87, 167, 0, 39, 42, 180, 0, 126, 158, 0, 32, 42, 42, 180, 0, 42, 42, 42]
abbrev dktX9_voyages_3 : List UInt8 := dkwX9_voyages_3 ++ dktX9_voyages_4
def dkwX9_voyages_2 : List UInt8 := [42, 42, 180, 0, 42, 182, 1, 51, 87, 167, 0, 59, 21, 4, 7, 160, 0, 17, 42, 42, 180, 0, 42]
abbrev dktX9_voyages_2 : List UInt8 := dkwX9_voyages_2 ++ dktX9_voyages_3
def dkwX9_voyages_1 : List UInt8 := [42, 182, 1, 112, 3, 62, 29, 28, 162, 0, 90, 42, 8, 182, 1, 192, 54, 4, 21, 4, 5, 162, 0, 15]
abbrev dktX9_voyages_1 : List UInt8 := dkwX9_voyages_1 ++ dktX9_voyages_2
def dkwX9_voyages_0 : List UInt8 := [42, 3, 181, 0, 112, 28, 133, 10, 20, 1, 73, 184, 0, 129, 154, 0, 5, 2, 172, 42, 27, 181, 1, 188]
abbrev dktX9_voyages_0 : List UInt8 := dkwX9_voyages_0 ++ dktX9_voyages_1
theorem dksX9_voyages_0 : cX9_voyages.data.toList.drop 0 = dktX9_voyages_0 := by decide +kernel
theorem dksX9_voyages_1 : cX9_voyages.data.toList.drop 24 = dktX9_voyages_1 := dk_seg dksX9_voyages_0 24 rfl rfl
theorem dksX9_voyages_2 : cX9_voyages.data.toList.drop 48 = dktX9_voyages_2 := dk_seg dksX9_voyages_1 24 rfl rfl
theorem dksX9_voyages_3 : cX9_voyages.data.toList.drop 71 = dktX9_voyages_3 := dk_seg dksX9_voyages_2 23 rfl rfl
theorem dksX9_voyages_4 : cX9_voyages.data.toList.drop 94 = dktX9_voyages_4 := dk_seg dksX9_voyages_3 23 rfl rfl
theorem dksX9_voyages_5 : cX9_voyages.data.toList.drop 116 = dktX9_voyages_5 := dk_seg dksX9_voyages_4 22 rfl rfl
theorem dksX9_voyages_6 : cX9_voyages.data.toList.drop 138 = dktX9_voyages_6 := dk_seg dksX9_voyages_5 22 rfl rfl
theorem dksX9_voyages_7 : cX9_voyages.data.toList.drop 161 = dktX9_voyages_7 := dk_seg dksX9_voyages_6 23 rfl rfl
theorem dX9_voyages_0 : decode cX9_voyages 0 = .ok (.aload_n 0, 1) := dk_42 (dk_at dksX9_voyages_0 0 rfl rfl)
theorem dX9_voyages_1 : decode cX9_voyages 1 = .ok (.iconst 0, 1) := dk_3 (dk_at dksX9_voyages_0 1 rfl rfl)
theorem dX9_voyages_2 : decode cX9_voyages 2 = .ok (.putfield 112, 3) := dk_181 0 112 (dk_at dksX9_voyages_0 2 rfl rfl)
theorem dX9_voyages_5 : decode cX9_voyages 5 = .ok (.iload_n 2, 1) := dk_28 (dk_at dksX9_voyages_0 5 rfl rfl)
theorem dX9_voyages_6 : decode cX9_voyages 6 = .ok (.i2l, 1) := dk_133 (dk_at dksX9_voyages_0 6 rfl rfl)
theorem dX9_voyages_7 : decode cX9_voyages 7 = .ok (.lconst 1, 1) := dk_10 (dk_at dksX9_voyages_0 7 rfl rfl)
theorem dX9_voyages_8 : decode cX9_voyages 8 = .ok (.ldc2_w 329, 3) := dk_20 1 73 (dk_at dksX9_voyages_0 8 rfl rfl)
theorem dX9_voyages_11 : decode cX9_voyages 11 = .ok (.invokestatic 129, 3) := dk_184 0 129 (dk_at dksX9_voyages_0 11 rfl rfl)
theorem dX9_voyages_14 : decode cX9_voyages 14 = .ok (.ifCond .ne 5, 3) := dk_154 0 5 (dk_at dksX9_voyages_0 14 rfl rfl)
theorem dX9_voyages_17 : decode cX9_voyages 17 = .ok (.iconst (-1), 1) := dk_2 (dk_at dksX9_voyages_0 17 rfl rfl)
theorem dX9_voyages_18 : decode cX9_voyages 18 = .ok (.ireturn, 1) := dk_172 (dk_at dksX9_voyages_0 18 rfl rfl)
theorem dX9_voyages_19 : decode cX9_voyages 19 = .ok (.aload_n 0, 1) := dk_42 (dk_at dksX9_voyages_0 19 rfl rfl)
theorem dX9_voyages_20 : decode cX9_voyages 20 = .ok (.iload_n 1, 1) := dk_27 (dk_at dksX9_voyages_0 20 rfl rfl)
theorem dX9_voyages_21 : decode cX9_voyages 21 = .ok (.putfield 444, 3) := dk_181 1 188 (dk_at dksX9_voyages_0 21 rfl rfl)
theorem dX9_voyages_24 : decode cX9_voyages 24 = .ok (.aload_n 0, 1) := dk_42 (dk_at dksX9_voyages_1 0 rfl rfl)
theorem dX9_voyages_25 : decode cX9_voyages 25 = .ok (.invokevirtual 368, 3) := dk_182 1 112 (dk_at dksX9_voyages_1 1 rfl rfl)
theorem dX9_voyages_28 : decode cX9_voyages 28 = .ok (.iconst 0, 1) := dk_3 (dk_at dksX9_voyages_1 4 rfl rfl)
theorem dX9_voyages_29 : decode cX9_voyages 29 = .ok (.istore_n 3, 1) := dk_62 (dk_at dksX9_voyages_1 5 rfl rfl)
theorem dX9_voyages_30 : decode cX9_voyages 30 = .ok (.iload_n 3, 1) := dk_29 (dk_at dksX9_voyages_1 6 rfl rfl)
theorem dX9_voyages_31 : decode cX9_voyages 31 = .ok (.iload_n 2, 1) := dk_28 (dk_at dksX9_voyages_1 7 rfl rfl)
theorem dX9_voyages_32 : decode cX9_voyages 32 = .ok (.if_icmp .ge 90, 3) := dk_162 0 90 (dk_at dksX9_voyages_1 8 rfl rfl)
theorem dX9_voyages_35 : decode cX9_voyages 35 = .ok (.aload_n 0, 1) := dk_42 (dk_at dksX9_voyages_1 11 rfl rfl)
theorem dX9_voyages_36 : decode cX9_voyages 36 = .ok (.iconst 5, 1) := dk_8 (dk_at dksX9_voyages_1 12 rfl rfl)
theorem dX9_voyages_37 : decode cX9_voyages 37 = .ok (.invokevirtual 448, 3) := dk_182 1 192 (dk_at dksX9_voyages_1 13 rfl rfl)
theorem dX9_voyages_40 : decode cX9_voyages 40 = .ok (.istore 4, 2) := dk_54 4 (dk_at dksX9_voyages_1 16 rfl rfl)
theorem dX9_voyages_42 : decode cX9_voyages 42 = .ok (.iload 4, 2) := dk_21 4 (dk_at dksX9_voyages_1 18 rfl rfl)
theorem dX9_voyages_44 : decode cX9_voyages 44 = .ok (.iconst 2, 1) := dk_5 (dk_at dksX9_voyages_1 20 rfl rfl)
theorem dX9_voyages_45 : decode cX9_voyages 45 = .ok (.if_icmp .ge 15, 3) := dk_162 0 15 (dk_at dksX9_voyages_1 21 rfl rfl)
theorem dX9_voyages_48 : decode cX9_voyages 48 = .ok (.aload_n 0, 1) := dk_42 (dk_at dksX9_voyages_2 0 rfl rfl)
theorem dX9_voyages_49 : decode cX9_voyages 49 = .ok (.aload_n 0, 1) := dk_42 (dk_at dksX9_voyages_2 1 rfl rfl)
theorem dX9_voyages_50 : decode cX9_voyages 50 = .ok (.getfield 42, 3) := dk_180 0 42 (dk_at dksX9_voyages_2 2 rfl rfl)
theorem dX9_voyages_53 : decode cX9_voyages 53 = .ok (.invokevirtual 307, 3) := dk_182 1 51 (dk_at dksX9_voyages_2 5 rfl rfl)
theorem dX9_voyages_56 : decode cX9_voyages 56 = .ok (.pop, 1) := dk_87 (dk_at dksX9_voyages_2 8 rfl rfl)
theorem dX9_voyages_57 : decode cX9_voyages 57 = .ok (.goto 59, 3) := dk_167 0 59 (dk_at dksX9_voyages_2 9 rfl rfl)
theorem dX9_voyages_60 : decode cX9_voyages 60 = .ok (.iload 4, 2) := dk_21 4 (dk_at dksX9_voyages_2 12 rfl rfl)
theorem dX9_voyages_62 : decode cX9_voyages 62 = .ok (.iconst 4, 1) := dk_7 (dk_at dksX9_voyages_2 14 rfl rfl)
theorem dX9_voyages_63 : decode cX9_voyages 63 = .ok (.if_icmp .ne 17, 3) := dk_160 0 17 (dk_at dksX9_voyages_2 15 rfl rfl)
theorem dX9_voyages_66 : decode cX9_voyages 66 = .ok (.aload_n 0, 1) := dk_42 (dk_at dksX9_voyages_2 18 rfl rfl)
theorem dX9_voyages_67 : decode cX9_voyages 67 = .ok (.aload_n 0, 1) := dk_42 (dk_at dksX9_voyages_2 19 rfl rfl)
theorem dX9_voyages_68 : decode cX9_voyages 68 = .ok (.getfield 42, 3) := dk_180 0 42 (dk_at dksX9_voyages_2 20 rfl rfl)
theorem dX9_voyages_71 : decode cX9_voyages 71 = .ok (.bipush 10, 2) := dk_16 10 (dk_at dksX9_voyages_3 0 rfl rfl)
theorem dX9_voyages_73 : decode cX9_voyages 73 = .ok (.invokevirtual 336, 3) := dk_182 1 80 (dk_at dksX9_voyages_3 2 rfl rfl)
theorem dX9_voyages_76 : decode cX9_voyages 76 = .ok (.pop, 1) := dk_87 (dk_at dksX9_voyages_3 5 rfl rfl)
theorem dX9_voyages_77 : decode cX9_voyages 77 = .ok (.goto 39, 3) := dk_167 0 39 (dk_at dksX9_voyages_3 6 rfl rfl)
theorem dX9_voyages_80 : decode cX9_voyages 80 = .ok (.aload_n 0, 1) := dk_42 (dk_at dksX9_voyages_3 9 rfl rfl)
theorem dX9_voyages_81 : decode cX9_voyages 81 = .ok (.getfield 126, 3) := dk_180 0 126 (dk_at dksX9_voyages_3 10 rfl rfl)
theorem dX9_voyages_84 : decode cX9_voyages 84 = .ok (.ifCond .le 32, 3) := dk_158 0 32 (dk_at dksX9_voyages_3 13 rfl rfl)
theorem dX9_voyages_87 : decode cX9_voyages 87 = .ok (.aload_n 0, 1) := dk_42 (dk_at dksX9_voyages_3 16 rfl rfl)
theorem dX9_voyages_88 : decode cX9_voyages 88 = .ok (.aload_n 0, 1) := dk_42 (dk_at dksX9_voyages_3 17 rfl rfl)
theorem dX9_voyages_89 : decode cX9_voyages 89 = .ok (.getfield 42, 3) := dk_180 0 42 (dk_at dksX9_voyages_3 18 rfl rfl)
theorem dX9_voyages_92 : decode cX9_voyages 92 = .ok (.aload_n 0, 1) := dk_42 (dk_at dksX9_voyages_3 21 rfl rfl)
theorem dX9_voyages_93 : decode cX9_voyages 93 = .ok (.aload_n 0, 1) := dk_42 (dk_at dksX9_voyages_3 22 rfl rfl)
theorem dX9_voyages_94 : decode cX9_voyages 94 = .ok (.getfield 126, 3) := dk_180 0 126 (dk_at dksX9_voyages_4 0 rfl rfl)
theorem dX9_voyages_97 : decode cX9_voyages 97 = .ok (.invokevirtual 448, 3) := dk_182 1 192 (dk_at dksX9_voyages_4 3 rfl rfl)
theorem dX9_voyages_100 : decode cX9_voyages 100 = .ok (.iload 4, 2) := dk_21 4 (dk_at dksX9_voyages_4 6 rfl rfl)
theorem dX9_voyages_102 : decode cX9_voyages 102 = .ok (.iconst 2, 1) := dk_5 (dk_at dksX9_voyages_4 8 rfl rfl)
theorem dX9_voyages_103 : decode cX9_voyages 103 = .ok (.if_icmp .ne 7, 3) := dk_160 0 7 (dk_at dksX9_voyages_4 9 rfl rfl)
theorem dX9_voyages_106 : decode cX9_voyages 106 = .ok (.iconst 3, 1) := dk_6 (dk_at dksX9_voyages_4 12 rfl rfl)
theorem dX9_voyages_107 : decode cX9_voyages 107 = .ok (.goto 5, 3) := dk_167 0 5 (dk_at dksX9_voyages_4 13 rfl rfl)
theorem dX9_voyages_110 : decode cX9_voyages 110 = .ok (.bipush (-3), 2) := dk_16 253 (dk_at dksX9_voyages_4 16 rfl rfl)
theorem dX9_voyages_112 : decode cX9_voyages 112 = .ok (.invokevirtual 342, 3) := dk_182 1 86 (dk_at dksX9_voyages_4 18 rfl rfl)
theorem dX9_voyages_115 : decode cX9_voyages 115 = .ok (.pop, 1) := dk_87 (dk_at dksX9_voyages_4 21 rfl rfl)
theorem dX9_voyages_116 : decode cX9_voyages 116 = .ok (.iinc 3 1, 3) := dk_132 3 1 (dk_at dksX9_voyages_5 0 rfl rfl)
theorem dX9_voyages_119 : decode cX9_voyages 119 = .ok (.goto (-89), 3) := dk_167 255 167 (dk_at dksX9_voyages_5 3 rfl rfl)
theorem dX9_voyages_122 : decode cX9_voyages 122 = .ok (.aload_n 0, 1) := dk_42 (dk_at dksX9_voyages_5 6 rfl rfl)
theorem dX9_voyages_123 : decode cX9_voyages 123 = .ok (.iconst 0, 1) := dk_3 (dk_at dksX9_voyages_5 7 rfl rfl)
theorem dX9_voyages_124 : decode cX9_voyages 124 = .ok (.putfield 119, 3) := dk_181 0 119 (dk_at dksX9_voyages_5 8 rfl rfl)
theorem dX9_voyages_127 : decode cX9_voyages 127 = .ok (.aload_n 0, 1) := dk_42 (dk_at dksX9_voyages_5 11 rfl rfl)
theorem dX9_voyages_128 : decode cX9_voyages 128 = .ok (.aload_n 0, 1) := dk_42 (dk_at dksX9_voyages_5 12 rfl rfl)
theorem dX9_voyages_129 : decode cX9_voyages 129 = .ok (.aload_n 0, 1) := dk_42 (dk_at dksX9_voyages_5 13 rfl rfl)
theorem dX9_voyages_130 : decode cX9_voyages 130 = .ok (.getfield 42, 3) := dk_180 0 42 (dk_at dksX9_voyages_5 14 rfl rfl)
theorem dX9_voyages_133 : decode cX9_voyages 133 = .ok (.iconst 0, 1) := dk_3 (dk_at dksX9_voyages_5 17 rfl rfl)
theorem dX9_voyages_134 : decode cX9_voyages 134 = .ok (.iconst (-1), 1) := dk_2 (dk_at dksX9_voyages_5 18 rfl rfl)
theorem dX9_voyages_135 : decode cX9_voyages 135 = .ok (.invokevirtual 270, 3) := dk_182 1 14 (dk_at dksX9_voyages_5 19 rfl rfl)
theorem dX9_voyages_138 : decode cX9_voyages 138 = .ok (.invokestatic 261, 3) := dk_184 1 5 (dk_at dksX9_voyages_6 0 rfl rfl)
theorem dX9_voyages_141 : decode cX9_voyages 141 = .ok (.i2l, 1) := dk_133 (dk_at dksX9_voyages_6 3 rfl rfl)
theorem dX9_voyages_142 : decode cX9_voyages 142 = .ok (.invokevirtual 122, 3) := dk_182 0 122 (dk_at dksX9_voyages_6 4 rfl rfl)
theorem dX9_voyages_145 : decode cX9_voyages 145 = .ok (.aload_n 0, 1) := dk_42 (dk_at dksX9_voyages_6 7 rfl rfl)
theorem dX9_voyages_146 : decode cX9_voyages 146 = .ok (.aload_n 0, 1) := dk_42 (dk_at dksX9_voyages_6 8 rfl rfl)
theorem dX9_voyages_147 : decode cX9_voyages 147 = .ok (.getfield 42, 3) := dk_180 0 42 (dk_at dksX9_voyages_6 9 rfl rfl)
theorem dX9_voyages_150 : decode cX9_voyages 150 = .ok (.bipush 16, 2) := dk_16 16 (dk_at dksX9_voyages_6 12 rfl rfl)
theorem dX9_voyages_152 : decode cX9_voyages 152 = .ok (.iaload, 1) := dk_46 (dk_at dksX9_voyages_6 14 rfl rfl)
theorem dX9_voyages_153 : decode cX9_voyages 153 = .ok (.i2l, 1) := dk_133 (dk_at dksX9_voyages_6 15 rfl rfl)
theorem dX9_voyages_154 : decode cX9_voyages 154 = .ok (.invokevirtual 122, 3) := dk_182 0 122 (dk_at dksX9_voyages_6 16 rfl rfl)
theorem dX9_voyages_157 : decode cX9_voyages 157 = .ok (.aload_n 0, 1) := dk_42 (dk_at dksX9_voyages_6 19 rfl rfl)
theorem dX9_voyages_158 : decode cX9_voyages 158 = .ok (.getfield 42, 3) := dk_180 0 42 (dk_at dksX9_voyages_6 20 rfl rfl)
theorem dX9_voyages_161 : decode cX9_voyages 161 = .ok (.bipush 17, 2) := dk_16 17 (dk_at dksX9_voyages_7 0 rfl rfl)
theorem dX9_voyages_163 : decode cX9_voyages 163 = .ok (.iaload, 1) := dk_46 (dk_at dksX9_voyages_7 2 rfl rfl)
theorem dX9_voyages_164 : decode cX9_voyages 164 = .ok (.ireturn, 1) := dk_172 (dk_at dksX9_voyages_7 3 rfl rfl)
abbrev cX9_draws : ByteArray := prog_15_method_107_code
def yX9_draws : MethodName := ⟨RX9, "draws", "(I)I"⟩
def dkwX9_draws_1 : List UInt8 := [112, 172]
abbrev dktX9_draws_1 : List UInt8 := dkwX9_draws_1 ++ []
def dkwX9_draws_0 : List UInt8 := [42, 42, 180, 1, 188, 19, 1, 191, 104, 17, 48, 57, 96, 181, 1, 188, 42, 180, 1, 188, 16, 16, 124, 27]
abbrev dktX9_draws_0 : List UInt8 := dkwX9_draws_0 ++ dktX9_draws_1
theorem dksX9_draws_0 : cX9_draws.data.toList.drop 0 = dktX9_draws_0 := by decide +kernel
theorem dksX9_draws_1 : cX9_draws.data.toList.drop 24 = dktX9_draws_1 := dk_seg dksX9_draws_0 24 rfl rfl
theorem dX9_draws_0 : decode cX9_draws 0 = .ok (.aload_n 0, 1) := dk_42 (dk_at dksX9_draws_0 0 rfl rfl)
theorem dX9_draws_1 : decode cX9_draws 1 = .ok (.aload_n 0, 1) := dk_42 (dk_at dksX9_draws_0 1 rfl rfl)
theorem dX9_draws_2 : decode cX9_draws 2 = .ok (.getfield 444, 3) := dk_180 1 188 (dk_at dksX9_draws_0 2 rfl rfl)
theorem dX9_draws_5 : decode cX9_draws 5 = .ok (.ldc_w 447, 3) := dk_19 1 191 (dk_at dksX9_draws_0 5 rfl rfl)
theorem dX9_draws_8 : decode cX9_draws 8 = .ok (.imul, 1) := dk_104 (dk_at dksX9_draws_0 8 rfl rfl)
theorem dX9_draws_9 : decode cX9_draws 9 = .ok (.sipush 12345, 3) := dk_17 48 57 (dk_at dksX9_draws_0 9 rfl rfl)
theorem dX9_draws_12 : decode cX9_draws 12 = .ok (.iadd, 1) := dk_96 (dk_at dksX9_draws_0 12 rfl rfl)
theorem dX9_draws_13 : decode cX9_draws 13 = .ok (.putfield 444, 3) := dk_181 1 188 (dk_at dksX9_draws_0 13 rfl rfl)
theorem dX9_draws_16 : decode cX9_draws 16 = .ok (.aload_n 0, 1) := dk_42 (dk_at dksX9_draws_0 16 rfl rfl)
theorem dX9_draws_17 : decode cX9_draws 17 = .ok (.getfield 444, 3) := dk_180 1 188 (dk_at dksX9_draws_0 17 rfl rfl)
theorem dX9_draws_20 : decode cX9_draws 20 = .ok (.bipush 16, 2) := dk_16 16 (dk_at dksX9_draws_0 20 rfl rfl)
theorem dX9_draws_22 : decode cX9_draws 22 = .ok (.iushr, 1) := dk_124 (dk_at dksX9_draws_0 22 rfl rfl)
theorem dX9_draws_23 : decode cX9_draws 23 = .ok (.iload_n 1, 1) := dk_27 (dk_at dksX9_draws_0 23 rfl rfl)
theorem dX9_draws_24 : decode cX9_draws 24 = .ok (.irem, 1) := dk_112 (dk_at dksX9_draws_1 0 rfl rfl)
theorem dX9_draws_25 : decode cX9_draws 25 = .ok (.ireturn, 1) := dk_172 (dk_at dksX9_draws_1 1 rfl rfl)
abbrev cX9_keep : ByteArray := prog_15_method_109_code
def yX9_keep : MethodName := ⟨RX9, "keep", "(I)Z"⟩
def dkwX9_keep_2 : List UInt8 := [16, 21, 27, 104, 28, 96, 42, 180, 0, 39, 28, 46, 79, 132, 2, 1, 167, 255, 230, 4, 172]
abbrev dktX9_keep_2 : List UInt8 := dkwX9_keep_2 ++ []
def dkwX9_keep_1 : List UInt8 := [4, 84, 42, 180, 0, 106, 27, 42, 180, 0, 207, 79, 3, 61, 28, 16, 21, 162, 0, 26, 42, 180, 0, 109]
abbrev dktX9_keep_1 : List UInt8 := dkwX9_keep_1 ++ dktX9_keep_2
def dkwX9_keep_0 : List UInt8 := [42, 3, 181, 0, 112, 27, 133, 9, 20, 1, 195, 184, 0, 129, 154, 0, 5, 3, 172, 42, 180, 0, 102, 27]
abbrev dktX9_keep_0 : List UInt8 := dkwX9_keep_0 ++ dktX9_keep_1
theorem dksX9_keep_0 : cX9_keep.data.toList.drop 0 = dktX9_keep_0 := by decide +kernel
theorem dksX9_keep_1 : cX9_keep.data.toList.drop 24 = dktX9_keep_1 := dk_seg dksX9_keep_0 24 rfl rfl
theorem dksX9_keep_2 : cX9_keep.data.toList.drop 48 = dktX9_keep_2 := dk_seg dksX9_keep_1 24 rfl rfl
theorem dX9_keep_0 : decode cX9_keep 0 = .ok (.aload_n 0, 1) := dk_42 (dk_at dksX9_keep_0 0 rfl rfl)
theorem dX9_keep_1 : decode cX9_keep 1 = .ok (.iconst 0, 1) := dk_3 (dk_at dksX9_keep_0 1 rfl rfl)
theorem dX9_keep_2 : decode cX9_keep 2 = .ok (.putfield 112, 3) := dk_181 0 112 (dk_at dksX9_keep_0 2 rfl rfl)
theorem dX9_keep_5 : decode cX9_keep 5 = .ok (.iload_n 1, 1) := dk_27 (dk_at dksX9_keep_0 5 rfl rfl)
theorem dX9_keep_6 : decode cX9_keep 6 = .ok (.i2l, 1) := dk_133 (dk_at dksX9_keep_0 6 rfl rfl)
theorem dX9_keep_7 : decode cX9_keep 7 = .ok (.lconst 0, 1) := dk_9 (dk_at dksX9_keep_0 7 rfl rfl)
theorem dX9_keep_8 : decode cX9_keep 8 = .ok (.ldc2_w 451, 3) := dk_20 1 195 (dk_at dksX9_keep_0 8 rfl rfl)
theorem dX9_keep_11 : decode cX9_keep 11 = .ok (.invokestatic 129, 3) := dk_184 0 129 (dk_at dksX9_keep_0 11 rfl rfl)
theorem dX9_keep_14 : decode cX9_keep 14 = .ok (.ifCond .ne 5, 3) := dk_154 0 5 (dk_at dksX9_keep_0 14 rfl rfl)
theorem dX9_keep_17 : decode cX9_keep 17 = .ok (.iconst 0, 1) := dk_3 (dk_at dksX9_keep_0 17 rfl rfl)
theorem dX9_keep_18 : decode cX9_keep 18 = .ok (.ireturn, 1) := dk_172 (dk_at dksX9_keep_0 18 rfl rfl)
theorem dX9_keep_19 : decode cX9_keep 19 = .ok (.aload_n 0, 1) := dk_42 (dk_at dksX9_keep_0 19 rfl rfl)
theorem dX9_keep_20 : decode cX9_keep 20 = .ok (.getfield 102, 3) := dk_180 0 102 (dk_at dksX9_keep_0 20 rfl rfl)
theorem dX9_keep_23 : decode cX9_keep 23 = .ok (.iload_n 1, 1) := dk_27 (dk_at dksX9_keep_0 23 rfl rfl)
theorem dX9_keep_24 : decode cX9_keep 24 = .ok (.iconst 1, 1) := dk_4 (dk_at dksX9_keep_1 0 rfl rfl)
theorem dX9_keep_25 : decode cX9_keep 25 = .ok (.bastore, 1) := dk_84 (dk_at dksX9_keep_1 1 rfl rfl)
theorem dX9_keep_26 : decode cX9_keep 26 = .ok (.aload_n 0, 1) := dk_42 (dk_at dksX9_keep_1 2 rfl rfl)
theorem dX9_keep_27 : decode cX9_keep 27 = .ok (.getfield 106, 3) := dk_180 0 106 (dk_at dksX9_keep_1 3 rfl rfl)
theorem dX9_keep_30 : decode cX9_keep 30 = .ok (.iload_n 1, 1) := dk_27 (dk_at dksX9_keep_1 6 rfl rfl)
theorem dX9_keep_31 : decode cX9_keep 31 = .ok (.aload_n 0, 1) := dk_42 (dk_at dksX9_keep_1 7 rfl rfl)
theorem dX9_keep_32 : decode cX9_keep 32 = .ok (.getfield 207, 3) := dk_180 0 207 (dk_at dksX9_keep_1 8 rfl rfl)
theorem dX9_keep_35 : decode cX9_keep 35 = .ok (.iastore, 1) := dk_79 (dk_at dksX9_keep_1 11 rfl rfl)
theorem dX9_keep_36 : decode cX9_keep 36 = .ok (.iconst 0, 1) := dk_3 (dk_at dksX9_keep_1 12 rfl rfl)
theorem dX9_keep_37 : decode cX9_keep 37 = .ok (.istore_n 2, 1) := dk_61 (dk_at dksX9_keep_1 13 rfl rfl)
theorem dX9_keep_38 : decode cX9_keep 38 = .ok (.iload_n 2, 1) := dk_28 (dk_at dksX9_keep_1 14 rfl rfl)
theorem dX9_keep_39 : decode cX9_keep 39 = .ok (.bipush 21, 2) := dk_16 21 (dk_at dksX9_keep_1 15 rfl rfl)
theorem dX9_keep_41 : decode cX9_keep 41 = .ok (.if_icmp .ge 26, 3) := dk_162 0 26 (dk_at dksX9_keep_1 17 rfl rfl)
theorem dX9_keep_44 : decode cX9_keep 44 = .ok (.aload_n 0, 1) := dk_42 (dk_at dksX9_keep_1 20 rfl rfl)
theorem dX9_keep_45 : decode cX9_keep 45 = .ok (.getfield 109, 3) := dk_180 0 109 (dk_at dksX9_keep_1 21 rfl rfl)
theorem dX9_keep_48 : decode cX9_keep 48 = .ok (.bipush 21, 2) := dk_16 21 (dk_at dksX9_keep_2 0 rfl rfl)
theorem dX9_keep_50 : decode cX9_keep 50 = .ok (.iload_n 1, 1) := dk_27 (dk_at dksX9_keep_2 2 rfl rfl)
theorem dX9_keep_51 : decode cX9_keep 51 = .ok (.imul, 1) := dk_104 (dk_at dksX9_keep_2 3 rfl rfl)
theorem dX9_keep_52 : decode cX9_keep 52 = .ok (.iload_n 2, 1) := dk_28 (dk_at dksX9_keep_2 4 rfl rfl)
theorem dX9_keep_53 : decode cX9_keep 53 = .ok (.iadd, 1) := dk_96 (dk_at dksX9_keep_2 5 rfl rfl)
theorem dX9_keep_54 : decode cX9_keep 54 = .ok (.aload_n 0, 1) := dk_42 (dk_at dksX9_keep_2 6 rfl rfl)
theorem dX9_keep_55 : decode cX9_keep 55 = .ok (.getfield 39, 3) := dk_180 0 39 (dk_at dksX9_keep_2 7 rfl rfl)
theorem dX9_keep_58 : decode cX9_keep 58 = .ok (.iload_n 2, 1) := dk_28 (dk_at dksX9_keep_2 10 rfl rfl)
theorem dX9_keep_59 : decode cX9_keep 59 = .ok (.iaload, 1) := dk_46 (dk_at dksX9_keep_2 11 rfl rfl)
theorem dX9_keep_60 : decode cX9_keep 60 = .ok (.iastore, 1) := dk_79 (dk_at dksX9_keep_2 12 rfl rfl)
theorem dX9_keep_61 : decode cX9_keep 61 = .ok (.iinc 2 1, 3) := dk_132 2 1 (dk_at dksX9_keep_2 13 rfl rfl)
theorem dX9_keep_64 : decode cX9_keep 64 = .ok (.goto (-26), 3) := dk_167 255 230 (dk_at dksX9_keep_2 16 rfl rfl)
theorem dX9_keep_67 : decode cX9_keep 67 = .ok (.iconst 1, 1) := dk_4 (dk_at dksX9_keep_2 19 rfl rfl)
theorem dX9_keep_68 : decode cX9_keep 68 = .ok (.ireturn, 1) := dk_172 (dk_at dksX9_keep_2 20 rfl rfl)
abbrev cX9_again : ByteArray := prog_15_method_110_code
def yX9_again : MethodName := ⟨RX9, "again", "(I)Z"⟩
def dkwX9_again_3 : List UInt8 := [167, 255, 230, 42, 3, 181, 0, 204, 4, 172]
abbrev dktX9_again_3 : List UInt8 := dkwX9_again_3 ++ []
def dkwX9_again_2 : List UInt8 := [162, 0, 26, 42, 180, 0, 39, 28, 42, 180, 0, 109, 16, 21, 27, 104, 28, 96, 46, 79, 132, 2, 1]
abbrev dktX9_again_2 : List UInt8 := dkwX9_again_2 ++ dktX9_again_3
def dkwX9_again_1 : List UInt8 := [153, 0, 16, 42, 180, 0, 106, 27, 46, 42, 180, 0, 207, 159, 0, 5, 3, 172, 3, 61, 28, 16, 21]
abbrev dktX9_again_1 : List UInt8 := dkwX9_again_1 ++ dktX9_again_2
def dkwX9_again_0 : List UInt8 := [42, 3, 181, 0, 112, 27, 133, 9, 20, 1, 195, 184, 0, 129, 153, 0, 25, 42, 180, 0, 102, 27, 51]
abbrev dktX9_again_0 : List UInt8 := dkwX9_again_0 ++ dktX9_again_1
theorem dksX9_again_0 : cX9_again.data.toList.drop 0 = dktX9_again_0 := by decide +kernel
theorem dksX9_again_1 : cX9_again.data.toList.drop 23 = dktX9_again_1 := dk_seg dksX9_again_0 23 rfl rfl
theorem dksX9_again_2 : cX9_again.data.toList.drop 46 = dktX9_again_2 := dk_seg dksX9_again_1 23 rfl rfl
theorem dksX9_again_3 : cX9_again.data.toList.drop 69 = dktX9_again_3 := dk_seg dksX9_again_2 23 rfl rfl
theorem dX9_again_0 : decode cX9_again 0 = .ok (.aload_n 0, 1) := dk_42 (dk_at dksX9_again_0 0 rfl rfl)
theorem dX9_again_1 : decode cX9_again 1 = .ok (.iconst 0, 1) := dk_3 (dk_at dksX9_again_0 1 rfl rfl)
theorem dX9_again_2 : decode cX9_again 2 = .ok (.putfield 112, 3) := dk_181 0 112 (dk_at dksX9_again_0 2 rfl rfl)
theorem dX9_again_5 : decode cX9_again 5 = .ok (.iload_n 1, 1) := dk_27 (dk_at dksX9_again_0 5 rfl rfl)
theorem dX9_again_6 : decode cX9_again 6 = .ok (.i2l, 1) := dk_133 (dk_at dksX9_again_0 6 rfl rfl)
theorem dX9_again_7 : decode cX9_again 7 = .ok (.lconst 0, 1) := dk_9 (dk_at dksX9_again_0 7 rfl rfl)
theorem dX9_again_8 : decode cX9_again 8 = .ok (.ldc2_w 451, 3) := dk_20 1 195 (dk_at dksX9_again_0 8 rfl rfl)
theorem dX9_again_11 : decode cX9_again 11 = .ok (.invokestatic 129, 3) := dk_184 0 129 (dk_at dksX9_again_0 11 rfl rfl)
theorem dX9_again_14 : decode cX9_again 14 = .ok (.ifCond .eq 25, 3) := dk_153 0 25 (dk_at dksX9_again_0 14 rfl rfl)
theorem dX9_again_17 : decode cX9_again 17 = .ok (.aload_n 0, 1) := dk_42 (dk_at dksX9_again_0 17 rfl rfl)
theorem dX9_again_18 : decode cX9_again 18 = .ok (.getfield 102, 3) := dk_180 0 102 (dk_at dksX9_again_0 18 rfl rfl)
theorem dX9_again_21 : decode cX9_again 21 = .ok (.iload_n 1, 1) := dk_27 (dk_at dksX9_again_0 21 rfl rfl)
theorem dX9_again_22 : decode cX9_again 22 = .ok (.baload, 1) := dk_51 (dk_at dksX9_again_0 22 rfl rfl)
theorem dX9_again_23 : decode cX9_again 23 = .ok (.ifCond .eq 16, 3) := dk_153 0 16 (dk_at dksX9_again_1 0 rfl rfl)
theorem dX9_again_26 : decode cX9_again 26 = .ok (.aload_n 0, 1) := dk_42 (dk_at dksX9_again_1 3 rfl rfl)
theorem dX9_again_27 : decode cX9_again 27 = .ok (.getfield 106, 3) := dk_180 0 106 (dk_at dksX9_again_1 4 rfl rfl)
theorem dX9_again_30 : decode cX9_again 30 = .ok (.iload_n 1, 1) := dk_27 (dk_at dksX9_again_1 7 rfl rfl)
theorem dX9_again_31 : decode cX9_again 31 = .ok (.iaload, 1) := dk_46 (dk_at dksX9_again_1 8 rfl rfl)
theorem dX9_again_32 : decode cX9_again 32 = .ok (.aload_n 0, 1) := dk_42 (dk_at dksX9_again_1 9 rfl rfl)
theorem dX9_again_33 : decode cX9_again 33 = .ok (.getfield 207, 3) := dk_180 0 207 (dk_at dksX9_again_1 10 rfl rfl)
theorem dX9_again_36 : decode cX9_again 36 = .ok (.if_icmp .eq 5, 3) := dk_159 0 5 (dk_at dksX9_again_1 13 rfl rfl)
theorem dX9_again_39 : decode cX9_again 39 = .ok (.iconst 0, 1) := dk_3 (dk_at dksX9_again_1 16 rfl rfl)
theorem dX9_again_40 : decode cX9_again 40 = .ok (.ireturn, 1) := dk_172 (dk_at dksX9_again_1 17 rfl rfl)
theorem dX9_again_41 : decode cX9_again 41 = .ok (.iconst 0, 1) := dk_3 (dk_at dksX9_again_1 18 rfl rfl)
theorem dX9_again_42 : decode cX9_again 42 = .ok (.istore_n 2, 1) := dk_61 (dk_at dksX9_again_1 19 rfl rfl)
theorem dX9_again_43 : decode cX9_again 43 = .ok (.iload_n 2, 1) := dk_28 (dk_at dksX9_again_1 20 rfl rfl)
theorem dX9_again_44 : decode cX9_again 44 = .ok (.bipush 21, 2) := dk_16 21 (dk_at dksX9_again_1 21 rfl rfl)
theorem dX9_again_46 : decode cX9_again 46 = .ok (.if_icmp .ge 26, 3) := dk_162 0 26 (dk_at dksX9_again_2 0 rfl rfl)
theorem dX9_again_49 : decode cX9_again 49 = .ok (.aload_n 0, 1) := dk_42 (dk_at dksX9_again_2 3 rfl rfl)
theorem dX9_again_50 : decode cX9_again 50 = .ok (.getfield 39, 3) := dk_180 0 39 (dk_at dksX9_again_2 4 rfl rfl)
theorem dX9_again_53 : decode cX9_again 53 = .ok (.iload_n 2, 1) := dk_28 (dk_at dksX9_again_2 7 rfl rfl)
theorem dX9_again_54 : decode cX9_again 54 = .ok (.aload_n 0, 1) := dk_42 (dk_at dksX9_again_2 8 rfl rfl)
theorem dX9_again_55 : decode cX9_again 55 = .ok (.getfield 109, 3) := dk_180 0 109 (dk_at dksX9_again_2 9 rfl rfl)
theorem dX9_again_58 : decode cX9_again 58 = .ok (.bipush 21, 2) := dk_16 21 (dk_at dksX9_again_2 12 rfl rfl)
theorem dX9_again_60 : decode cX9_again 60 = .ok (.iload_n 1, 1) := dk_27 (dk_at dksX9_again_2 14 rfl rfl)
theorem dX9_again_61 : decode cX9_again 61 = .ok (.imul, 1) := dk_104 (dk_at dksX9_again_2 15 rfl rfl)
theorem dX9_again_62 : decode cX9_again 62 = .ok (.iload_n 2, 1) := dk_28 (dk_at dksX9_again_2 16 rfl rfl)
theorem dX9_again_63 : decode cX9_again 63 = .ok (.iadd, 1) := dk_96 (dk_at dksX9_again_2 17 rfl rfl)
theorem dX9_again_64 : decode cX9_again 64 = .ok (.iaload, 1) := dk_46 (dk_at dksX9_again_2 18 rfl rfl)
theorem dX9_again_65 : decode cX9_again 65 = .ok (.iastore, 1) := dk_79 (dk_at dksX9_again_2 19 rfl rfl)
theorem dX9_again_66 : decode cX9_again 66 = .ok (.iinc 2 1, 3) := dk_132 2 1 (dk_at dksX9_again_2 20 rfl rfl)
theorem dX9_again_69 : decode cX9_again 69 = .ok (.goto (-26), 3) := dk_167 255 230 (dk_at dksX9_again_3 0 rfl rfl)
theorem dX9_again_72 : decode cX9_again 72 = .ok (.aload_n 0, 1) := dk_42 (dk_at dksX9_again_3 3 rfl rfl)
theorem dX9_again_73 : decode cX9_again 73 = .ok (.iconst 0, 1) := dk_3 (dk_at dksX9_again_3 4 rfl rfl)
theorem dX9_again_74 : decode cX9_again 74 = .ok (.putfield 204, 3) := dk_181 0 204 (dk_at dksX9_again_3 5 rfl rfl)
theorem dX9_again_77 : decode cX9_again 77 = .ok (.iconst 1, 1) := dk_4 (dk_at dksX9_again_3 8 rfl rfl)
theorem dX9_again_78 : decode cX9_again 78 = .ok (.ireturn, 1) := dk_172 (dk_at dksX9_again_3 9 rfl rfl)
abbrev cX9_count : ByteArray := prog_15_method_111_code
def yX9_count : MethodName := ⟨RX9, "count", "(I)I"⟩
def dkwX9_count_6 : List UInt8 := [180, 0, 204, 172, 42, 180, 0, 119, 172, 42, 180, 0, 136, 172, 16, 156, 172]
abbrev dktX9_count_6 : List UInt8 := dkwX9_count_6 ++ []
def dkwX9_count_5 : List UInt8 := [180, 0, 39, 5, 182, 0, 253, 172, 42, 180, 0, 13, 172, 42, 180, 1, 153, 172, 42, 180, 1, 170, 172, 42]
abbrev dktX9_count_5 : List UInt8 := dkwX9_count_5 ++ dktX9_count_6
def dkwX9_count_4 : List UInt8 := [46, 172, 42, 42, 180, 0, 39, 3, 182, 0, 253, 172, 42, 42, 180, 0, 39, 4, 182, 0, 253, 172, 42, 42]
abbrev dktX9_count_4 : List UInt8 := dkwX9_count_4 ++ dktX9_count_5
def dkwX9_count_3 : List UInt8 := [46, 172, 42, 180, 0, 39, 16, 18, 46, 172, 42, 180, 0, 39, 16, 19, 46, 172, 42, 180, 0, 39, 16, 20]
abbrev dktX9_count_3 : List UInt8 := dkwX9_count_3 ++ dktX9_count_4
def dkwX9_count_2 : List UInt8 := [42, 180, 0, 126, 172, 42, 180, 0, 133, 172, 42, 180, 0, 39, 16, 16, 46, 172, 42, 180, 0, 39, 16, 17]
abbrev dktX9_count_2 : List UInt8 := dkwX9_count_2 ++ dktX9_count_3
def dkwX9_count_1 : List UInt8 := [170, 0, 0, 0, 0, 188, 0, 0, 0, 0, 0, 0, 0, 15, 0, 0, 0, 78, 0, 0, 0, 83, 0, 0, 0, 88, 0, 0, 0, 96, 0, 0, 0, 104, 0, 0, 0, 112, 0, 0, 0, 120, 0, 0, 0, 128, 0, 0, 0, 138, 0, 0, 0, 148, 0, 0, 0, 158, 0, 0, 0, 163, 0, 0, 0, 168, 0, 0, 0, 173, 0, 0, 0, 178, 0, 0, 0, 183]
abbrev dktX9_count_1 : List UInt8 := dkwX9_count_1 ++ dktX9_count_2
def dkwX9_count_0 : List UInt8 := [42, 3, 181, 0, 112, 27]
abbrev dktX9_count_0 : List UInt8 := dkwX9_count_0 ++ dktX9_count_1
theorem dksX9_count_0 : cX9_count.data.toList.drop 0 = dktX9_count_0 := by decide +kernel
theorem dksX9_count_1 : cX9_count.data.toList.drop 6 = dktX9_count_1 := dk_seg dksX9_count_0 6 rfl rfl
theorem dksX9_count_2 : cX9_count.data.toList.drop 84 = dktX9_count_2 := dk_seg dksX9_count_1 78 rfl rfl
theorem dksX9_count_3 : cX9_count.data.toList.drop 108 = dktX9_count_3 := dk_seg dksX9_count_2 24 rfl rfl
theorem dksX9_count_4 : cX9_count.data.toList.drop 132 = dktX9_count_4 := dk_seg dksX9_count_3 24 rfl rfl
theorem dksX9_count_5 : cX9_count.data.toList.drop 156 = dktX9_count_5 := dk_seg dksX9_count_4 24 rfl rfl
theorem dksX9_count_6 : cX9_count.data.toList.drop 180 = dktX9_count_6 := dk_seg dksX9_count_5 24 rfl rfl
theorem dX9_count_0 : decode cX9_count 0 = .ok (.aload_n 0, 1) := dk_42 (dk_at dksX9_count_0 0 rfl rfl)
theorem dX9_count_1 : decode cX9_count 1 = .ok (.iconst 0, 1) := dk_3 (dk_at dksX9_count_0 1 rfl rfl)
theorem dX9_count_2 : decode cX9_count 2 = .ok (.putfield 112, 3) := dk_181 0 112 (dk_at dksX9_count_0 2 rfl rfl)
theorem dX9_count_5 : decode cX9_count 5 = .ok (.iload_n 1, 1) := dk_27 (dk_at dksX9_count_0 5 rfl rfl)
theorem dX9_count_6 : decode cX9_count 6 = .ok (.tableswitch 188 0 15 #[78, 83, 88, 96, 104, 112, 120, 128, 138, 148, 158, 163, 168, 173, 178, 183], 78) := by decide +kernel
theorem dX9_count_84 : decode cX9_count 84 = .ok (.aload_n 0, 1) := dk_42 (dk_at dksX9_count_2 0 rfl rfl)
theorem dX9_count_85 : decode cX9_count 85 = .ok (.getfield 126, 3) := dk_180 0 126 (dk_at dksX9_count_2 1 rfl rfl)
theorem dX9_count_88 : decode cX9_count 88 = .ok (.ireturn, 1) := dk_172 (dk_at dksX9_count_2 4 rfl rfl)
theorem dX9_count_89 : decode cX9_count 89 = .ok (.aload_n 0, 1) := dk_42 (dk_at dksX9_count_2 5 rfl rfl)
theorem dX9_count_90 : decode cX9_count 90 = .ok (.getfield 133, 3) := dk_180 0 133 (dk_at dksX9_count_2 6 rfl rfl)
theorem dX9_count_93 : decode cX9_count 93 = .ok (.ireturn, 1) := dk_172 (dk_at dksX9_count_2 9 rfl rfl)
theorem dX9_count_94 : decode cX9_count 94 = .ok (.aload_n 0, 1) := dk_42 (dk_at dksX9_count_2 10 rfl rfl)
theorem dX9_count_95 : decode cX9_count 95 = .ok (.getfield 39, 3) := dk_180 0 39 (dk_at dksX9_count_2 11 rfl rfl)
theorem dX9_count_98 : decode cX9_count 98 = .ok (.bipush 16, 2) := dk_16 16 (dk_at dksX9_count_2 14 rfl rfl)
theorem dX9_count_100 : decode cX9_count 100 = .ok (.iaload, 1) := dk_46 (dk_at dksX9_count_2 16 rfl rfl)
theorem dX9_count_101 : decode cX9_count 101 = .ok (.ireturn, 1) := dk_172 (dk_at dksX9_count_2 17 rfl rfl)
theorem dX9_count_102 : decode cX9_count 102 = .ok (.aload_n 0, 1) := dk_42 (dk_at dksX9_count_2 18 rfl rfl)
theorem dX9_count_103 : decode cX9_count 103 = .ok (.getfield 39, 3) := dk_180 0 39 (dk_at dksX9_count_2 19 rfl rfl)
theorem dX9_count_106 : decode cX9_count 106 = .ok (.bipush 17, 2) := dk_16 17 (dk_at dksX9_count_2 22 rfl rfl)
theorem dX9_count_108 : decode cX9_count 108 = .ok (.iaload, 1) := dk_46 (dk_at dksX9_count_3 0 rfl rfl)
theorem dX9_count_109 : decode cX9_count 109 = .ok (.ireturn, 1) := dk_172 (dk_at dksX9_count_3 1 rfl rfl)
theorem dX9_count_110 : decode cX9_count 110 = .ok (.aload_n 0, 1) := dk_42 (dk_at dksX9_count_3 2 rfl rfl)
theorem dX9_count_111 : decode cX9_count 111 = .ok (.getfield 39, 3) := dk_180 0 39 (dk_at dksX9_count_3 3 rfl rfl)
theorem dX9_count_114 : decode cX9_count 114 = .ok (.bipush 18, 2) := dk_16 18 (dk_at dksX9_count_3 6 rfl rfl)
theorem dX9_count_116 : decode cX9_count 116 = .ok (.iaload, 1) := dk_46 (dk_at dksX9_count_3 8 rfl rfl)
theorem dX9_count_117 : decode cX9_count 117 = .ok (.ireturn, 1) := dk_172 (dk_at dksX9_count_3 9 rfl rfl)
theorem dX9_count_118 : decode cX9_count 118 = .ok (.aload_n 0, 1) := dk_42 (dk_at dksX9_count_3 10 rfl rfl)
theorem dX9_count_119 : decode cX9_count 119 = .ok (.getfield 39, 3) := dk_180 0 39 (dk_at dksX9_count_3 11 rfl rfl)
theorem dX9_count_122 : decode cX9_count 122 = .ok (.bipush 19, 2) := dk_16 19 (dk_at dksX9_count_3 14 rfl rfl)
theorem dX9_count_124 : decode cX9_count 124 = .ok (.iaload, 1) := dk_46 (dk_at dksX9_count_3 16 rfl rfl)
theorem dX9_count_125 : decode cX9_count 125 = .ok (.ireturn, 1) := dk_172 (dk_at dksX9_count_3 17 rfl rfl)
theorem dX9_count_126 : decode cX9_count 126 = .ok (.aload_n 0, 1) := dk_42 (dk_at dksX9_count_3 18 rfl rfl)
theorem dX9_count_127 : decode cX9_count 127 = .ok (.getfield 39, 3) := dk_180 0 39 (dk_at dksX9_count_3 19 rfl rfl)
theorem dX9_count_130 : decode cX9_count 130 = .ok (.bipush 20, 2) := dk_16 20 (dk_at dksX9_count_3 22 rfl rfl)
theorem dX9_count_132 : decode cX9_count 132 = .ok (.iaload, 1) := dk_46 (dk_at dksX9_count_4 0 rfl rfl)
theorem dX9_count_133 : decode cX9_count 133 = .ok (.ireturn, 1) := dk_172 (dk_at dksX9_count_4 1 rfl rfl)
theorem dX9_count_134 : decode cX9_count 134 = .ok (.aload_n 0, 1) := dk_42 (dk_at dksX9_count_4 2 rfl rfl)
theorem dX9_count_135 : decode cX9_count 135 = .ok (.aload_n 0, 1) := dk_42 (dk_at dksX9_count_4 3 rfl rfl)
theorem dX9_count_136 : decode cX9_count 136 = .ok (.getfield 39, 3) := dk_180 0 39 (dk_at dksX9_count_4 4 rfl rfl)
theorem dX9_count_139 : decode cX9_count 139 = .ok (.iconst 0, 1) := dk_3 (dk_at dksX9_count_4 7 rfl rfl)
theorem dX9_count_140 : decode cX9_count 140 = .ok (.invokevirtual 253, 3) := dk_182 0 253 (dk_at dksX9_count_4 8 rfl rfl)
theorem dX9_count_143 : decode cX9_count 143 = .ok (.ireturn, 1) := dk_172 (dk_at dksX9_count_4 11 rfl rfl)
theorem dX9_count_144 : decode cX9_count 144 = .ok (.aload_n 0, 1) := dk_42 (dk_at dksX9_count_4 12 rfl rfl)
theorem dX9_count_145 : decode cX9_count 145 = .ok (.aload_n 0, 1) := dk_42 (dk_at dksX9_count_4 13 rfl rfl)
theorem dX9_count_146 : decode cX9_count 146 = .ok (.getfield 39, 3) := dk_180 0 39 (dk_at dksX9_count_4 14 rfl rfl)
theorem dX9_count_149 : decode cX9_count 149 = .ok (.iconst 1, 1) := dk_4 (dk_at dksX9_count_4 17 rfl rfl)
theorem dX9_count_150 : decode cX9_count 150 = .ok (.invokevirtual 253, 3) := dk_182 0 253 (dk_at dksX9_count_4 18 rfl rfl)
theorem dX9_count_153 : decode cX9_count 153 = .ok (.ireturn, 1) := dk_172 (dk_at dksX9_count_4 21 rfl rfl)
theorem dX9_count_154 : decode cX9_count 154 = .ok (.aload_n 0, 1) := dk_42 (dk_at dksX9_count_4 22 rfl rfl)
theorem dX9_count_155 : decode cX9_count 155 = .ok (.aload_n 0, 1) := dk_42 (dk_at dksX9_count_4 23 rfl rfl)
theorem dX9_count_156 : decode cX9_count 156 = .ok (.getfield 39, 3) := dk_180 0 39 (dk_at dksX9_count_5 0 rfl rfl)
theorem dX9_count_159 : decode cX9_count 159 = .ok (.iconst 2, 1) := dk_5 (dk_at dksX9_count_5 3 rfl rfl)
theorem dX9_count_160 : decode cX9_count 160 = .ok (.invokevirtual 253, 3) := dk_182 0 253 (dk_at dksX9_count_5 4 rfl rfl)
theorem dX9_count_163 : decode cX9_count 163 = .ok (.ireturn, 1) := dk_172 (dk_at dksX9_count_5 7 rfl rfl)
theorem dX9_count_164 : decode cX9_count 164 = .ok (.aload_n 0, 1) := dk_42 (dk_at dksX9_count_5 8 rfl rfl)
theorem dX9_count_165 : decode cX9_count 165 = .ok (.getfield 13, 3) := dk_180 0 13 (dk_at dksX9_count_5 9 rfl rfl)
theorem dX9_count_168 : decode cX9_count 168 = .ok (.ireturn, 1) := dk_172 (dk_at dksX9_count_5 12 rfl rfl)
theorem dX9_count_169 : decode cX9_count 169 = .ok (.aload_n 0, 1) := dk_42 (dk_at dksX9_count_5 13 rfl rfl)
theorem dX9_count_170 : decode cX9_count 170 = .ok (.getfield 409, 3) := dk_180 1 153 (dk_at dksX9_count_5 14 rfl rfl)
theorem dX9_count_173 : decode cX9_count 173 = .ok (.ireturn, 1) := dk_172 (dk_at dksX9_count_5 17 rfl rfl)
theorem dX9_count_174 : decode cX9_count 174 = .ok (.aload_n 0, 1) := dk_42 (dk_at dksX9_count_5 18 rfl rfl)
theorem dX9_count_175 : decode cX9_count 175 = .ok (.getfield 426, 3) := dk_180 1 170 (dk_at dksX9_count_5 19 rfl rfl)
theorem dX9_count_178 : decode cX9_count 178 = .ok (.ireturn, 1) := dk_172 (dk_at dksX9_count_5 22 rfl rfl)
theorem dX9_count_179 : decode cX9_count 179 = .ok (.aload_n 0, 1) := dk_42 (dk_at dksX9_count_5 23 rfl rfl)
theorem dX9_count_180 : decode cX9_count 180 = .ok (.getfield 204, 3) := dk_180 0 204 (dk_at dksX9_count_6 0 rfl rfl)
theorem dX9_count_183 : decode cX9_count 183 = .ok (.ireturn, 1) := dk_172 (dk_at dksX9_count_6 3 rfl rfl)
theorem dX9_count_184 : decode cX9_count 184 = .ok (.aload_n 0, 1) := dk_42 (dk_at dksX9_count_6 4 rfl rfl)
theorem dX9_count_185 : decode cX9_count 185 = .ok (.getfield 119, 3) := dk_180 0 119 (dk_at dksX9_count_6 5 rfl rfl)
theorem dX9_count_188 : decode cX9_count 188 = .ok (.ireturn, 1) := dk_172 (dk_at dksX9_count_6 8 rfl rfl)
theorem dX9_count_189 : decode cX9_count 189 = .ok (.aload_n 0, 1) := dk_42 (dk_at dksX9_count_6 9 rfl rfl)
theorem dX9_count_190 : decode cX9_count 190 = .ok (.getfield 136, 3) := dk_180 0 136 (dk_at dksX9_count_6 10 rfl rfl)
theorem dX9_count_193 : decode cX9_count 193 = .ok (.ireturn, 1) := dk_172 (dk_at dksX9_count_6 13 rfl rfl)
theorem dX9_count_194 : decode cX9_count 194 = .ok (.bipush (-100), 2) := dk_16 156 (dk_at dksX9_count_6 14 rfl rfl)
theorem dX9_count_196 : decode cX9_count 196 = .ok (.ireturn, 1) := dk_172 (dk_at dksX9_count_6 16 rfl rfl)
abbrev cX9_row : ByteArray := prog_15_method_112_code
def yX9_row : MethodName := ⟨RX9, "row", "(I)J"⟩
def dkwX9_row_1 : List UInt8 := [181, 0, 112, 9, 173, 42, 180, 0, 9, 27, 47, 173]
abbrev dktX9_row_1 : List UInt8 := dkwX9_row_1 ++ []
def dkwX9_row_0 : List UInt8 := [42, 3, 181, 0, 112, 27, 133, 9, 42, 180, 0, 119, 4, 100, 133, 184, 0, 129, 154, 0, 10, 42, 4]
abbrev dktX9_row_0 : List UInt8 := dkwX9_row_0 ++ dktX9_row_1
theorem dksX9_row_0 : cX9_row.data.toList.drop 0 = dktX9_row_0 := by decide +kernel
theorem dksX9_row_1 : cX9_row.data.toList.drop 23 = dktX9_row_1 := dk_seg dksX9_row_0 23 rfl rfl
theorem dX9_row_0 : decode cX9_row 0 = .ok (.aload_n 0, 1) := dk_42 (dk_at dksX9_row_0 0 rfl rfl)
theorem dX9_row_1 : decode cX9_row 1 = .ok (.iconst 0, 1) := dk_3 (dk_at dksX9_row_0 1 rfl rfl)
theorem dX9_row_2 : decode cX9_row 2 = .ok (.putfield 112, 3) := dk_181 0 112 (dk_at dksX9_row_0 2 rfl rfl)
theorem dX9_row_5 : decode cX9_row 5 = .ok (.iload_n 1, 1) := dk_27 (dk_at dksX9_row_0 5 rfl rfl)
theorem dX9_row_6 : decode cX9_row 6 = .ok (.i2l, 1) := dk_133 (dk_at dksX9_row_0 6 rfl rfl)
theorem dX9_row_7 : decode cX9_row 7 = .ok (.lconst 0, 1) := dk_9 (dk_at dksX9_row_0 7 rfl rfl)
theorem dX9_row_8 : decode cX9_row 8 = .ok (.aload_n 0, 1) := dk_42 (dk_at dksX9_row_0 8 rfl rfl)
theorem dX9_row_9 : decode cX9_row 9 = .ok (.getfield 119, 3) := dk_180 0 119 (dk_at dksX9_row_0 9 rfl rfl)
theorem dX9_row_12 : decode cX9_row 12 = .ok (.iconst 1, 1) := dk_4 (dk_at dksX9_row_0 12 rfl rfl)
theorem dX9_row_13 : decode cX9_row 13 = .ok (.isub, 1) := dk_100 (dk_at dksX9_row_0 13 rfl rfl)
theorem dX9_row_14 : decode cX9_row 14 = .ok (.i2l, 1) := dk_133 (dk_at dksX9_row_0 14 rfl rfl)
theorem dX9_row_15 : decode cX9_row 15 = .ok (.invokestatic 129, 3) := dk_184 0 129 (dk_at dksX9_row_0 15 rfl rfl)
theorem dX9_row_18 : decode cX9_row 18 = .ok (.ifCond .ne 10, 3) := dk_154 0 10 (dk_at dksX9_row_0 18 rfl rfl)
theorem dX9_row_21 : decode cX9_row 21 = .ok (.aload_n 0, 1) := dk_42 (dk_at dksX9_row_0 21 rfl rfl)
theorem dX9_row_22 : decode cX9_row 22 = .ok (.iconst 1, 1) := dk_4 (dk_at dksX9_row_0 22 rfl rfl)
theorem dX9_row_23 : decode cX9_row 23 = .ok (.putfield 112, 3) := dk_181 0 112 (dk_at dksX9_row_1 0 rfl rfl)
theorem dX9_row_26 : decode cX9_row 26 = .ok (.lconst 0, 1) := dk_9 (dk_at dksX9_row_1 3 rfl rfl)
theorem dX9_row_27 : decode cX9_row 27 = .ok (.lreturn, 1) := dk_173 (dk_at dksX9_row_1 4 rfl rfl)
theorem dX9_row_28 : decode cX9_row 28 = .ok (.aload_n 0, 1) := dk_42 (dk_at dksX9_row_1 5 rfl rfl)
theorem dX9_row_29 : decode cX9_row 29 = .ok (.getfield 9, 3) := dk_180 0 9 (dk_at dksX9_row_1 6 rfl rfl)
theorem dX9_row_32 : decode cX9_row 32 = .ok (.iload_n 1, 1) := dk_27 (dk_at dksX9_row_1 9 rfl rfl)
theorem dX9_row_33 : decode cX9_row 33 = .ok (.laload, 1) := dk_47 (dk_at dksX9_row_1 10 rfl rfl)
theorem dX9_row_34 : decode cX9_row 34 = .ok (.lreturn, 1) := dk_173 (dk_at dksX9_row_1 11 rfl rfl)
theorem q99 : (Jvm.Cond.initialized "TreesBeforeMenModel") ∈ lw_all := lw_g (lw_at lw_m1 9 rfl) rfl
theorem q1225 : (Jvm.Cond.instantiable "TreesBeforeMenModel" (53 : Nat)) ∈ lw_all := lw_g (lw_at lw_m5 175 rfl) rfl
theorem q1227 : (Jvm.Cond.instanceMethod ({ cls := "TreesBeforeMenModel", name := "<init>", desc := "()V" } : Jvm.MethodName)) ∈ lw_all := lw_g (lw_at lw_m5 177 rfl) rfl
theorem q1228 : (Jvm.Cond.code ({ cls := "TreesBeforeMenModel", name := "<init>", desc := "()V" } : Jvm.MethodName) prog_15_method_1_code (1 : Nat) (Option.none : Option Jvm.ClassFile.FieldType)) ∈ lw_all := lw_g (lw_at lw_m5 178 rfl) rfl
theorem q1229 : (Jvm.Cond.methodLink "TreesBeforeMenModel" (3 : Nat) ({ cls := "java/lang/Object", name := "<init>", desc := "()V" } : Jvm.MethodName)) ∈ lw_all := lw_g (lw_at lw_m5 179 rfl) rfl
theorem q1230 : (Jvm.Cond.fieldLink "TreesBeforeMenModel" (112 : Nat) "TreesBeforeMenModel" "thrown" "I") ∈ lw_all := lw_g (lw_at lw_m5 180 rfl) rfl
theorem q1231 : (Jvm.Cond.fieldLink "TreesBeforeMenModel" (119 : Nat) "TreesBeforeMenModel" "told" "I") ∈ lw_all := lw_g (lw_at lw_m5 181 rfl) rfl
theorem q1232 : (Jvm.Cond.fieldLink "TreesBeforeMenModel" (9 : Nat) "TreesBeforeMenModel" "row" "[J") ∈ lw_all := lw_g (lw_at lw_m5 182 rfl) rfl
theorem q1233 : (Jvm.Cond.fieldLink "TreesBeforeMenModel" (126 : Nat) "TreesBeforeMenModel" "men" "I") ∈ lw_all := lw_g (lw_at lw_m5 183 rfl) rfl
theorem q1234 : (Jvm.Cond.fieldLink "TreesBeforeMenModel" (133 : Nat) "TreesBeforeMenModel" "islands" "I") ∈ lw_all := lw_g (lw_at lw_m5 184 rfl) rfl
theorem q1235 : (Jvm.Cond.fieldLink "TreesBeforeMenModel" (207 : Nat) "TreesBeforeMenModel" "changes" "I") ∈ lw_all := lw_g (lw_at lw_m5 185 rfl) rfl
theorem q1236 : (Jvm.Cond.fieldLink "TreesBeforeMenModel" (13 : Nat) "TreesBeforeMenModel" "skyLong" "I") ∈ lw_all := lw_g (lw_at lw_m5 186 rfl) rfl
theorem q1237 : (Jvm.Cond.fieldLink "TreesBeforeMenModel" (17 : Nat) "TreesBeforeMenModel" "sky" "[I") ∈ lw_all := lw_g (lw_at lw_m5 187 rfl) rfl
theorem q1238 : (Jvm.Cond.fieldLink "TreesBeforeMenModel" (21 : Nat) "TreesBeforeMenModel" "temper" "[I") ∈ lw_all := lw_g (lw_at lw_m5 188 rfl) rfl
theorem q1239 : (Jvm.Cond.fieldLink "TreesBeforeMenModel" (24 : Nat) "TreesBeforeMenModel" "need" "[I") ∈ lw_all := lw_g (lw_at lw_m5 189 rfl) rfl
theorem q1240 : (Jvm.Cond.fieldLink "TreesBeforeMenModel" (27 : Nat) "TreesBeforeMenModel" "kind" "[I") ∈ lw_all := lw_g (lw_at lw_m5 190 rfl) rfl
theorem q1241 : (Jvm.Cond.fieldLink "TreesBeforeMenModel" (30 : Nat) "TreesBeforeMenModel" "way" "[I") ∈ lw_all := lw_g (lw_at lw_m5 191 rfl) rfl
theorem q1242 : (Jvm.Cond.fieldLink "TreesBeforeMenModel" (33 : Nat) "TreesBeforeMenModel" "bread" "[I") ∈ lw_all := lw_g (lw_at lw_m5 192 rfl) rfl
theorem q1243 : (Jvm.Cond.fieldLink "TreesBeforeMenModel" (36 : Nat) "TreesBeforeMenModel" "lost" "[I") ∈ lw_all := lw_g (lw_at lw_m5 193 rfl) rfl
theorem q1244 : (Jvm.Cond.fieldLink "TreesBeforeMenModel" (39 : Nat) "TreesBeforeMenModel" "now" "[I") ∈ lw_all := lw_g (lw_at lw_m5 194 rfl) rfl
theorem q1245 : (Jvm.Cond.fieldLink "TreesBeforeMenModel" (42 : Nat) "TreesBeforeMenModel" "then" "[I") ∈ lw_all := lw_g (lw_at lw_m5 195 rfl) rfl
theorem q1246 : (Jvm.Cond.fieldLink "TreesBeforeMenModel" (45 : Nat) "TreesBeforeMenModel" "tape" "[I") ∈ lw_all := lw_g (lw_at lw_m5 196 rfl) rfl
theorem q1247 : (Jvm.Cond.fieldLink "TreesBeforeMenModel" (136 : Nat) "TreesBeforeMenModel" "taped" "I") ∈ lw_all := lw_g (lw_at lw_m5 197 rfl) rfl
theorem q1248 : (Jvm.Cond.fieldLink "TreesBeforeMenModel" (139 : Nat) "TreesBeforeMenModel" "at" "I") ∈ lw_all := lw_g (lw_at lw_m5 198 rfl) rfl
theorem q1249 : (Jvm.Cond.fieldLink "TreesBeforeMenModel" (151 : Nat) "TreesBeforeMenModel" "to" "I") ∈ lw_all := lw_g (lw_at lw_m5 199 rfl) rfl
theorem q1250 : (Jvm.Cond.fieldLink "TreesBeforeMenModel" (142 : Nat) "TreesBeforeMenModel" "nest" "I") ∈ lw_all := lw_g (lw_at lw_m5 200 rfl) rfl
theorem q1251 : (Jvm.Cond.fieldLink "TreesBeforeMenModel" (48 : Nat) "TreesBeforeMenModel" "read" "[I") ∈ lw_all := lw_g (lw_at lw_m5 201 rfl) rfl
theorem q1252 : (Jvm.Cond.fieldLink "TreesBeforeMenModel" (180 : Nat) "TreesBeforeMenModel" "readMany" "I") ∈ lw_all := lw_g (lw_at lw_m5 202 rfl) rfl
theorem q1253 : (Jvm.Cond.fieldLink "TreesBeforeMenModel" (51 : Nat) "TreesBeforeMenModel" "readSky" "[I") ∈ lw_all := lw_g (lw_at lw_m5 203 rfl) rfl
theorem q1254 : (Jvm.Cond.fieldLink "TreesBeforeMenModel" (54 : Nat) "TreesBeforeMenModel" "code" "[I") ∈ lw_all := lw_g (lw_at lw_m5 204 rfl) rfl
theorem q1255 : (Jvm.Cond.fieldLink "TreesBeforeMenModel" (57 : Nat) "TreesBeforeMenModel" "readCode" "[I") ∈ lw_all := lw_g (lw_at lw_m5 205 rfl) rfl
theorem q1256 : (Jvm.Cond.fieldLink "TreesBeforeMenModel" (239 : Nat) "TreesBeforeMenModel" "codeLong" "I") ∈ lw_all := lw_g (lw_at lw_m5 206 rfl) rfl
theorem q1257 : (Jvm.Cond.fieldLink "TreesBeforeMenModel" (218 : Nat) "TreesBeforeMenModel" "readLong" "I") ∈ lw_all := lw_g (lw_at lw_m5 207 rfl) rfl
theorem q1258 : (Jvm.Cond.fieldLink "TreesBeforeMenModel" (60 : Nat) "TreesBeforeMenModel" "stack" "[I") ∈ lw_all := lw_g (lw_at lw_m5 208 rfl) rfl
theorem q1259 : (Jvm.Cond.fieldLink "TreesBeforeMenModel" (63 : Nat) "TreesBeforeMenModel" "asked" "[I") ∈ lw_all := lw_g (lw_at lw_m5 209 rfl) rfl
theorem q1260 : (Jvm.Cond.fieldLink "TreesBeforeMenModel" (204 : Nat) "TreesBeforeMenModel" "undos" "I") ∈ lw_all := lw_g (lw_at lw_m5 210 rfl) rfl
theorem q1261 : (Jvm.Cond.fieldLink "TreesBeforeMenModel" (66 : Nat) "TreesBeforeMenModel" "undone" "[I") ∈ lw_all := lw_g (lw_at lw_m5 211 rfl) rfl
theorem q1262 : (Jvm.Cond.fieldLink "TreesBeforeMenModel" (317 : Nat) "TreesBeforeMenModel" "putBits" "I") ∈ lw_all := lw_g (lw_at lw_m5 212 rfl) rfl
theorem q1263 : (Jvm.Cond.fieldLink "TreesBeforeMenModel" (69 : Nat) "TreesBeforeMenModel" "actSign" "[I") ∈ lw_all := lw_g (lw_at lw_m5 213 rfl) rfl
theorem q1264 : (Jvm.Cond.fieldLink "TreesBeforeMenModel" (72 : Nat) "TreesBeforeMenModel" "actOne" "[I") ∈ lw_all := lw_g (lw_at lw_m5 214 rfl) rfl
theorem q1265 : (Jvm.Cond.fieldLink "TreesBeforeMenModel" (75 : Nat) "TreesBeforeMenModel" "actTwo" "[I") ∈ lw_all := lw_g (lw_at lw_m5 215 rfl) rfl
theorem q1266 : (Jvm.Cond.fieldLink "TreesBeforeMenModel" (352 : Nat) "TreesBeforeMenModel" "acts" "I") ∈ lw_all := lw_g (lw_at lw_m5 216 rfl) rfl
theorem q1267 : (Jvm.Cond.fieldLink "TreesBeforeMenModel" (78 : Nat) "TreesBeforeMenModel" "cost" "[I") ∈ lw_all := lw_g (lw_at lw_m5 217 rfl) rfl
theorem q1268 : (Jvm.Cond.fieldLink "TreesBeforeMenModel" (81 : Nat) "TreesBeforeMenModel" "stage" "[I") ∈ lw_all := lw_g (lw_at lw_m5 218 rfl) rfl
theorem q1269 : (Jvm.Cond.fieldLink "TreesBeforeMenModel" (84 : Nat) "TreesBeforeMenModel" "by" "[I") ∈ lw_all := lw_g (lw_at lw_m5 219 rfl) rfl
theorem q1270 : (Jvm.Cond.fieldLink "TreesBeforeMenModel" (87 : Nat) "TreesBeforeMenModel" "bestBy" "[I") ∈ lw_all := lw_g (lw_at lw_m5 220 rfl) rfl
theorem q1271 : (Jvm.Cond.fieldLink "TreesBeforeMenModel" (384 : Nat) "TreesBeforeMenModel" "bestTrees" "I") ∈ lw_all := lw_g (lw_at lw_m5 221 rfl) rfl
theorem q1272 : (Jvm.Cond.fieldLink "TreesBeforeMenModel" (90 : Nat) "TreesBeforeMenModel" "wasCode" "[I") ∈ lw_all := lw_g (lw_at lw_m5 222 rfl) rfl
theorem q1273 : (Jvm.Cond.fieldLink "TreesBeforeMenModel" (396 : Nat) "TreesBeforeMenModel" "ounces" "I") ∈ lw_all := lw_g (lw_at lw_m5 223 rfl) rfl
theorem q1274 : (Jvm.Cond.fieldLink "TreesBeforeMenModel" (409 : Nat) "TreesBeforeMenModel" "searches" "I") ∈ lw_all := lw_g (lw_at lw_m5 224 rfl) rfl
theorem q1275 : (Jvm.Cond.fieldLink "TreesBeforeMenModel" (93 : Nat) "TreesBeforeMenModel" "searchOf" "[I") ∈ lw_all := lw_g (lw_at lw_m5 225 rfl) rfl
theorem q1276 : (Jvm.Cond.fieldLink "TreesBeforeMenModel" (426 : Nat) "TreesBeforeMenModel" "heardMany" "I") ∈ lw_all := lw_g (lw_at lw_m5 226 rfl) rfl
theorem q1277 : (Jvm.Cond.fieldLink "TreesBeforeMenModel" (96 : Nat) "TreesBeforeMenModel" "heardWhat" "[I") ∈ lw_all := lw_g (lw_at lw_m5 227 rfl) rfl
theorem q1278 : (Jvm.Cond.fieldLink "TreesBeforeMenModel" (99 : Nat) "TreesBeforeMenModel" "heardOf" "[I") ∈ lw_all := lw_g (lw_at lw_m5 228 rfl) rfl
theorem q1279 : (Jvm.Cond.fieldLink "TreesBeforeMenModel" (444 : Nat) "TreesBeforeMenModel" "random" "I") ∈ lw_all := lw_g (lw_at lw_m5 229 rfl) rfl
theorem q1280 : (Jvm.Cond.fieldLink "TreesBeforeMenModel" (102 : Nat) "TreesBeforeMenModel" "isKept" "[Z") ∈ lw_all := lw_g (lw_at lw_m5 230 rfl) rfl
theorem q1281 : (Jvm.Cond.fieldLink "TreesBeforeMenModel" (106 : Nat) "TreesBeforeMenModel" "keptChanges" "[I") ∈ lw_all := lw_g (lw_at lw_m5 231 rfl) rfl
theorem q1282 : (Jvm.Cond.fieldLink "TreesBeforeMenModel" (109 : Nat) "TreesBeforeMenModel" "kept" "[I") ∈ lw_all := lw_g (lw_at lw_m5 232 rfl) rfl
theorem q1283 : (Jvm.Cond.lays "TreesBeforeMenModel" "TreesBeforeMenModel" "thrown" "I") ∈ lw_all := lw_g (lw_at lw_m5 233 rfl) rfl
theorem q1284 : (Jvm.Cond.soleField "TreesBeforeMenModel" "thrown") ∈ lw_all := lw_g (lw_at lw_m5 234 rfl) rfl
theorem q1285 : (Jvm.Cond.lays "TreesBeforeMenModel" "TreesBeforeMenModel" "told" "I") ∈ lw_all := lw_g (lw_at lw_m5 235 rfl) rfl
theorem q1286 : (Jvm.Cond.soleField "TreesBeforeMenModel" "told") ∈ lw_all := lw_g (lw_at lw_m5 236 rfl) rfl
theorem q1287 : (Jvm.Cond.laysFinal "TreesBeforeMenModel" "TreesBeforeMenModel" "row" "[J") ∈ lw_all := lw_g (lw_at lw_m5 237 rfl) rfl
theorem q1288 : (Jvm.Cond.soleField "TreesBeforeMenModel" "row") ∈ lw_all := lw_g (lw_at lw_m5 238 rfl) rfl
theorem q1289 : (Jvm.Cond.lays "TreesBeforeMenModel" "TreesBeforeMenModel" "men" "I") ∈ lw_all := lw_g (lw_at lw_m5 239 rfl) rfl
theorem q1290 : (Jvm.Cond.soleField "TreesBeforeMenModel" "men") ∈ lw_all := lw_g (lw_at lw_m6 0 rfl) rfl
theorem q1291 : (Jvm.Cond.lays "TreesBeforeMenModel" "TreesBeforeMenModel" "islands" "I") ∈ lw_all := lw_g (lw_at lw_m6 1 rfl) rfl
theorem q1292 : (Jvm.Cond.soleField "TreesBeforeMenModel" "islands") ∈ lw_all := lw_g (lw_at lw_m6 2 rfl) rfl
theorem q1293 : (Jvm.Cond.lays "TreesBeforeMenModel" "TreesBeforeMenModel" "changes" "I") ∈ lw_all := lw_g (lw_at lw_m6 3 rfl) rfl
theorem q1294 : (Jvm.Cond.soleField "TreesBeforeMenModel" "changes") ∈ lw_all := lw_g (lw_at lw_m6 4 rfl) rfl
theorem q1295 : (Jvm.Cond.lays "TreesBeforeMenModel" "TreesBeforeMenModel" "skyLong" "I") ∈ lw_all := lw_g (lw_at lw_m6 5 rfl) rfl
theorem q1296 : (Jvm.Cond.soleField "TreesBeforeMenModel" "skyLong") ∈ lw_all := lw_g (lw_at lw_m6 6 rfl) rfl
theorem q1297 : (Jvm.Cond.laysFinal "TreesBeforeMenModel" "TreesBeforeMenModel" "sky" "[I") ∈ lw_all := lw_g (lw_at lw_m6 7 rfl) rfl
theorem q1298 : (Jvm.Cond.soleField "TreesBeforeMenModel" "sky") ∈ lw_all := lw_g (lw_at lw_m6 8 rfl) rfl
theorem q1299 : (Jvm.Cond.laysFinal "TreesBeforeMenModel" "TreesBeforeMenModel" "temper" "[I") ∈ lw_all := lw_g (lw_at lw_m6 9 rfl) rfl
theorem q1300 : (Jvm.Cond.soleField "TreesBeforeMenModel" "temper") ∈ lw_all := lw_g (lw_at lw_m6 10 rfl) rfl
theorem q1301 : (Jvm.Cond.laysFinal "TreesBeforeMenModel" "TreesBeforeMenModel" "need" "[I") ∈ lw_all := lw_g (lw_at lw_m6 11 rfl) rfl
theorem q1302 : (Jvm.Cond.soleField "TreesBeforeMenModel" "need") ∈ lw_all := lw_g (lw_at lw_m6 12 rfl) rfl
theorem q1303 : (Jvm.Cond.laysFinal "TreesBeforeMenModel" "TreesBeforeMenModel" "kind" "[I") ∈ lw_all := lw_g (lw_at lw_m6 13 rfl) rfl
theorem q1304 : (Jvm.Cond.soleField "TreesBeforeMenModel" "kind") ∈ lw_all := lw_g (lw_at lw_m6 14 rfl) rfl
theorem q1305 : (Jvm.Cond.laysFinal "TreesBeforeMenModel" "TreesBeforeMenModel" "way" "[I") ∈ lw_all := lw_g (lw_at lw_m6 15 rfl) rfl
theorem q1306 : (Jvm.Cond.soleField "TreesBeforeMenModel" "way") ∈ lw_all := lw_g (lw_at lw_m6 16 rfl) rfl
theorem q1307 : (Jvm.Cond.laysFinal "TreesBeforeMenModel" "TreesBeforeMenModel" "bread" "[I") ∈ lw_all := lw_g (lw_at lw_m6 17 rfl) rfl
theorem q1308 : (Jvm.Cond.soleField "TreesBeforeMenModel" "bread") ∈ lw_all := lw_g (lw_at lw_m6 18 rfl) rfl
theorem q1309 : (Jvm.Cond.laysFinal "TreesBeforeMenModel" "TreesBeforeMenModel" "lost" "[I") ∈ lw_all := lw_g (lw_at lw_m6 19 rfl) rfl
theorem q1310 : (Jvm.Cond.soleField "TreesBeforeMenModel" "lost") ∈ lw_all := lw_g (lw_at lw_m6 20 rfl) rfl
theorem q1311 : (Jvm.Cond.laysFinal "TreesBeforeMenModel" "TreesBeforeMenModel" "now" "[I") ∈ lw_all := lw_g (lw_at lw_m6 21 rfl) rfl
theorem q1312 : (Jvm.Cond.soleField "TreesBeforeMenModel" "now") ∈ lw_all := lw_g (lw_at lw_m6 22 rfl) rfl
theorem q1313 : (Jvm.Cond.laysFinal "TreesBeforeMenModel" "TreesBeforeMenModel" "then" "[I") ∈ lw_all := lw_g (lw_at lw_m6 23 rfl) rfl
theorem q1314 : (Jvm.Cond.soleField "TreesBeforeMenModel" "then") ∈ lw_all := lw_g (lw_at lw_m6 24 rfl) rfl
theorem q1315 : (Jvm.Cond.laysFinal "TreesBeforeMenModel" "TreesBeforeMenModel" "tape" "[I") ∈ lw_all := lw_g (lw_at lw_m6 25 rfl) rfl
theorem q1316 : (Jvm.Cond.soleField "TreesBeforeMenModel" "tape") ∈ lw_all := lw_g (lw_at lw_m6 26 rfl) rfl
theorem q1317 : (Jvm.Cond.lays "TreesBeforeMenModel" "TreesBeforeMenModel" "taped" "I") ∈ lw_all := lw_g (lw_at lw_m6 27 rfl) rfl
theorem q1318 : (Jvm.Cond.soleField "TreesBeforeMenModel" "taped") ∈ lw_all := lw_g (lw_at lw_m6 28 rfl) rfl
theorem q1319 : (Jvm.Cond.lays "TreesBeforeMenModel" "TreesBeforeMenModel" "at" "I") ∈ lw_all := lw_g (lw_at lw_m6 29 rfl) rfl
theorem q1320 : (Jvm.Cond.soleField "TreesBeforeMenModel" "at") ∈ lw_all := lw_g (lw_at lw_m6 30 rfl) rfl
theorem q1321 : (Jvm.Cond.lays "TreesBeforeMenModel" "TreesBeforeMenModel" "to" "I") ∈ lw_all := lw_g (lw_at lw_m6 31 rfl) rfl
theorem q1322 : (Jvm.Cond.soleField "TreesBeforeMenModel" "to") ∈ lw_all := lw_g (lw_at lw_m6 32 rfl) rfl
theorem q1323 : (Jvm.Cond.lays "TreesBeforeMenModel" "TreesBeforeMenModel" "nest" "I") ∈ lw_all := lw_g (lw_at lw_m6 33 rfl) rfl
theorem q1324 : (Jvm.Cond.soleField "TreesBeforeMenModel" "nest") ∈ lw_all := lw_g (lw_at lw_m6 34 rfl) rfl
theorem q1325 : (Jvm.Cond.laysFinal "TreesBeforeMenModel" "TreesBeforeMenModel" "read" "[I") ∈ lw_all := lw_g (lw_at lw_m6 35 rfl) rfl
theorem q1326 : (Jvm.Cond.soleField "TreesBeforeMenModel" "read") ∈ lw_all := lw_g (lw_at lw_m6 36 rfl) rfl
theorem q1327 : (Jvm.Cond.lays "TreesBeforeMenModel" "TreesBeforeMenModel" "readMany" "I") ∈ lw_all := lw_g (lw_at lw_m6 37 rfl) rfl
theorem q1328 : (Jvm.Cond.soleField "TreesBeforeMenModel" "readMany") ∈ lw_all := lw_g (lw_at lw_m6 38 rfl) rfl
theorem q1329 : (Jvm.Cond.laysFinal "TreesBeforeMenModel" "TreesBeforeMenModel" "readSky" "[I") ∈ lw_all := lw_g (lw_at lw_m6 39 rfl) rfl
theorem q1330 : (Jvm.Cond.soleField "TreesBeforeMenModel" "readSky") ∈ lw_all := lw_g (lw_at lw_m6 40 rfl) rfl
theorem q1331 : (Jvm.Cond.laysFinal "TreesBeforeMenModel" "TreesBeforeMenModel" "code" "[I") ∈ lw_all := lw_g (lw_at lw_m6 41 rfl) rfl
theorem q1332 : (Jvm.Cond.soleField "TreesBeforeMenModel" "code") ∈ lw_all := lw_g (lw_at lw_m6 42 rfl) rfl
theorem q1333 : (Jvm.Cond.laysFinal "TreesBeforeMenModel" "TreesBeforeMenModel" "readCode" "[I") ∈ lw_all := lw_g (lw_at lw_m6 43 rfl) rfl
theorem q1334 : (Jvm.Cond.soleField "TreesBeforeMenModel" "readCode") ∈ lw_all := lw_g (lw_at lw_m6 44 rfl) rfl
theorem q1335 : (Jvm.Cond.lays "TreesBeforeMenModel" "TreesBeforeMenModel" "codeLong" "I") ∈ lw_all := lw_g (lw_at lw_m6 45 rfl) rfl
theorem q1336 : (Jvm.Cond.soleField "TreesBeforeMenModel" "codeLong") ∈ lw_all := lw_g (lw_at lw_m6 46 rfl) rfl
theorem q1337 : (Jvm.Cond.lays "TreesBeforeMenModel" "TreesBeforeMenModel" "readLong" "I") ∈ lw_all := lw_g (lw_at lw_m6 47 rfl) rfl
theorem q1338 : (Jvm.Cond.soleField "TreesBeforeMenModel" "readLong") ∈ lw_all := lw_g (lw_at lw_m6 48 rfl) rfl
theorem q1339 : (Jvm.Cond.laysFinal "TreesBeforeMenModel" "TreesBeforeMenModel" "stack" "[I") ∈ lw_all := lw_g (lw_at lw_m6 49 rfl) rfl
theorem q1340 : (Jvm.Cond.soleField "TreesBeforeMenModel" "stack") ∈ lw_all := lw_g (lw_at lw_m6 50 rfl) rfl
theorem q1341 : (Jvm.Cond.laysFinal "TreesBeforeMenModel" "TreesBeforeMenModel" "asked" "[I") ∈ lw_all := lw_g (lw_at lw_m6 51 rfl) rfl
theorem q1342 : (Jvm.Cond.soleField "TreesBeforeMenModel" "asked") ∈ lw_all := lw_g (lw_at lw_m6 52 rfl) rfl
theorem q1343 : (Jvm.Cond.lays "TreesBeforeMenModel" "TreesBeforeMenModel" "undos" "I") ∈ lw_all := lw_g (lw_at lw_m6 53 rfl) rfl
theorem q1344 : (Jvm.Cond.soleField "TreesBeforeMenModel" "undos") ∈ lw_all := lw_g (lw_at lw_m6 54 rfl) rfl
theorem q1345 : (Jvm.Cond.laysFinal "TreesBeforeMenModel" "TreesBeforeMenModel" "undone" "[I") ∈ lw_all := lw_g (lw_at lw_m6 55 rfl) rfl
theorem q1346 : (Jvm.Cond.soleField "TreesBeforeMenModel" "undone") ∈ lw_all := lw_g (lw_at lw_m6 56 rfl) rfl
theorem q1347 : (Jvm.Cond.lays "TreesBeforeMenModel" "TreesBeforeMenModel" "putBits" "I") ∈ lw_all := lw_g (lw_at lw_m6 57 rfl) rfl
theorem q1348 : (Jvm.Cond.soleField "TreesBeforeMenModel" "putBits") ∈ lw_all := lw_g (lw_at lw_m6 58 rfl) rfl
theorem q1349 : (Jvm.Cond.laysFinal "TreesBeforeMenModel" "TreesBeforeMenModel" "actSign" "[I") ∈ lw_all := lw_g (lw_at lw_m6 59 rfl) rfl
theorem q1350 : (Jvm.Cond.soleField "TreesBeforeMenModel" "actSign") ∈ lw_all := lw_g (lw_at lw_m6 60 rfl) rfl
theorem q1351 : (Jvm.Cond.laysFinal "TreesBeforeMenModel" "TreesBeforeMenModel" "actOne" "[I") ∈ lw_all := lw_g (lw_at lw_m6 61 rfl) rfl
theorem q1352 : (Jvm.Cond.soleField "TreesBeforeMenModel" "actOne") ∈ lw_all := lw_g (lw_at lw_m6 62 rfl) rfl
theorem q1353 : (Jvm.Cond.laysFinal "TreesBeforeMenModel" "TreesBeforeMenModel" "actTwo" "[I") ∈ lw_all := lw_g (lw_at lw_m6 63 rfl) rfl
theorem q1354 : (Jvm.Cond.soleField "TreesBeforeMenModel" "actTwo") ∈ lw_all := lw_g (lw_at lw_m6 64 rfl) rfl
theorem q1355 : (Jvm.Cond.lays "TreesBeforeMenModel" "TreesBeforeMenModel" "acts" "I") ∈ lw_all := lw_g (lw_at lw_m6 65 rfl) rfl
theorem q1356 : (Jvm.Cond.soleField "TreesBeforeMenModel" "acts") ∈ lw_all := lw_g (lw_at lw_m6 66 rfl) rfl
theorem q1357 : (Jvm.Cond.laysFinal "TreesBeforeMenModel" "TreesBeforeMenModel" "cost" "[I") ∈ lw_all := lw_g (lw_at lw_m6 67 rfl) rfl
theorem q1358 : (Jvm.Cond.soleField "TreesBeforeMenModel" "cost") ∈ lw_all := lw_g (lw_at lw_m6 68 rfl) rfl
theorem q1359 : (Jvm.Cond.laysFinal "TreesBeforeMenModel" "TreesBeforeMenModel" "stage" "[I") ∈ lw_all := lw_g (lw_at lw_m6 69 rfl) rfl
theorem q1360 : (Jvm.Cond.soleField "TreesBeforeMenModel" "stage") ∈ lw_all := lw_g (lw_at lw_m6 70 rfl) rfl
theorem q1361 : (Jvm.Cond.laysFinal "TreesBeforeMenModel" "TreesBeforeMenModel" "by" "[I") ∈ lw_all := lw_g (lw_at lw_m6 71 rfl) rfl
theorem q1362 : (Jvm.Cond.soleField "TreesBeforeMenModel" "by") ∈ lw_all := lw_g (lw_at lw_m6 72 rfl) rfl
theorem q1363 : (Jvm.Cond.laysFinal "TreesBeforeMenModel" "TreesBeforeMenModel" "bestBy" "[I") ∈ lw_all := lw_g (lw_at lw_m6 73 rfl) rfl
theorem q1364 : (Jvm.Cond.soleField "TreesBeforeMenModel" "bestBy") ∈ lw_all := lw_g (lw_at lw_m6 74 rfl) rfl
theorem q1365 : (Jvm.Cond.lays "TreesBeforeMenModel" "TreesBeforeMenModel" "bestTrees" "I") ∈ lw_all := lw_g (lw_at lw_m6 75 rfl) rfl
theorem q1366 : (Jvm.Cond.soleField "TreesBeforeMenModel" "bestTrees") ∈ lw_all := lw_g (lw_at lw_m6 76 rfl) rfl
theorem q1367 : (Jvm.Cond.laysFinal "TreesBeforeMenModel" "TreesBeforeMenModel" "wasCode" "[I") ∈ lw_all := lw_g (lw_at lw_m6 77 rfl) rfl
theorem q1368 : (Jvm.Cond.soleField "TreesBeforeMenModel" "wasCode") ∈ lw_all := lw_g (lw_at lw_m6 78 rfl) rfl
theorem q1369 : (Jvm.Cond.lays "TreesBeforeMenModel" "TreesBeforeMenModel" "ounces" "I") ∈ lw_all := lw_g (lw_at lw_m6 79 rfl) rfl
theorem q1370 : (Jvm.Cond.soleField "TreesBeforeMenModel" "ounces") ∈ lw_all := lw_g (lw_at lw_m6 80 rfl) rfl
theorem q1371 : (Jvm.Cond.lays "TreesBeforeMenModel" "TreesBeforeMenModel" "searches" "I") ∈ lw_all := lw_g (lw_at lw_m6 81 rfl) rfl
theorem q1372 : (Jvm.Cond.soleField "TreesBeforeMenModel" "searches") ∈ lw_all := lw_g (lw_at lw_m6 82 rfl) rfl
theorem q1373 : (Jvm.Cond.laysFinal "TreesBeforeMenModel" "TreesBeforeMenModel" "searchOf" "[I") ∈ lw_all := lw_g (lw_at lw_m6 83 rfl) rfl
theorem q1374 : (Jvm.Cond.soleField "TreesBeforeMenModel" "searchOf") ∈ lw_all := lw_g (lw_at lw_m6 84 rfl) rfl
theorem q1375 : (Jvm.Cond.lays "TreesBeforeMenModel" "TreesBeforeMenModel" "heardMany" "I") ∈ lw_all := lw_g (lw_at lw_m6 85 rfl) rfl
theorem q1376 : (Jvm.Cond.soleField "TreesBeforeMenModel" "heardMany") ∈ lw_all := lw_g (lw_at lw_m6 86 rfl) rfl
theorem q1377 : (Jvm.Cond.laysFinal "TreesBeforeMenModel" "TreesBeforeMenModel" "heardWhat" "[I") ∈ lw_all := lw_g (lw_at lw_m6 87 rfl) rfl
theorem q1378 : (Jvm.Cond.soleField "TreesBeforeMenModel" "heardWhat") ∈ lw_all := lw_g (lw_at lw_m6 88 rfl) rfl
theorem q1379 : (Jvm.Cond.laysFinal "TreesBeforeMenModel" "TreesBeforeMenModel" "heardOf" "[I") ∈ lw_all := lw_g (lw_at lw_m6 89 rfl) rfl
theorem q1380 : (Jvm.Cond.soleField "TreesBeforeMenModel" "heardOf") ∈ lw_all := lw_g (lw_at lw_m6 90 rfl) rfl
theorem q1381 : (Jvm.Cond.lays "TreesBeforeMenModel" "TreesBeforeMenModel" "random" "I") ∈ lw_all := lw_g (lw_at lw_m6 91 rfl) rfl
theorem q1382 : (Jvm.Cond.soleField "TreesBeforeMenModel" "random") ∈ lw_all := lw_g (lw_at lw_m6 92 rfl) rfl
theorem q1383 : (Jvm.Cond.laysFinal "TreesBeforeMenModel" "TreesBeforeMenModel" "isKept" "[Z") ∈ lw_all := lw_g (lw_at lw_m6 93 rfl) rfl
theorem q1384 : (Jvm.Cond.soleField "TreesBeforeMenModel" "isKept") ∈ lw_all := lw_g (lw_at lw_m6 94 rfl) rfl
theorem q1385 : (Jvm.Cond.laysFinal "TreesBeforeMenModel" "TreesBeforeMenModel" "keptChanges" "[I") ∈ lw_all := lw_g (lw_at lw_m6 95 rfl) rfl
theorem q1386 : (Jvm.Cond.soleField "TreesBeforeMenModel" "keptChanges") ∈ lw_all := lw_g (lw_at lw_m6 96 rfl) rfl
theorem q1387 : (Jvm.Cond.laysFinal "TreesBeforeMenModel" "TreesBeforeMenModel" "kept" "[I") ∈ lw_all := lw_g (lw_at lw_m6 97 rfl) rfl
theorem q1388 : (Jvm.Cond.soleField "TreesBeforeMenModel" "kept") ∈ lw_all := lw_g (lw_at lw_m6 98 rfl) rfl
theorem q1389 : (Jvm.Cond.superclass "TreesBeforeMenModel" "java/lang/Object") ∈ lw_all := lw_g (lw_at lw_m6 99 rfl) rfl
theorem q1392 : (Jvm.Cond.instanceMethod ({ cls := "TreesBeforeMenModel", name := "thrown", desc := "()I" } : Jvm.MethodName)) ∈ lw_all := lw_g (lw_at lw_m6 102 rfl) rfl
theorem q1393 : (Jvm.Cond.selects "TreesBeforeMenModel" ({ cls := "TreesBeforeMenModel", name := "thrown", desc := "()I" } : Jvm.MethodName) ({ cls := "TreesBeforeMenModel", name := "thrown", desc := "()I" } : Jvm.MethodName)) ∈ lw_all := lw_g (lw_at lw_m6 103 rfl) rfl
theorem q1394 : (Jvm.Cond.code ({ cls := "TreesBeforeMenModel", name := "thrown", desc := "()I" } : Jvm.MethodName) prog_15_method_2_code (1 : Nat) (Option.some Jvm.ClassFile.FieldType.int)) ∈ lw_all := lw_g (lw_at lw_m6 104 rfl) rfl
theorem q1396 : (Jvm.Cond.instanceMethod ({ cls := "TreesBeforeMenModel", name := "sign", desc := "(I)I" } : Jvm.MethodName)) ∈ lw_all := lw_g (lw_at lw_m6 106 rfl) rfl
theorem q1397 : (Jvm.Cond.selects "TreesBeforeMenModel" ({ cls := "TreesBeforeMenModel", name := "sign", desc := "(I)I" } : Jvm.MethodName) ({ cls := "TreesBeforeMenModel", name := "sign", desc := "(I)I" } : Jvm.MethodName)) ∈ lw_all := lw_g (lw_at lw_m6 107 rfl) rfl
theorem q1398 : (Jvm.Cond.code ({ cls := "TreesBeforeMenModel", name := "sign", desc := "(I)I" } : Jvm.MethodName) prog_15_method_13_code (3 : Nat) (Option.some Jvm.ClassFile.FieldType.int)) ∈ lw_all := lw_g (lw_at lw_m6 108 rfl) rfl
theorem q1400 : (Jvm.Cond.instanceMethod ({ cls := "TreesBeforeMenModel", name := "end", desc := "(I)Z" } : Jvm.MethodName)) ∈ lw_all := lw_g (lw_at lw_m6 110 rfl) rfl
theorem q1401 : (Jvm.Cond.selects "TreesBeforeMenModel" ({ cls := "TreesBeforeMenModel", name := "end", desc := "(I)Z" } : Jvm.MethodName) ({ cls := "TreesBeforeMenModel", name := "end", desc := "(I)Z" } : Jvm.MethodName)) ∈ lw_all := lw_g (lw_at lw_m6 111 rfl) rfl
theorem q1402 : (Jvm.Cond.code ({ cls := "TreesBeforeMenModel", name := "end", desc := "(I)Z" } : Jvm.MethodName) prog_15_method_14_code (2 : Nat) (Option.some Jvm.ClassFile.FieldType.boolean)) ∈ lw_all := lw_g (lw_at lw_m6 112 rfl) rfl
theorem q1403 : (Jvm.Cond.methodLink "TreesBeforeMenModel" (129 : Nat) ({ cls := "TreesBeforeMenModel", name := "in", desc := "(JJJ)Z" } : Jvm.MethodName)) ∈ lw_all := lw_g (lw_at lw_m6 113 rfl) rfl
theorem q1404 : (Jvm.Cond.static ({ cls := "TreesBeforeMenModel", name := "in", desc := "(JJJ)Z" } : Jvm.MethodName)) ∈ lw_all := lw_g (lw_at lw_m6 114 rfl) rfl
theorem q1405 : (Jvm.Cond.code ({ cls := "TreesBeforeMenModel", name := "in", desc := "(JJJ)Z" } : Jvm.MethodName) prog_15_method_4_code (6 : Nat) (Option.some Jvm.ClassFile.FieldType.boolean)) ∈ lw_all := lw_g (lw_at lw_m6 115 rfl) rfl
theorem q1407 : (Jvm.Cond.instanceMethod ({ cls := "TreesBeforeMenModel", name := "men", desc := "()I" } : Jvm.MethodName)) ∈ lw_all := lw_g (lw_at lw_m6 117 rfl) rfl
theorem q1408 : (Jvm.Cond.selects "TreesBeforeMenModel" ({ cls := "TreesBeforeMenModel", name := "men", desc := "()I" } : Jvm.MethodName) ({ cls := "TreesBeforeMenModel", name := "men", desc := "()I" } : Jvm.MethodName)) ∈ lw_all := lw_g (lw_at lw_m6 118 rfl) rfl
theorem q1409 : (Jvm.Cond.code ({ cls := "TreesBeforeMenModel", name := "men", desc := "()I" } : Jvm.MethodName) prog_15_method_24_code (6 : Nat) (Option.some Jvm.ClassFile.FieldType.int)) ∈ lw_all := lw_g (lw_at lw_m6 119 rfl) rfl
theorem q1410 : (Jvm.Cond.methodLink "TreesBeforeMenModel" (190 : Nat) ({ cls := "TreesBeforeMenModel", name := "begins", desc := "(I)I" } : Jvm.MethodName)) ∈ lw_all := lw_g (lw_at lw_m6 120 rfl) rfl
theorem q1411 : (Jvm.Cond.privateMethod ({ cls := "TreesBeforeMenModel", name := "begins", desc := "(I)I" } : Jvm.MethodName)) ∈ lw_tbl := lw_at lw_m6 121 rfl
theorem q1412 : (Jvm.Cond.instanceMethod ({ cls := "TreesBeforeMenModel", name := "begins", desc := "(I)I" } : Jvm.MethodName)) ∈ lw_all := lw_g (lw_at lw_m6 122 rfl) rfl
theorem q1413 : (Jvm.Cond.code ({ cls := "TreesBeforeMenModel", name := "begins", desc := "(I)I" } : Jvm.MethodName) prog_15_method_15_code (3 : Nat) (Option.some Jvm.ClassFile.FieldType.int)) ∈ lw_all := lw_g (lw_at lw_m6 123 rfl) rfl
theorem q1414 : (Jvm.Cond.methodLink "TreesBeforeMenModel" (145 : Nat) ({ cls := "java/lang/Math", name := "min", desc := "(II)I" } : Jvm.MethodName)) ∈ lw_all := lw_g (lw_at lw_m6 124 rfl) rfl
theorem q1415 : (Jvm.Cond.methodLink "TreesBeforeMenModel" (193 : Nat) ({ cls := "TreesBeforeMenModel", name := "readsMan", desc := "()Z" } : Jvm.MethodName)) ∈ lw_all := lw_g (lw_at lw_m6 125 rfl) rfl
theorem q1416 : (Jvm.Cond.privateMethod ({ cls := "TreesBeforeMenModel", name := "readsMan", desc := "()Z" } : Jvm.MethodName)) ∈ lw_tbl := lw_at lw_m6 126 rfl
theorem q1417 : (Jvm.Cond.instanceMethod ({ cls := "TreesBeforeMenModel", name := "readsMan", desc := "()Z" } : Jvm.MethodName)) ∈ lw_all := lw_g (lw_at lw_m6 127 rfl) rfl
theorem q1418 : (Jvm.Cond.code ({ cls := "TreesBeforeMenModel", name := "readsMan", desc := "()Z" } : Jvm.MethodName) prog_15_method_23_code (2 : Nat) (Option.some Jvm.ClassFile.FieldType.boolean)) ∈ lw_all := lw_g (lw_at lw_m6 128 rfl) rfl
theorem q1419 : (Jvm.Cond.methodLink "TreesBeforeMenModel" (183 : Nat) ({ cls := "TreesBeforeMenModel", name := "number", desc := "(I)I" } : Jvm.MethodName)) ∈ lw_all := lw_g (lw_at lw_m6 129 rfl) rfl
theorem q1420 : (Jvm.Cond.privateMethod ({ cls := "TreesBeforeMenModel", name := "number", desc := "(I)I" } : Jvm.MethodName)) ∈ lw_tbl := lw_at lw_m6 130 rfl
theorem q1421 : (Jvm.Cond.instanceMethod ({ cls := "TreesBeforeMenModel", name := "number", desc := "(I)I" } : Jvm.MethodName)) ∈ lw_all := lw_g (lw_at lw_m6 131 rfl) rfl
theorem q1422 : (Jvm.Cond.code ({ cls := "TreesBeforeMenModel", name := "number", desc := "(I)I" } : Jvm.MethodName) prog_15_method_20_code (4 : Nat) (Option.some Jvm.ClassFile.FieldType.int)) ∈ lw_all := lw_g (lw_at lw_m6 132 rfl) rfl
theorem q1423 : (Jvm.Cond.methodLink "TreesBeforeMenModel" (176 : Nat) ({ cls := "TreesBeforeMenModel", name := "isDigit", desc := "()Z" } : Jvm.MethodName)) ∈ lw_all := lw_g (lw_at lw_m6 133 rfl) rfl
theorem q1424 : (Jvm.Cond.privateMethod ({ cls := "TreesBeforeMenModel", name := "isDigit", desc := "()Z" } : Jvm.MethodName)) ∈ lw_tbl := lw_at lw_m6 134 rfl
theorem q1425 : (Jvm.Cond.instanceMethod ({ cls := "TreesBeforeMenModel", name := "isDigit", desc := "()Z" } : Jvm.MethodName)) ∈ lw_all := lw_g (lw_at lw_m6 135 rfl) rfl
theorem q1426 : (Jvm.Cond.code ({ cls := "TreesBeforeMenModel", name := "isDigit", desc := "()Z" } : Jvm.MethodName) prog_15_method_17_code (1 : Nat) (Option.some Jvm.ClassFile.FieldType.boolean)) ∈ lw_all := lw_g (lw_at lw_m6 136 rfl) rfl
theorem q1427 : (Jvm.Cond.constantLong "TreesBeforeMenModel" (158 : Nat) (48 : Int64)) ∈ lw_all := lw_g (lw_at lw_m6 137 rfl) rfl
theorem q1428 : (Jvm.Cond.constantLong "TreesBeforeMenModel" (160 : Nat) (57 : Int64)) ∈ lw_all := lw_g (lw_at lw_m6 138 rfl) rfl
theorem q1429 : (Jvm.Cond.methodLink "TreesBeforeMenModel" (187 : Nat) ({ cls := "TreesBeforeMenModel", name := "digitIn", desc := "(II)I" } : Jvm.MethodName)) ∈ lw_all := lw_g (lw_at lw_m6 139 rfl) rfl
theorem q1430 : (Jvm.Cond.privateMethod ({ cls := "TreesBeforeMenModel", name := "digitIn", desc := "(II)I" } : Jvm.MethodName)) ∈ lw_tbl := lw_at lw_m6 140 rfl
theorem q1431 : (Jvm.Cond.instanceMethod ({ cls := "TreesBeforeMenModel", name := "digitIn", desc := "(II)I" } : Jvm.MethodName)) ∈ lw_all := lw_g (lw_at lw_m6 141 rfl) rfl
theorem q1432 : (Jvm.Cond.code ({ cls := "TreesBeforeMenModel", name := "digitIn", desc := "(II)I" } : Jvm.MethodName) prog_15_method_21_code (3 : Nat) (Option.some Jvm.ClassFile.FieldType.int)) ∈ lw_all := lw_g (lw_at lw_m6 142 rfl) rfl
theorem q1433 : (Jvm.Cond.methodLink "TreesBeforeMenModel" (196 : Nat) ({ cls := "TreesBeforeMenModel", name := "takes", desc := "(I)Z" } : Jvm.MethodName)) ∈ lw_all := lw_g (lw_at lw_m6 143 rfl) rfl
theorem q1434 : (Jvm.Cond.privateMethod ({ cls := "TreesBeforeMenModel", name := "takes", desc := "(I)Z" } : Jvm.MethodName)) ∈ lw_tbl := lw_at lw_m6 144 rfl
theorem q1435 : (Jvm.Cond.instanceMethod ({ cls := "TreesBeforeMenModel", name := "takes", desc := "(I)Z" } : Jvm.MethodName)) ∈ lw_all := lw_g (lw_at lw_m6 145 rfl) rfl
theorem q1436 : (Jvm.Cond.code ({ cls := "TreesBeforeMenModel", name := "takes", desc := "(I)Z" } : Jvm.MethodName) prog_15_method_16_code (3 : Nat) (Option.some Jvm.ClassFile.FieldType.boolean)) ∈ lw_all := lw_g (lw_at lw_m6 146 rfl) rfl
theorem q1437 : (Jvm.Cond.methodLink "TreesBeforeMenModel" (154 : Nat) ({ cls := "TreesBeforeMenModel", name := "flag", desc := "(Z)I" } : Jvm.MethodName)) ∈ lw_all := lw_g (lw_at lw_m6 147 rfl) rfl
theorem q1438 : (Jvm.Cond.static ({ cls := "TreesBeforeMenModel", name := "flag", desc := "(Z)I" } : Jvm.MethodName)) ∈ lw_all := lw_g (lw_at lw_m6 148 rfl) rfl
theorem q1439 : (Jvm.Cond.code ({ cls := "TreesBeforeMenModel", name := "flag", desc := "(Z)I" } : Jvm.MethodName) prog_15_method_6_code (1 : Nat) (Option.some Jvm.ClassFile.FieldType.int)) ∈ lw_all := lw_g (lw_at lw_m6 149 rfl) rfl
theorem q1440 : (Jvm.Cond.methodLink "TreesBeforeMenModel" (200 : Nat) ({ cls := "TreesBeforeMenModel", name := "faultOf", desc := "(IIZ)I" } : Jvm.MethodName)) ∈ lw_all := lw_g (lw_at lw_m6 150 rfl) rfl
theorem q1441 : (Jvm.Cond.privateMethod ({ cls := "TreesBeforeMenModel", name := "faultOf", desc := "(IIZ)I" } : Jvm.MethodName)) ∈ lw_tbl := lw_at lw_m6 151 rfl
theorem q1442 : (Jvm.Cond.instanceMethod ({ cls := "TreesBeforeMenModel", name := "faultOf", desc := "(IIZ)I" } : Jvm.MethodName)) ∈ lw_all := lw_g (lw_at lw_m6 152 rfl) rfl
theorem q1443 : (Jvm.Cond.code ({ cls := "TreesBeforeMenModel", name := "faultOf", desc := "(IIZ)I" } : Jvm.MethodName) prog_15_method_22_code (5 : Nat) (Option.some Jvm.ClassFile.FieldType.int)) ∈ lw_all := lw_g (lw_at lw_m6 153 rfl) rfl
theorem q1445 : (Jvm.Cond.instanceMethod ({ cls := "TreesBeforeMenModel", name := "weather", desc := "()I" } : Jvm.MethodName)) ∈ lw_all := lw_g (lw_at lw_m6 155 rfl) rfl
theorem q1446 : (Jvm.Cond.selects "TreesBeforeMenModel" ({ cls := "TreesBeforeMenModel", name := "weather", desc := "()I" } : Jvm.MethodName) ({ cls := "TreesBeforeMenModel", name := "weather", desc := "()I" } : Jvm.MethodName)) ∈ lw_all := lw_g (lw_at lw_m6 156 rfl) rfl
theorem q1447 : (Jvm.Cond.code ({ cls := "TreesBeforeMenModel", name := "weather", desc := "()I" } : Jvm.MethodName) prog_15_method_25_code (3 : Nat) (Option.some Jvm.ClassFile.FieldType.int)) ∈ lw_all := lw_g (lw_at lw_m6 157 rfl) rfl
theorem q1448 : (Jvm.Cond.stringRef "TreesBeforeMenModel" (210 : Nat) "fhsr") ∈ lw_tbl := lw_at lw_m6 158 rfl
theorem q1449 : (Jvm.Cond.methodLink "TreesBeforeMenModel" (172 : Nat) ({ cls := "TreesBeforeMenModel", name := "among", desc := "(Ljava/lang/String;)I" } : Jvm.MethodName)) ∈ lw_all := lw_g (lw_at lw_m6 159 rfl) rfl
theorem q1450 : (Jvm.Cond.privateMethod ({ cls := "TreesBeforeMenModel", name := "among", desc := "(Ljava/lang/String;)I" } : Jvm.MethodName)) ∈ lw_tbl := lw_at lw_m6 160 rfl
theorem q1451 : (Jvm.Cond.instanceMethod ({ cls := "TreesBeforeMenModel", name := "among", desc := "(Ljava/lang/String;)I" } : Jvm.MethodName)) ∈ lw_all := lw_g (lw_at lw_m6 161 rfl) rfl
theorem q1452 : (Jvm.Cond.code ({ cls := "TreesBeforeMenModel", name := "among", desc := "(Ljava/lang/String;)I" } : Jvm.MethodName) prog_15_method_18_code (3 : Nat) (Option.some Jvm.ClassFile.FieldType.int)) ∈ lw_all := lw_g (lw_at lw_m6 162 rfl) rfl
theorem q1453 : (Jvm.Cond.methodLink "TreesBeforeMenModel" (162 : Nat) ({ cls := "java/lang/String", name := "length", desc := "()I" } : Jvm.MethodName)) ∈ lw_all := lw_g (lw_at lw_m6 163 rfl) rfl
theorem q1454 : (Jvm.Cond.methodLink "TreesBeforeMenModel" (168 : Nat) ({ cls := "java/lang/String", name := "charAt", desc := "(I)C" } : Jvm.MethodName)) ∈ lw_all := lw_g (lw_at lw_m6 164 rfl) rfl
theorem q1474 : (Jvm.Cond.methodLink "TreesBeforeMenModel" (212 : Nat) ({ cls := "TreesBeforeMenModel", name := "takesOf", desc := "(Ljava/lang/String;)I" } : Jvm.MethodName)) ∈ lw_all := lw_g (lw_at lw_m6 184 rfl) rfl
theorem q1475 : (Jvm.Cond.privateMethod ({ cls := "TreesBeforeMenModel", name := "takesOf", desc := "(Ljava/lang/String;)I" } : Jvm.MethodName)) ∈ lw_tbl := lw_at lw_m6 185 rfl
theorem q1476 : (Jvm.Cond.instanceMethod ({ cls := "TreesBeforeMenModel", name := "takesOf", desc := "(Ljava/lang/String;)I" } : Jvm.MethodName)) ∈ lw_all := lw_g (lw_at lw_m6 186 rfl) rfl
theorem q1477 : (Jvm.Cond.code ({ cls := "TreesBeforeMenModel", name := "takesOf", desc := "(Ljava/lang/String;)I" } : Jvm.MethodName) prog_15_method_19_code (3 : Nat) (Option.some Jvm.ClassFile.FieldType.int)) ∈ lw_all := lw_g (lw_at lw_m6 187 rfl) rfl
theorem q1479 : (Jvm.Cond.instanceMethod ({ cls := "TreesBeforeMenModel", name := "islands", desc := "()I" } : Jvm.MethodName)) ∈ lw_all := lw_g (lw_at lw_m6 189 rfl) rfl
theorem q1480 : (Jvm.Cond.selects "TreesBeforeMenModel" ({ cls := "TreesBeforeMenModel", name := "islands", desc := "()I" } : Jvm.MethodName) ({ cls := "TreesBeforeMenModel", name := "islands", desc := "()I" } : Jvm.MethodName)) ∈ lw_all := lw_g (lw_at lw_m6 190 rfl) rfl
theorem q1481 : (Jvm.Cond.code ({ cls := "TreesBeforeMenModel", name := "islands", desc := "()I" } : Jvm.MethodName) prog_15_method_27_code (6 : Nat) (Option.some Jvm.ClassFile.FieldType.int)) ∈ lw_all := lw_g (lw_at lw_m6 191 rfl) rfl
theorem q1482 : (Jvm.Cond.methodLink "TreesBeforeMenModel" (215 : Nat) ({ cls := "TreesBeforeMenModel", name := "readsIsland", desc := "()Z" } : Jvm.MethodName)) ∈ lw_all := lw_g (lw_at lw_m6 192 rfl) rfl
theorem q1483 : (Jvm.Cond.privateMethod ({ cls := "TreesBeforeMenModel", name := "readsIsland", desc := "()Z" } : Jvm.MethodName)) ∈ lw_tbl := lw_at lw_m6 193 rfl
theorem q1484 : (Jvm.Cond.instanceMethod ({ cls := "TreesBeforeMenModel", name := "readsIsland", desc := "()Z" } : Jvm.MethodName)) ∈ lw_all := lw_g (lw_at lw_m6 194 rfl) rfl
theorem q1485 : (Jvm.Cond.code ({ cls := "TreesBeforeMenModel", name := "readsIsland", desc := "()Z" } : Jvm.MethodName) prog_15_method_26_code (2 : Nat) (Option.some Jvm.ClassFile.FieldType.boolean)) ∈ lw_all := lw_g (lw_at lw_m6 195 rfl) rfl
theorem q1487 : (Jvm.Cond.instanceMethod ({ cls := "TreesBeforeMenModel", name := "rule", desc := "()I" } : Jvm.MethodName)) ∈ lw_all := lw_g (lw_at lw_m6 197 rfl) rfl
theorem q1488 : (Jvm.Cond.selects "TreesBeforeMenModel" ({ cls := "TreesBeforeMenModel", name := "rule", desc := "()I" } : Jvm.MethodName) ({ cls := "TreesBeforeMenModel", name := "rule", desc := "()I" } : Jvm.MethodName)) ∈ lw_all := lw_g (lw_at lw_m6 198 rfl) rfl
theorem q1489 : (Jvm.Cond.code ({ cls := "TreesBeforeMenModel", name := "rule", desc := "()I" } : Jvm.MethodName) prog_15_method_33_code (2 : Nat) (Option.some Jvm.ClassFile.FieldType.int)) ∈ lw_all := lw_g (lw_at lw_m6 199 rfl) rfl
theorem q1490 : (Jvm.Cond.methodLink "TreesBeforeMenModel" (242 : Nat) ({ cls := "TreesBeforeMenModel", name := "readsRule", desc := "()I" } : Jvm.MethodName)) ∈ lw_all := lw_g (lw_at lw_m6 200 rfl) rfl
theorem q1491 : (Jvm.Cond.privateMethod ({ cls := "TreesBeforeMenModel", name := "readsRule", desc := "()I" } : Jvm.MethodName)) ∈ lw_tbl := lw_at lw_m6 201 rfl
theorem q1492 : (Jvm.Cond.instanceMethod ({ cls := "TreesBeforeMenModel", name := "readsRule", desc := "()I" } : Jvm.MethodName)) ∈ lw_all := lw_g (lw_at lw_m6 202 rfl) rfl
theorem q1493 : (Jvm.Cond.code ({ cls := "TreesBeforeMenModel", name := "readsRule", desc := "()I" } : Jvm.MethodName) prog_15_method_31_code (3 : Nat) (Option.some Jvm.ClassFile.FieldType.int)) ∈ lw_all := lw_g (lw_at lw_m6 203 rfl) rfl
theorem q1494 : (Jvm.Cond.methodLink "TreesBeforeMenModel" (230 : Nat) ({ cls := "TreesBeforeMenModel", name := "readsRank", desc := "(I)Z" } : Jvm.MethodName)) ∈ lw_all := lw_g (lw_at lw_m6 204 rfl) rfl
theorem q1495 : (Jvm.Cond.privateMethod ({ cls := "TreesBeforeMenModel", name := "readsRank", desc := "(I)Z" } : Jvm.MethodName)) ∈ lw_tbl := lw_at lw_m6 205 rfl
theorem q1496 : (Jvm.Cond.instanceMethod ({ cls := "TreesBeforeMenModel", name := "readsRank", desc := "(I)Z" } : Jvm.MethodName)) ∈ lw_all := lw_g (lw_at lw_m6 206 rfl) rfl
theorem q1497 : (Jvm.Cond.code ({ cls := "TreesBeforeMenModel", name := "readsRank", desc := "(I)Z" } : Jvm.MethodName) prog_15_method_30_code (4 : Nat) (Option.some Jvm.ClassFile.FieldType.boolean)) ∈ lw_all := lw_g (lw_at lw_m6 207 rfl) rfl
theorem q1498 : (Jvm.Cond.methodLink "TreesBeforeMenModel" (221 : Nat) ({ cls := "TreesBeforeMenModel", name := "readsThing", desc := "()Z" } : Jvm.MethodName)) ∈ lw_all := lw_g (lw_at lw_m6 208 rfl) rfl
theorem q1499 : (Jvm.Cond.privateMethod ({ cls := "TreesBeforeMenModel", name := "readsThing", desc := "()Z" } : Jvm.MethodName)) ∈ lw_tbl := lw_at lw_m6 209 rfl
theorem q1500 : (Jvm.Cond.instanceMethod ({ cls := "TreesBeforeMenModel", name := "readsThing", desc := "()Z" } : Jvm.MethodName)) ∈ lw_all := lw_g (lw_at lw_m6 210 rfl) rfl
theorem q1501 : (Jvm.Cond.code ({ cls := "TreesBeforeMenModel", name := "readsThing", desc := "()Z" } : Jvm.MethodName) prog_15_method_29_code (2 : Nat) (Option.some Jvm.ClassFile.FieldType.boolean)) ∈ lw_all := lw_g (lw_at lw_m6 211 rfl) rfl
theorem q1502 : (Jvm.Cond.methodLink "TreesBeforeMenModel" (224 : Nat) ({ cls := "TreesBeforeMenModel", name := "codes", desc := "(I)V" } : Jvm.MethodName)) ∈ lw_all := lw_g (lw_at lw_m6 212 rfl) rfl
theorem q1503 : (Jvm.Cond.privateMethod ({ cls := "TreesBeforeMenModel", name := "codes", desc := "(I)V" } : Jvm.MethodName)) ∈ lw_tbl := lw_at lw_m6 213 rfl
theorem q1504 : (Jvm.Cond.instanceMethod ({ cls := "TreesBeforeMenModel", name := "codes", desc := "(I)V" } : Jvm.MethodName)) ∈ lw_all := lw_g (lw_at lw_m6 214 rfl) rfl
theorem q1505 : (Jvm.Cond.code ({ cls := "TreesBeforeMenModel", name := "codes", desc := "(I)V" } : Jvm.MethodName) prog_15_method_28_code (2 : Nat) (Option.none : Option Jvm.ClassFile.FieldType)) ∈ lw_all := lw_g (lw_at lw_m6 215 rfl) rfl
theorem q1506 : (Jvm.Cond.stringRef "TreesBeforeMenModel" (228 : Nat) "tbhsd") ∈ lw_tbl := lw_at lw_m6 216 rfl
theorem q1507 : (Jvm.Cond.stringRef "TreesBeforeMenModel" (233 : Nat) "<>=") ∈ lw_tbl := lw_at lw_m6 217 rfl
theorem q1508 : (Jvm.Cond.stringRef "TreesBeforeMenModel" (235 : Nat) "+-") ∈ lw_tbl := lw_at lw_m6 218 rfl
theorem q1509 : (Jvm.Cond.stringRef "TreesBeforeMenModel" (237 : Nat) "*/") ∈ lw_tbl := lw_at lw_m6 219 rfl
theorem q1510 : (Jvm.Cond.methodLink "TreesBeforeMenModel" (245 : Nat) ({ cls := "TreesBeforeMenModel", name := "laysCode", desc := "([II)V" } : Jvm.MethodName)) ∈ lw_all := lw_g (lw_at lw_m6 220 rfl) rfl
theorem q1511 : (Jvm.Cond.privateMethod ({ cls := "TreesBeforeMenModel", name := "laysCode", desc := "([II)V" } : Jvm.MethodName)) ∈ lw_tbl := lw_at lw_m6 221 rfl
theorem q1512 : (Jvm.Cond.instanceMethod ({ cls := "TreesBeforeMenModel", name := "laysCode", desc := "([II)V" } : Jvm.MethodName)) ∈ lw_all := lw_g (lw_at lw_m6 222 rfl) rfl
theorem q1513 : (Jvm.Cond.code ({ cls := "TreesBeforeMenModel", name := "laysCode", desc := "([II)V" } : Jvm.MethodName) prog_15_method_32_code (4 : Nat) (Option.none : Option Jvm.ClassFile.FieldType)) ∈ lw_all := lw_g (lw_at lw_m6 223 rfl) rfl
theorem q1515 : (Jvm.Cond.instanceMethod ({ cls := "TreesBeforeMenModel", name := "man", desc := "(II)I" } : Jvm.MethodName)) ∈ lw_all := lw_g (lw_at lw_m6 225 rfl) rfl
theorem q1516 : (Jvm.Cond.selects "TreesBeforeMenModel" ({ cls := "TreesBeforeMenModel", name := "man", desc := "(II)I" } : Jvm.MethodName) ({ cls := "TreesBeforeMenModel", name := "man", desc := "(II)I" } : Jvm.MethodName)) ∈ lw_all := lw_g (lw_at lw_m6 226 rfl) rfl
theorem q1517 : (Jvm.Cond.code ({ cls := "TreesBeforeMenModel", name := "man", desc := "(II)I" } : Jvm.MethodName) prog_15_method_40_code (3 : Nat) (Option.some Jvm.ClassFile.FieldType.int)) ∈ lw_all := lw_g (lw_at lw_m6 227 rfl) rfl
theorem q1518 : (Jvm.Cond.methodLink "TreesBeforeMenModel" (278 : Nat) ({ cls := "TreesBeforeMenModel", name := "isMan", desc := "(I)Z" } : Jvm.MethodName)) ∈ lw_all := lw_g (lw_at lw_m6 228 rfl) rfl
theorem q1519 : (Jvm.Cond.privateMethod ({ cls := "TreesBeforeMenModel", name := "isMan", desc := "(I)Z" } : Jvm.MethodName)) ∈ lw_tbl := lw_at lw_m6 229 rfl
theorem q1520 : (Jvm.Cond.instanceMethod ({ cls := "TreesBeforeMenModel", name := "isMan", desc := "(I)Z" } : Jvm.MethodName)) ∈ lw_all := lw_g (lw_at lw_m6 230 rfl) rfl
theorem q1521 : (Jvm.Cond.code ({ cls := "TreesBeforeMenModel", name := "isMan", desc := "(I)Z" } : Jvm.MethodName) prog_15_method_10_code (2 : Nat) (Option.some Jvm.ClassFile.FieldType.boolean)) ∈ lw_all := lw_g (lw_at lw_m6 231 rfl) rfl
theorem q1522 : (Jvm.Cond.constantLong "TreesBeforeMenModel" (281 : Nat) (5 : Int64)) ∈ lw_all := lw_g (lw_at lw_m6 232 rfl) rfl
theorem q1523 : (Jvm.Cond.methodLink "TreesBeforeMenModel" (283 : Nat) ({ cls := "TreesBeforeMenModel", name := "refuse", desc := "()I" } : Jvm.MethodName)) ∈ lw_all := lw_g (lw_at lw_m6 233 rfl) rfl
theorem q1524 : (Jvm.Cond.privateMethod ({ cls := "TreesBeforeMenModel", name := "refuse", desc := "()I" } : Jvm.MethodName)) ∈ lw_tbl := lw_at lw_m6 234 rfl
theorem q1525 : (Jvm.Cond.instanceMethod ({ cls := "TreesBeforeMenModel", name := "refuse", desc := "()I" } : Jvm.MethodName)) ∈ lw_all := lw_g (lw_at lw_m6 235 rfl) rfl
theorem q1526 : (Jvm.Cond.code ({ cls := "TreesBeforeMenModel", name := "refuse", desc := "()I" } : Jvm.MethodName) prog_15_method_3_code (1 : Nat) (Option.some Jvm.ClassFile.FieldType.int)) ∈ lw_all := lw_g (lw_at lw_m6 236 rfl) rfl
theorem q1527 : (Jvm.Cond.methodLink "TreesBeforeMenModel" (270 : Nat) ({ cls := "TreesBeforeMenModel", name := "risen", desc := "([III)I" } : Jvm.MethodName)) ∈ lw_all := lw_g (lw_at lw_m6 237 rfl) rfl
theorem q1528 : (Jvm.Cond.privateMethod ({ cls := "TreesBeforeMenModel", name := "risen", desc := "([III)I" } : Jvm.MethodName)) ∈ lw_tbl := lw_at lw_m6 238 rfl
theorem q1529 : (Jvm.Cond.instanceMethod ({ cls := "TreesBeforeMenModel", name := "risen", desc := "([III)I" } : Jvm.MethodName)) ∈ lw_all := lw_g (lw_at lw_m6 239 rfl) rfl
theorem q1530 : (Jvm.Cond.code ({ cls := "TreesBeforeMenModel", name := "risen", desc := "([III)I" } : Jvm.MethodName) prog_15_method_37_code (10 : Nat) (Option.some Jvm.ClassFile.FieldType.int)) ∈ lw_all := lw_g (lw_at lw_m7 0 rfl) rfl
theorem q1531 : (Jvm.Cond.methodLink "TreesBeforeMenModel" (253 : Nat) ({ cls := "TreesBeforeMenModel", name := "those", desc := "([II)I" } : Jvm.MethodName)) ∈ lw_all := lw_g (lw_at lw_m7 1 rfl) rfl
theorem q1532 : (Jvm.Cond.privateMethod ({ cls := "TreesBeforeMenModel", name := "those", desc := "([II)I" } : Jvm.MethodName)) ∈ lw_tbl := lw_at lw_m7 2 rfl
theorem q1533 : (Jvm.Cond.instanceMethod ({ cls := "TreesBeforeMenModel", name := "those", desc := "([II)I" } : Jvm.MethodName)) ∈ lw_all := lw_g (lw_at lw_m7 3 rfl) rfl
theorem q1534 : (Jvm.Cond.code ({ cls := "TreesBeforeMenModel", name := "those", desc := "([II)I" } : Jvm.MethodName) prog_15_method_12_code (5 : Nat) (Option.some Jvm.ClassFile.FieldType.int)) ∈ lw_all := lw_g (lw_at lw_m7 4 rfl) rfl
theorem q1535 : (Jvm.Cond.methodLink "TreesBeforeMenModel" (257 : Nat) ({ cls := "TreesBeforeMenModel", name := "has", desc := "(II)Z" } : Jvm.MethodName)) ∈ lw_all := lw_g (lw_at lw_m7 5 rfl) rfl
theorem q1536 : (Jvm.Cond.static ({ cls := "TreesBeforeMenModel", name := "has", desc := "(II)Z" } : Jvm.MethodName)) ∈ lw_all := lw_g (lw_at lw_m7 6 rfl) rfl
theorem q1537 : (Jvm.Cond.code ({ cls := "TreesBeforeMenModel", name := "has", desc := "(II)Z" } : Jvm.MethodName) prog_15_method_5_code (2 : Nat) (Option.some Jvm.ClassFile.FieldType.boolean)) ∈ lw_all := lw_g (lw_at lw_m7 7 rfl) rfl
theorem q1538 : (Jvm.Cond.methodLink "TreesBeforeMenModel" (261 : Nat) ({ cls := "java/lang/Integer", name := "bitCount", desc := "(I)I" } : Jvm.MethodName)) ∈ lw_all := lw_g (lw_at lw_m7 8 rfl) rfl
theorem q1539 : (Jvm.Cond.methodLink "TreesBeforeMenModel" (266 : Nat) ({ cls := "TreesBeforeMenModel", name := "joins", desc := "([III)Z" } : Jvm.MethodName)) ∈ lw_all := lw_g (lw_at lw_m7 9 rfl) rfl
theorem q1540 : (Jvm.Cond.privateMethod ({ cls := "TreesBeforeMenModel", name := "joins", desc := "([III)Z" } : Jvm.MethodName)) ∈ lw_tbl := lw_at lw_m7 10 rfl
theorem q1541 : (Jvm.Cond.instanceMethod ({ cls := "TreesBeforeMenModel", name := "joins", desc := "([III)Z" } : Jvm.MethodName)) ∈ lw_all := lw_g (lw_at lw_m7 11 rfl) rfl
theorem q1542 : (Jvm.Cond.code ({ cls := "TreesBeforeMenModel", name := "joins", desc := "([III)Z" } : Jvm.MethodName) prog_15_method_36_code (6 : Nat) (Option.some Jvm.ClassFile.FieldType.boolean)) ∈ lw_all := lw_g (lw_at lw_m7 12 rfl) rfl
theorem q1544 : (Jvm.Cond.instanceMethod ({ cls := "TreesBeforeMenModel", name := "island", desc := "(II)I" } : Jvm.MethodName)) ∈ lw_all := lw_g (lw_at lw_m7 14 rfl) rfl
theorem q1545 : (Jvm.Cond.selects "TreesBeforeMenModel" ({ cls := "TreesBeforeMenModel", name := "island", desc := "(II)I" } : Jvm.MethodName) ({ cls := "TreesBeforeMenModel", name := "island", desc := "(II)I" } : Jvm.MethodName)) ∈ lw_all := lw_g (lw_at lw_m7 15 rfl) rfl
theorem q1546 : (Jvm.Cond.code ({ cls := "TreesBeforeMenModel", name := "island", desc := "(II)I" } : Jvm.MethodName) prog_15_method_41_code (3 : Nat) (Option.some Jvm.ClassFile.FieldType.int)) ∈ lw_all := lw_g (lw_at lw_m7 16 rfl) rfl
theorem q1547 : (Jvm.Cond.methodLink "TreesBeforeMenModel" (286 : Nat) ({ cls := "TreesBeforeMenModel", name := "isIsland", desc := "(I)Z" } : Jvm.MethodName)) ∈ lw_all := lw_g (lw_at lw_m7 17 rfl) rfl
theorem q1548 : (Jvm.Cond.privateMethod ({ cls := "TreesBeforeMenModel", name := "isIsland", desc := "(I)Z" } : Jvm.MethodName)) ∈ lw_tbl := lw_at lw_m7 18 rfl
theorem q1549 : (Jvm.Cond.instanceMethod ({ cls := "TreesBeforeMenModel", name := "isIsland", desc := "(I)Z" } : Jvm.MethodName)) ∈ lw_all := lw_g (lw_at lw_m7 19 rfl) rfl
theorem q1550 : (Jvm.Cond.code ({ cls := "TreesBeforeMenModel", name := "isIsland", desc := "(I)Z" } : Jvm.MethodName) prog_15_method_11_code (2 : Nat) (Option.some Jvm.ClassFile.FieldType.boolean)) ∈ lw_all := lw_g (lw_at lw_m7 20 rfl) rfl
theorem q1551 : (Jvm.Cond.constantLong "TreesBeforeMenModel" (289 : Nat) (3 : Int64)) ∈ lw_all := lw_g (lw_at lw_m7 21 rfl) rfl
theorem q1552 : (Jvm.Cond.methodLink "TreesBeforeMenModel" (291 : Nat) ({ cls := "TreesBeforeMenModel", name := "searchesOf", desc := "(I)I" } : Jvm.MethodName)) ∈ lw_all := lw_g (lw_at lw_m7 22 rfl) rfl
theorem q1553 : (Jvm.Cond.privateMethod ({ cls := "TreesBeforeMenModel", name := "searchesOf", desc := "(I)I" } : Jvm.MethodName)) ∈ lw_tbl := lw_at lw_m7 23 rfl
theorem q1554 : (Jvm.Cond.instanceMethod ({ cls := "TreesBeforeMenModel", name := "searchesOf", desc := "(I)I" } : Jvm.MethodName)) ∈ lw_all := lw_g (lw_at lw_m7 24 rfl) rfl
theorem q1555 : (Jvm.Cond.code ({ cls := "TreesBeforeMenModel", name := "searchesOf", desc := "(I)I" } : Jvm.MethodName) prog_15_method_91_code (4 : Nat) (Option.some Jvm.ClassFile.FieldType.int)) ∈ lw_all := lw_g (lw_at lw_m7 25 rfl) rfl
theorem q1557 : (Jvm.Cond.instanceMethod ({ cls := "TreesBeforeMenModel", name := "sheet", desc := "(IIII)I" } : Jvm.MethodName)) ∈ lw_all := lw_g (lw_at lw_m7 27 rfl) rfl
theorem q1558 : (Jvm.Cond.selects "TreesBeforeMenModel" ({ cls := "TreesBeforeMenModel", name := "sheet", desc := "(IIII)I" } : Jvm.MethodName) ({ cls := "TreesBeforeMenModel", name := "sheet", desc := "(IIII)I" } : Jvm.MethodName)) ∈ lw_all := lw_g (lw_at lw_m7 28 rfl) rfl
theorem q1559 : (Jvm.Cond.code ({ cls := "TreesBeforeMenModel", name := "sheet", desc := "(IIII)I" } : Jvm.MethodName) prog_15_method_42_code (9 : Nat) (Option.some Jvm.ClassFile.FieldType.int)) ∈ lw_all := lw_g (lw_at lw_m7 29 rfl) rfl
theorem q1560 : (Jvm.Cond.methodLink "TreesBeforeMenModel" (294 : Nat) ({ cls := "java/lang/Math", name := "max", desc := "(II)I" } : Jvm.MethodName)) ∈ lw_all := lw_g (lw_at lw_m7 30 rfl) rfl
theorem q1562 : (Jvm.Cond.instanceMethod ({ cls := "TreesBeforeMenModel", name := "undo", desc := "()I" } : Jvm.MethodName)) ∈ lw_all := lw_g (lw_at lw_m7 32 rfl) rfl
theorem q1563 : (Jvm.Cond.selects "TreesBeforeMenModel" ({ cls := "TreesBeforeMenModel", name := "undo", desc := "()I" } : Jvm.MethodName) ({ cls := "TreesBeforeMenModel", name := "undo", desc := "()I" } : Jvm.MethodName)) ∈ lw_all := lw_g (lw_at lw_m7 33 rfl) rfl
theorem q1564 : (Jvm.Cond.code ({ cls := "TreesBeforeMenModel", name := "undo", desc := "()I" } : Jvm.MethodName) prog_15_method_46_code (2 : Nat) (Option.some Jvm.ClassFile.FieldType.int)) ∈ lw_all := lw_g (lw_at lw_m7 34 rfl) rfl
theorem q1566 : (Jvm.Cond.instanceMethod ({ cls := "TreesBeforeMenModel", name := "set", desc := "(II)I" } : Jvm.MethodName)) ∈ lw_all := lw_g (lw_at lw_m7 36 rfl) rfl
theorem q1567 : (Jvm.Cond.selects "TreesBeforeMenModel" ({ cls := "TreesBeforeMenModel", name := "set", desc := "(II)I" } : Jvm.MethodName) ({ cls := "TreesBeforeMenModel", name := "set", desc := "(II)I" } : Jvm.MethodName)) ∈ lw_all := lw_g (lw_at lw_m7 37 rfl) rfl
theorem q1568 : (Jvm.Cond.code ({ cls := "TreesBeforeMenModel", name := "set", desc := "(II)I" } : Jvm.MethodName) prog_15_method_56_code (3 : Nat) (Option.some Jvm.ClassFile.FieldType.int)) ∈ lw_all := lw_g (lw_at lw_m7 38 rfl) rfl
theorem q1569 : (Jvm.Cond.methodLink "TreesBeforeMenModel" (320 : Nat) ({ cls := "TreesBeforeMenModel", name := "putsBy", desc := "()V" } : Jvm.MethodName)) ∈ lw_all := lw_g (lw_at lw_m7 39 rfl) rfl
theorem q1570 : (Jvm.Cond.privateMethod ({ cls := "TreesBeforeMenModel", name := "putsBy", desc := "()V" } : Jvm.MethodName)) ∈ lw_tbl := lw_at lw_m7 40 rfl
theorem q1571 : (Jvm.Cond.instanceMethod ({ cls := "TreesBeforeMenModel", name := "putsBy", desc := "()V" } : Jvm.MethodName)) ∈ lw_all := lw_g (lw_at lw_m7 41 rfl) rfl
theorem q1572 : (Jvm.Cond.code ({ cls := "TreesBeforeMenModel", name := "putsBy", desc := "()V" } : Jvm.MethodName) prog_15_method_43_code (2 : Nat) (Option.none : Option Jvm.ClassFile.FieldType)) ∈ lw_all := lw_g (lw_at lw_m7 42 rfl) rfl
theorem q1573 : (Jvm.Cond.methodLink "TreesBeforeMenModel" (323 : Nat) ({ cls := "TreesBeforeMenModel", name := "sets", desc := "(II)I" } : Jvm.MethodName)) ∈ lw_all := lw_g (lw_at lw_m7 43 rfl) rfl
theorem q1574 : (Jvm.Cond.privateMethod ({ cls := "TreesBeforeMenModel", name := "sets", desc := "(II)I" } : Jvm.MethodName)) ∈ lw_tbl := lw_at lw_m7 44 rfl
theorem q1575 : (Jvm.Cond.instanceMethod ({ cls := "TreesBeforeMenModel", name := "sets", desc := "(II)I" } : Jvm.MethodName)) ∈ lw_all := lw_g (lw_at lw_m7 45 rfl) rfl
theorem q1576 : (Jvm.Cond.code ({ cls := "TreesBeforeMenModel", name := "sets", desc := "(II)I" } : Jvm.MethodName) prog_15_method_50_code (4 : Nat) (Option.some Jvm.ClassFile.FieldType.int)) ∈ lw_all := lw_g (lw_at lw_m7 46 rfl) rfl
theorem q1577 : (Jvm.Cond.constantLong "TreesBeforeMenModel" (310 : Nat) (9 : Int64)) ∈ lw_all := lw_g (lw_at lw_m7 47 rfl) rfl
theorem q1578 : (Jvm.Cond.methodLink "TreesBeforeMenModel" (326 : Nat) ({ cls := "TreesBeforeMenModel", name := "counts", desc := "(I)I" } : Jvm.MethodName)) ∈ lw_all := lw_g (lw_at lw_m7 48 rfl) rfl
theorem q1579 : (Jvm.Cond.privateMethod ({ cls := "TreesBeforeMenModel", name := "counts", desc := "(I)I" } : Jvm.MethodName)) ∈ lw_tbl := lw_at lw_m7 49 rfl
theorem q1580 : (Jvm.Cond.instanceMethod ({ cls := "TreesBeforeMenModel", name := "counts", desc := "(I)I" } : Jvm.MethodName)) ∈ lw_all := lw_g (lw_at lw_m7 50 rfl) rfl
theorem q1581 : (Jvm.Cond.code ({ cls := "TreesBeforeMenModel", name := "counts", desc := "(I)I" } : Jvm.MethodName) prog_15_method_45_code (2 : Nat) (Option.some Jvm.ClassFile.FieldType.int)) ∈ lw_all := lw_g (lw_at lw_m7 51 rfl) rfl
theorem q1582 : (Jvm.Cond.methodLink "TreesBeforeMenModel" (297 : Nat) ({ cls := "TreesBeforeMenModel", name := "adds", desc := "(I)I" } : Jvm.MethodName)) ∈ lw_all := lw_g (lw_at lw_m7 52 rfl) rfl
theorem q1583 : (Jvm.Cond.privateMethod ({ cls := "TreesBeforeMenModel", name := "adds", desc := "(I)I" } : Jvm.MethodName)) ∈ lw_tbl := lw_at lw_m7 53 rfl
theorem q1584 : (Jvm.Cond.instanceMethod ({ cls := "TreesBeforeMenModel", name := "adds", desc := "(I)I" } : Jvm.MethodName)) ∈ lw_all := lw_g (lw_at lw_m7 54 rfl) rfl
theorem q1585 : (Jvm.Cond.code ({ cls := "TreesBeforeMenModel", name := "adds", desc := "(I)I" } : Jvm.MethodName) prog_15_method_44_code (3 : Nat) (Option.some Jvm.ClassFile.FieldType.int)) ∈ lw_all := lw_g (lw_at lw_m7 55 rfl) rfl
theorem q1587 : (Jvm.Cond.instanceMethod ({ cls := "TreesBeforeMenModel", name := "days", desc := "(I)I" } : Jvm.MethodName)) ∈ lw_all := lw_g (lw_at lw_m7 57 rfl) rfl
theorem q1588 : (Jvm.Cond.selects "TreesBeforeMenModel" ({ cls := "TreesBeforeMenModel", name := "days", desc := "(I)I" } : Jvm.MethodName) ({ cls := "TreesBeforeMenModel", name := "days", desc := "(I)I" } : Jvm.MethodName)) ∈ lw_all := lw_g (lw_at lw_m7 58 rfl) rfl
theorem q1589 : (Jvm.Cond.code ({ cls := "TreesBeforeMenModel", name := "days", desc := "(I)I" } : Jvm.MethodName) prog_15_method_57_code (4 : Nat) (Option.some Jvm.ClassFile.FieldType.int)) ∈ lw_all := lw_g (lw_at lw_m7 59 rfl) rfl
theorem q1590 : (Jvm.Cond.constantLong "TreesBeforeMenModel" (329 : Nat) (60 : Int64)) ∈ lw_all := lw_g (lw_at lw_m7 60 rfl) rfl
theorem q1591 : (Jvm.Cond.methodLink "TreesBeforeMenModel" (331 : Nat) ({ cls := "TreesBeforeMenModel", name := "goesOn", desc := "([II)I" } : Jvm.MethodName)) ∈ lw_all := lw_g (lw_at lw_m7 61 rfl) rfl
theorem q1592 : (Jvm.Cond.privateMethod ({ cls := "TreesBeforeMenModel", name := "goesOn", desc := "([II)I" } : Jvm.MethodName)) ∈ lw_tbl := lw_at lw_m7 62 rfl
theorem q1593 : (Jvm.Cond.instanceMethod ({ cls := "TreesBeforeMenModel", name := "goesOn", desc := "([II)I" } : Jvm.MethodName)) ∈ lw_all := lw_g (lw_at lw_m7 63 rfl) rfl
theorem q1594 : (Jvm.Cond.code ({ cls := "TreesBeforeMenModel", name := "goesOn", desc := "([II)I" } : Jvm.MethodName) prog_15_method_49_code (5 : Nat) (Option.some Jvm.ClassFile.FieldType.int)) ∈ lw_all := lw_g (lw_at lw_m7 64 rfl) rfl
theorem q1595 : (Jvm.Cond.methodLink "TreesBeforeMenModel" (307 : Nat) ({ cls := "TreesBeforeMenModel", name := "dayGoes", desc := "([I)Z" } : Jvm.MethodName)) ∈ lw_all := lw_g (lw_at lw_m7 65 rfl) rfl
theorem q1596 : (Jvm.Cond.privateMethod ({ cls := "TreesBeforeMenModel", name := "dayGoes", desc := "([I)Z" } : Jvm.MethodName)) ∈ lw_tbl := lw_at lw_m7 66 rfl
theorem q1597 : (Jvm.Cond.instanceMethod ({ cls := "TreesBeforeMenModel", name := "dayGoes", desc := "([I)Z" } : Jvm.MethodName)) ∈ lw_all := lw_g (lw_at lw_m7 67 rfl) rfl
theorem q1598 : (Jvm.Cond.code ({ cls := "TreesBeforeMenModel", name := "dayGoes", desc := "([I)Z" } : Jvm.MethodName) prog_15_method_48_code (7 : Nat) (Option.some Jvm.ClassFile.FieldType.boolean)) ∈ lw_all := lw_g (lw_at lw_m7 68 rfl) rfl
theorem q1599 : (Jvm.Cond.methodLink "TreesBeforeMenModel" (300 : Nat) ({ cls := "TreesBeforeMenModel", name := "canGive", desc := "([I)Z" } : Jvm.MethodName)) ∈ lw_all := lw_g (lw_at lw_m7 69 rfl) rfl
theorem q1600 : (Jvm.Cond.privateMethod ({ cls := "TreesBeforeMenModel", name := "canGive", desc := "([I)Z" } : Jvm.MethodName)) ∈ lw_tbl := lw_at lw_m7 70 rfl
theorem q1601 : (Jvm.Cond.instanceMethod ({ cls := "TreesBeforeMenModel", name := "canGive", desc := "([I)Z" } : Jvm.MethodName)) ∈ lw_all := lw_g (lw_at lw_m7 71 rfl) rfl
theorem q1602 : (Jvm.Cond.code ({ cls := "TreesBeforeMenModel", name := "canGive", desc := "([I)Z" } : Jvm.MethodName) prog_15_method_47_code (2 : Nat) (Option.some Jvm.ClassFile.FieldType.boolean)) ∈ lw_all := lw_g (lw_at lw_m7 72 rfl) rfl
theorem q1603 : (Jvm.Cond.methodLink "TreesBeforeMenModel" (304 : Nat) ({ cls := "TreesBeforeMenModel", name := "ruled", desc := "()I" } : Jvm.MethodName)) ∈ lw_all := lw_g (lw_at lw_m7 73 rfl) rfl
theorem q1604 : (Jvm.Cond.privateMethod ({ cls := "TreesBeforeMenModel", name := "ruled", desc := "()I" } : Jvm.MethodName)) ∈ lw_tbl := lw_at lw_m7 74 rfl
theorem q1605 : (Jvm.Cond.instanceMethod ({ cls := "TreesBeforeMenModel", name := "ruled", desc := "()I" } : Jvm.MethodName)) ∈ lw_all := lw_g (lw_at lw_m7 75 rfl) rfl
theorem q1606 : (Jvm.Cond.code ({ cls := "TreesBeforeMenModel", name := "ruled", desc := "()I" } : Jvm.MethodName) prog_15_method_35_code (4 : Nat) (Option.some Jvm.ClassFile.FieldType.int)) ∈ lw_all := lw_g (lw_at lw_m7 76 rfl) rfl
theorem q1607 : (Jvm.Cond.methodLink "TreesBeforeMenModel" (249 : Nat) ({ cls := "TreesBeforeMenModel", name := "worked", desc := "(III)I" } : Jvm.MethodName)) ∈ lw_all := lw_g (lw_at lw_m7 77 rfl) rfl
theorem q1608 : (Jvm.Cond.static ({ cls := "TreesBeforeMenModel", name := "worked", desc := "(III)I" } : Jvm.MethodName)) ∈ lw_all := lw_g (lw_at lw_m7 78 rfl) rfl
theorem q1609 : (Jvm.Cond.code ({ cls := "TreesBeforeMenModel", name := "worked", desc := "(III)I" } : Jvm.MethodName) prog_15_method_34_code (3 : Nat) (Option.some Jvm.ClassFile.FieldType.int)) ∈ lw_all := lw_g (lw_at lw_m7 79 rfl) rfl
theorem q1610 : (Jvm.Cond.methodLink "TreesBeforeMenModel" (122 : Nat) ({ cls := "TreesBeforeMenModel", name := "enters", desc := "(J)V" } : Jvm.MethodName)) ∈ lw_all := lw_g (lw_at lw_m7 80 rfl) rfl
theorem q1611 : (Jvm.Cond.privateMethod ({ cls := "TreesBeforeMenModel", name := "enters", desc := "(J)V" } : Jvm.MethodName)) ∈ lw_tbl := lw_at lw_m7 81 rfl
theorem q1612 : (Jvm.Cond.instanceMethod ({ cls := "TreesBeforeMenModel", name := "enters", desc := "(J)V" } : Jvm.MethodName)) ∈ lw_all := lw_g (lw_at lw_m7 82 rfl) rfl
theorem q1613 : (Jvm.Cond.code ({ cls := "TreesBeforeMenModel", name := "enters", desc := "(J)V" } : Jvm.MethodName) prog_15_method_8_code (3 : Nat) (Option.none : Option Jvm.ClassFile.FieldType)) ∈ lw_all := lw_g (lw_at lw_m7 83 rfl) rfl
theorem q1614 : (Jvm.Cond.methodLink "TreesBeforeMenModel" (334 : Nat) ({ cls := "TreesBeforeMenModel", name := "isMutiny", desc := "([I)Z" } : Jvm.MethodName)) ∈ lw_all := lw_g (lw_at lw_m7 84 rfl) rfl
theorem q1615 : (Jvm.Cond.privateMethod ({ cls := "TreesBeforeMenModel", name := "isMutiny", desc := "([I)Z" } : Jvm.MethodName)) ∈ lw_tbl := lw_at lw_m7 85 rfl
theorem q1616 : (Jvm.Cond.instanceMethod ({ cls := "TreesBeforeMenModel", name := "isMutiny", desc := "([I)Z" } : Jvm.MethodName)) ∈ lw_all := lw_g (lw_at lw_m7 86 rfl) rfl
theorem q1617 : (Jvm.Cond.code ({ cls := "TreesBeforeMenModel", name := "isMutiny", desc := "([I)Z" } : Jvm.MethodName) prog_15_method_39_code (2 : Nat) (Option.some Jvm.ClassFile.FieldType.boolean)) ∈ lw_all := lw_g (lw_at lw_m7 87 rfl) rfl
theorem q1618 : (Jvm.Cond.methodLink "TreesBeforeMenModel" (274 : Nat) ({ cls := "TreesBeforeMenModel", name := "isMutiny", desc := "([II)Z" } : Jvm.MethodName)) ∈ lw_all := lw_g (lw_at lw_m7 88 rfl) rfl
theorem q1619 : (Jvm.Cond.privateMethod ({ cls := "TreesBeforeMenModel", name := "isMutiny", desc := "([II)Z" } : Jvm.MethodName)) ∈ lw_tbl := lw_at lw_m7 89 rfl
theorem q1620 : (Jvm.Cond.instanceMethod ({ cls := "TreesBeforeMenModel", name := "isMutiny", desc := "([II)Z" } : Jvm.MethodName)) ∈ lw_all := lw_g (lw_at lw_m7 90 rfl) rfl
theorem q1621 : (Jvm.Cond.code ({ cls := "TreesBeforeMenModel", name := "isMutiny", desc := "([II)Z" } : Jvm.MethodName) prog_15_method_38_code (3 : Nat) (Option.some Jvm.ClassFile.FieldType.boolean)) ∈ lw_all := lw_g (lw_at lw_m7 91 rfl) rfl
theorem q1623 : (Jvm.Cond.instanceMethod ({ cls := "TreesBeforeMenModel", name := "fill", desc := "(I)I" } : Jvm.MethodName)) ∈ lw_all := lw_g (lw_at lw_m7 93 rfl) rfl
theorem q1624 : (Jvm.Cond.selects "TreesBeforeMenModel" ({ cls := "TreesBeforeMenModel", name := "fill", desc := "(I)I" } : Jvm.MethodName) ({ cls := "TreesBeforeMenModel", name := "fill", desc := "(I)I" } : Jvm.MethodName)) ∈ lw_all := lw_g (lw_at lw_m7 94 rfl) rfl
theorem q1625 : (Jvm.Cond.code ({ cls := "TreesBeforeMenModel", name := "fill", desc := "(I)I" } : Jvm.MethodName) prog_15_method_58_code (2 : Nat) (Option.some Jvm.ClassFile.FieldType.int)) ∈ lw_all := lw_g (lw_at lw_m7 95 rfl) rfl
theorem q1626 : (Jvm.Cond.methodLink "TreesBeforeMenModel" (336 : Nat) ({ cls := "TreesBeforeMenModel", name := "fills", desc := "([II)I" } : Jvm.MethodName)) ∈ lw_all := lw_g (lw_at lw_m7 96 rfl) rfl
theorem q1627 : (Jvm.Cond.privateMethod ({ cls := "TreesBeforeMenModel", name := "fills", desc := "([II)I" } : Jvm.MethodName)) ∈ lw_tbl := lw_at lw_m7 97 rfl
theorem q1628 : (Jvm.Cond.instanceMethod ({ cls := "TreesBeforeMenModel", name := "fills", desc := "([II)I" } : Jvm.MethodName)) ∈ lw_all := lw_g (lw_at lw_m7 98 rfl) rfl
theorem q1629 : (Jvm.Cond.code ({ cls := "TreesBeforeMenModel", name := "fills", desc := "([II)I" } : Jvm.MethodName) prog_15_method_51_code (3 : Nat) (Option.some Jvm.ClassFile.FieldType.int)) ∈ lw_all := lw_g (lw_at lw_m7 99 rfl) rfl
theorem q1630 : (Jvm.Cond.constantLong "TreesBeforeMenModel" (312 : Nat) (99 : Int64)) ∈ lw_all := lw_g (lw_at lw_m7 100 rfl) rfl
theorem q1632 : (Jvm.Cond.instanceMethod ({ cls := "TreesBeforeMenModel", name := "plant", desc := "(I)I" } : Jvm.MethodName)) ∈ lw_all := lw_g (lw_at lw_m7 102 rfl) rfl
theorem q1633 : (Jvm.Cond.selects "TreesBeforeMenModel" ({ cls := "TreesBeforeMenModel", name := "plant", desc := "(I)I" } : Jvm.MethodName) ({ cls := "TreesBeforeMenModel", name := "plant", desc := "(I)I" } : Jvm.MethodName)) ∈ lw_all := lw_g (lw_at lw_m7 103 rfl) rfl
theorem q1634 : (Jvm.Cond.code ({ cls := "TreesBeforeMenModel", name := "plant", desc := "(I)I" } : Jvm.MethodName) prog_15_method_59_code (2 : Nat) (Option.some Jvm.ClassFile.FieldType.int)) ∈ lw_all := lw_g (lw_at lw_m7 104 rfl) rfl
theorem q1635 : (Jvm.Cond.methodLink "TreesBeforeMenModel" (339 : Nat) ({ cls := "TreesBeforeMenModel", name := "plants", desc := "(I)I" } : Jvm.MethodName)) ∈ lw_all := lw_g (lw_at lw_m7 105 rfl) rfl
theorem q1636 : (Jvm.Cond.privateMethod ({ cls := "TreesBeforeMenModel", name := "plants", desc := "(I)I" } : Jvm.MethodName)) ∈ lw_tbl := lw_at lw_m7 106 rfl
theorem q1637 : (Jvm.Cond.instanceMethod ({ cls := "TreesBeforeMenModel", name := "plants", desc := "(I)I" } : Jvm.MethodName)) ∈ lw_all := lw_g (lw_at lw_m7 107 rfl) rfl
theorem q1638 : (Jvm.Cond.code ({ cls := "TreesBeforeMenModel", name := "plants", desc := "(I)I" } : Jvm.MethodName) prog_15_method_52_code (2 : Nat) (Option.some Jvm.ClassFile.FieldType.int)) ∈ lw_all := lw_g (lw_at lw_m7 108 rfl) rfl
theorem q1640 : (Jvm.Cond.instanceMethod ({ cls := "TreesBeforeMenModel", name := "scold", desc := "(II)I" } : Jvm.MethodName)) ∈ lw_all := lw_g (lw_at lw_m7 110 rfl) rfl
theorem q1641 : (Jvm.Cond.selects "TreesBeforeMenModel" ({ cls := "TreesBeforeMenModel", name := "scold", desc := "(II)I" } : Jvm.MethodName) ({ cls := "TreesBeforeMenModel", name := "scold", desc := "(II)I" } : Jvm.MethodName)) ∈ lw_all := lw_g (lw_at lw_m7 111 rfl) rfl
theorem q1642 : (Jvm.Cond.code ({ cls := "TreesBeforeMenModel", name := "scold", desc := "(II)I" } : Jvm.MethodName) prog_15_method_60_code (3 : Nat) (Option.some Jvm.ClassFile.FieldType.int)) ∈ lw_all := lw_g (lw_at lw_m7 112 rfl) rfl
theorem q1643 : (Jvm.Cond.methodLink "TreesBeforeMenModel" (342 : Nat) ({ cls := "TreesBeforeMenModel", name := "grudges", desc := "([III)I" } : Jvm.MethodName)) ∈ lw_all := lw_g (lw_at lw_m7 113 rfl) rfl
theorem q1644 : (Jvm.Cond.privateMethod ({ cls := "TreesBeforeMenModel", name := "grudges", desc := "([III)I" } : Jvm.MethodName)) ∈ lw_tbl := lw_at lw_m7 114 rfl
theorem q1645 : (Jvm.Cond.instanceMethod ({ cls := "TreesBeforeMenModel", name := "grudges", desc := "([III)I" } : Jvm.MethodName)) ∈ lw_all := lw_g (lw_at lw_m7 115 rfl) rfl
theorem q1646 : (Jvm.Cond.code ({ cls := "TreesBeforeMenModel", name := "grudges", desc := "([III)I" } : Jvm.MethodName) prog_15_method_53_code (4 : Nat) (Option.some Jvm.ClassFile.FieldType.int)) ∈ lw_all := lw_g (lw_at lw_m7 116 rfl) rfl
theorem q1647 : (Jvm.Cond.methodLink "TreesBeforeMenModel" (314 : Nat) ({ cls := "java/lang/Math", name := "abs", desc := "(I)I" } : Jvm.MethodName)) ∈ lw_all := lw_g (lw_at lw_m7 117 rfl) rfl
theorem q1651 : (Jvm.Cond.instanceMethod ({ cls := "TreesBeforeMenModel", name := "soothe", desc := "(II)I" } : Jvm.MethodName)) ∈ lw_all := lw_g (lw_at lw_m7 121 rfl) rfl
theorem q1652 : (Jvm.Cond.selects "TreesBeforeMenModel" ({ cls := "TreesBeforeMenModel", name := "soothe", desc := "(II)I" } : Jvm.MethodName) ({ cls := "TreesBeforeMenModel", name := "soothe", desc := "(II)I" } : Jvm.MethodName)) ∈ lw_all := lw_g (lw_at lw_m7 122 rfl) rfl
theorem q1653 : (Jvm.Cond.code ({ cls := "TreesBeforeMenModel", name := "soothe", desc := "(II)I" } : Jvm.MethodName) prog_15_method_61_code (3 : Nat) (Option.some Jvm.ClassFile.FieldType.int)) ∈ lw_all := lw_g (lw_at lw_m7 123 rfl) rfl
theorem q1655 : (Jvm.Cond.instanceMethod ({ cls := "TreesBeforeMenModel", name := "runs", desc := "(I)I" } : Jvm.MethodName)) ∈ lw_all := lw_g (lw_at lw_m7 125 rfl) rfl
theorem q1656 : (Jvm.Cond.selects "TreesBeforeMenModel" ({ cls := "TreesBeforeMenModel", name := "runs", desc := "(I)I" } : Jvm.MethodName) ({ cls := "TreesBeforeMenModel", name := "runs", desc := "(I)I" } : Jvm.MethodName)) ∈ lw_all := lw_g (lw_at lw_m7 126 rfl) rfl
theorem q1657 : (Jvm.Cond.code ({ cls := "TreesBeforeMenModel", name := "runs", desc := "(I)I" } : Jvm.MethodName) prog_15_method_62_code (2 : Nat) (Option.some Jvm.ClassFile.FieldType.int)) ∈ lw_all := lw_g (lw_at lw_m7 127 rfl) rfl
theorem q1658 : (Jvm.Cond.methodLink "TreesBeforeMenModel" (345 : Nat) ({ cls := "TreesBeforeMenModel", name := "runsOff", desc := "(I)I" } : Jvm.MethodName)) ∈ lw_all := lw_g (lw_at lw_m7 128 rfl) rfl
theorem q1659 : (Jvm.Cond.privateMethod ({ cls := "TreesBeforeMenModel", name := "runsOff", desc := "(I)I" } : Jvm.MethodName)) ∈ lw_tbl := lw_at lw_m7 129 rfl
theorem q1660 : (Jvm.Cond.instanceMethod ({ cls := "TreesBeforeMenModel", name := "runsOff", desc := "(I)I" } : Jvm.MethodName)) ∈ lw_all := lw_g (lw_at lw_m7 130 rfl) rfl
theorem q1661 : (Jvm.Cond.code ({ cls := "TreesBeforeMenModel", name := "runsOff", desc := "(I)I" } : Jvm.MethodName) prog_15_method_54_code (3 : Nat) (Option.some Jvm.ClassFile.FieldType.int)) ∈ lw_all := lw_g (lw_at lw_m7 131 rfl) rfl
theorem q1663 : (Jvm.Cond.instanceMethod ({ cls := "TreesBeforeMenModel", name := "put", desc := "()I" } : Jvm.MethodName)) ∈ lw_all := lw_g (lw_at lw_m7 133 rfl) rfl
theorem q1664 : (Jvm.Cond.selects "TreesBeforeMenModel" ({ cls := "TreesBeforeMenModel", name := "put", desc := "()I" } : Jvm.MethodName) ({ cls := "TreesBeforeMenModel", name := "put", desc := "()I" } : Jvm.MethodName)) ∈ lw_all := lw_g (lw_at lw_m7 134 rfl) rfl
theorem q1665 : (Jvm.Cond.code ({ cls := "TreesBeforeMenModel", name := "put", desc := "()I" } : Jvm.MethodName) prog_15_method_63_code (2 : Nat) (Option.some Jvm.ClassFile.FieldType.int)) ∈ lw_all := lw_g (lw_at lw_m7 135 rfl) rfl
theorem q1666 : (Jvm.Cond.methodLink "TreesBeforeMenModel" (348 : Nat) ({ cls := "TreesBeforeMenModel", name := "puts", desc := "([I)I" } : Jvm.MethodName)) ∈ lw_all := lw_g (lw_at lw_m7 136 rfl) rfl
theorem q1667 : (Jvm.Cond.privateMethod ({ cls := "TreesBeforeMenModel", name := "puts", desc := "([I)I" } : Jvm.MethodName)) ∈ lw_tbl := lw_at lw_m7 137 rfl
theorem q1668 : (Jvm.Cond.instanceMethod ({ cls := "TreesBeforeMenModel", name := "puts", desc := "([I)I" } : Jvm.MethodName)) ∈ lw_all := lw_g (lw_at lw_m7 138 rfl) rfl
theorem q1669 : (Jvm.Cond.code ({ cls := "TreesBeforeMenModel", name := "puts", desc := "([I)I" } : Jvm.MethodName) prog_15_method_55_code (4 : Nat) (Option.some Jvm.ClassFile.FieldType.int)) ∈ lw_all := lw_g (lw_at lw_m7 139 rfl) rfl
theorem q1671 : (Jvm.Cond.instanceMethod ({ cls := "TreesBeforeMenModel", name := "log", desc := "()I" } : Jvm.MethodName)) ∈ lw_all := lw_g (lw_at lw_m7 141 rfl) rfl
theorem q1672 : (Jvm.Cond.selects "TreesBeforeMenModel" ({ cls := "TreesBeforeMenModel", name := "log", desc := "()I" } : Jvm.MethodName) ({ cls := "TreesBeforeMenModel", name := "log", desc := "()I" } : Jvm.MethodName)) ∈ lw_all := lw_g (lw_at lw_m7 142 rfl) rfl
theorem q1673 : (Jvm.Cond.code ({ cls := "TreesBeforeMenModel", name := "log", desc := "()I" } : Jvm.MethodName) prog_15_method_66_code (5 : Nat) (Option.some Jvm.ClassFile.FieldType.int)) ∈ lw_all := lw_g (lw_at lw_m7 143 rfl) rfl
theorem q1674 : (Jvm.Cond.methodLink "TreesBeforeMenModel" (359 : Nat) ({ cls := "TreesBeforeMenModel", name := "readsAct", desc := "()Z" } : Jvm.MethodName)) ∈ lw_all := lw_g (lw_at lw_m7 144 rfl) rfl
theorem q1675 : (Jvm.Cond.privateMethod ({ cls := "TreesBeforeMenModel", name := "readsAct", desc := "()Z" } : Jvm.MethodName)) ∈ lw_tbl := lw_at lw_m7 145 rfl
theorem q1676 : (Jvm.Cond.instanceMethod ({ cls := "TreesBeforeMenModel", name := "readsAct", desc := "()Z" } : Jvm.MethodName)) ∈ lw_all := lw_g (lw_at lw_m7 146 rfl) rfl
theorem q1677 : (Jvm.Cond.code ({ cls := "TreesBeforeMenModel", name := "readsAct", desc := "()Z" } : Jvm.MethodName) prog_15_method_64_code (2 : Nat) (Option.some Jvm.ClassFile.FieldType.boolean)) ∈ lw_all := lw_g (lw_at lw_m7 147 rfl) rfl
theorem q1678 : (Jvm.Cond.stringRef "TreesBeforeMenModel" (355 : Nat) "dwckrpab") ∈ lw_tbl := lw_at lw_m7 148 rfl
theorem q1679 : (Jvm.Cond.stringRef "TreesBeforeMenModel" (357 : Nat) "abcdefgh") ∈ lw_tbl := lw_at lw_m7 149 rfl
theorem q1680 : (Jvm.Cond.methodLink "TreesBeforeMenModel" (362 : Nat) ({ cls := "TreesBeforeMenModel", name := "does", desc := "(I)Z" } : Jvm.MethodName)) ∈ lw_all := lw_g (lw_at lw_m7 150 rfl) rfl
theorem q1681 : (Jvm.Cond.privateMethod ({ cls := "TreesBeforeMenModel", name := "does", desc := "(I)Z" } : Jvm.MethodName)) ∈ lw_tbl := lw_at lw_m7 151 rfl
theorem q1682 : (Jvm.Cond.instanceMethod ({ cls := "TreesBeforeMenModel", name := "does", desc := "(I)Z" } : Jvm.MethodName)) ∈ lw_all := lw_g (lw_at lw_m7 152 rfl) rfl
theorem q1683 : (Jvm.Cond.code ({ cls := "TreesBeforeMenModel", name := "does", desc := "(I)Z" } : Jvm.MethodName) prog_15_method_65_code (3 : Nat) (Option.some Jvm.ClassFile.FieldType.boolean)) ∈ lw_all := lw_g (lw_at lw_m7 153 rfl) rfl
theorem q1685 : (Jvm.Cond.instanceMethod ({ cls := "TreesBeforeMenModel", name := "rises", desc := "()I" } : Jvm.MethodName)) ∈ lw_all := lw_g (lw_at lw_m7 155 rfl) rfl
theorem q1686 : (Jvm.Cond.selects "TreesBeforeMenModel" ({ cls := "TreesBeforeMenModel", name := "rises", desc := "()I" } : Jvm.MethodName) ({ cls := "TreesBeforeMenModel", name := "rises", desc := "()I" } : Jvm.MethodName)) ∈ lw_all := lw_g (lw_at lw_m7 156 rfl) rfl
theorem q1687 : (Jvm.Cond.code ({ cls := "TreesBeforeMenModel", name := "rises", desc := "()I" } : Jvm.MethodName) prog_15_method_69_code (2 : Nat) (Option.some Jvm.ClassFile.FieldType.int)) ∈ lw_all := lw_g (lw_at lw_m7 157 rfl) rfl
theorem q1688 : (Jvm.Cond.methodLink "TreesBeforeMenModel" (365 : Nat) ({ cls := "TreesBeforeMenModel", name := "tellsRisen", desc := "(I)V" } : Jvm.MethodName)) ∈ lw_all := lw_g (lw_at lw_m7 158 rfl) rfl
theorem q1689 : (Jvm.Cond.privateMethod ({ cls := "TreesBeforeMenModel", name := "tellsRisen", desc := "(I)V" } : Jvm.MethodName)) ∈ lw_tbl := lw_at lw_m7 159 rfl
theorem q1690 : (Jvm.Cond.instanceMethod ({ cls := "TreesBeforeMenModel", name := "tellsRisen", desc := "(I)V" } : Jvm.MethodName)) ∈ lw_all := lw_g (lw_at lw_m7 160 rfl) rfl
theorem q1691 : (Jvm.Cond.code ({ cls := "TreesBeforeMenModel", name := "tellsRisen", desc := "(I)V" } : Jvm.MethodName) prog_15_method_68_code (2 : Nat) (Option.none : Option Jvm.ClassFile.FieldType)) ∈ lw_all := lw_g (lw_at lw_m7 161 rfl) rfl
theorem q1693 : (Jvm.Cond.instanceMethod ({ cls := "TreesBeforeMenModel", name := "follow", desc := "(I)I" } : Jvm.MethodName)) ∈ lw_all := lw_g (lw_at lw_m7 163 rfl) rfl
theorem q1694 : (Jvm.Cond.selects "TreesBeforeMenModel" ({ cls := "TreesBeforeMenModel", name := "follow", desc := "(I)I" } : Jvm.MethodName) ({ cls := "TreesBeforeMenModel", name := "follow", desc := "(I)I" } : Jvm.MethodName)) ∈ lw_all := lw_g (lw_at lw_m7 164 rfl) rfl
theorem q1695 : (Jvm.Cond.code ({ cls := "TreesBeforeMenModel", name := "follow", desc := "(I)I" } : Jvm.MethodName) prog_15_method_70_code (3 : Nat) (Option.some Jvm.ClassFile.FieldType.int)) ∈ lw_all := lw_g (lw_at lw_m7 165 rfl) rfl
theorem q1697 : (Jvm.Cond.instanceMethod ({ cls := "TreesBeforeMenModel", name := "quiet", desc := "()I" } : Jvm.MethodName)) ∈ lw_all := lw_g (lw_at lw_m7 167 rfl) rfl
theorem q1698 : (Jvm.Cond.selects "TreesBeforeMenModel" ({ cls := "TreesBeforeMenModel", name := "quiet", desc := "()I" } : Jvm.MethodName) ({ cls := "TreesBeforeMenModel", name := "quiet", desc := "()I" } : Jvm.MethodName)) ∈ lw_all := lw_g (lw_at lw_m7 168 rfl) rfl
theorem q1699 : (Jvm.Cond.code ({ cls := "TreesBeforeMenModel", name := "quiet", desc := "()I" } : Jvm.MethodName) prog_15_method_71_code (2 : Nat) (Option.some Jvm.ClassFile.FieldType.int)) ∈ lw_all := lw_g (lw_at lw_m7 169 rfl) rfl
theorem q1700 : (Jvm.Cond.methodLink "TreesBeforeMenModel" (368 : Nat) ({ cls := "TreesBeforeMenModel", name := "copies", desc := "()V" } : Jvm.MethodName)) ∈ lw_all := lw_g (lw_at lw_m7 170 rfl) rfl
theorem q1701 : (Jvm.Cond.privateMethod ({ cls := "TreesBeforeMenModel", name := "copies", desc := "()V" } : Jvm.MethodName)) ∈ lw_tbl := lw_at lw_m7 171 rfl
theorem q1702 : (Jvm.Cond.instanceMethod ({ cls := "TreesBeforeMenModel", name := "copies", desc := "()V" } : Jvm.MethodName)) ∈ lw_all := lw_g (lw_at lw_m7 172 rfl) rfl
theorem q1703 : (Jvm.Cond.code ({ cls := "TreesBeforeMenModel", name := "copies", desc := "()V" } : Jvm.MethodName) prog_15_method_67_code (2 : Nat) (Option.none : Option Jvm.ClassFile.FieldType)) ∈ lw_all := lw_g (lw_at lw_m7 173 rfl) rfl
theorem q1705 : (Jvm.Cond.instanceMethod ({ cls := "TreesBeforeMenModel", name := "words", desc := "()I" } : Jvm.MethodName)) ∈ lw_all := lw_g (lw_at lw_m7 175 rfl) rfl
theorem q1706 : (Jvm.Cond.selects "TreesBeforeMenModel" ({ cls := "TreesBeforeMenModel", name := "words", desc := "()I" } : Jvm.MethodName) ({ cls := "TreesBeforeMenModel", name := "words", desc := "()I" } : Jvm.MethodName)) ∈ lw_all := lw_g (lw_at lw_m7 176 rfl) rfl
theorem q1707 : (Jvm.Cond.code ({ cls := "TreesBeforeMenModel", name := "words", desc := "()I" } : Jvm.MethodName) prog_15_method_75_code (1 : Nat) (Option.some Jvm.ClassFile.FieldType.int)) ∈ lw_all := lw_g (lw_at lw_m7 177 rfl) rfl
theorem q1708 : (Jvm.Cond.methodLink "TreesBeforeMenModel" (379 : Nat) ({ cls := "TreesBeforeMenModel", name := "tellsCheapest", desc := "(Z)I" } : Jvm.MethodName)) ∈ lw_all := lw_g (lw_at lw_m7 178 rfl) rfl
theorem q1709 : (Jvm.Cond.privateMethod ({ cls := "TreesBeforeMenModel", name := "tellsCheapest", desc := "(Z)I" } : Jvm.MethodName)) ∈ lw_tbl := lw_at lw_m7 179 rfl
theorem q1710 : (Jvm.Cond.instanceMethod ({ cls := "TreesBeforeMenModel", name := "tellsCheapest", desc := "(Z)I" } : Jvm.MethodName)) ∈ lw_all := lw_g (lw_at lw_m7 180 rfl) rfl
theorem q1711 : (Jvm.Cond.code ({ cls := "TreesBeforeMenModel", name := "tellsCheapest", desc := "(Z)I" } : Jvm.MethodName) prog_15_method_74_code (5 : Nat) (Option.some Jvm.ClassFile.FieldType.int)) ∈ lw_all := lw_g (lw_at lw_m7 181 rfl) rfl
theorem q1712 : (Jvm.Cond.methodLink "TreesBeforeMenModel" (376 : Nat) ({ cls := "TreesBeforeMenModel", name := "cheapest", desc := "(Z)I" } : Jvm.MethodName)) ∈ lw_all := lw_g (lw_at lw_m7 182 rfl) rfl
theorem q1713 : (Jvm.Cond.privateMethod ({ cls := "TreesBeforeMenModel", name := "cheapest", desc := "(Z)I" } : Jvm.MethodName)) ∈ lw_tbl := lw_at lw_m7 183 rfl
theorem q1714 : (Jvm.Cond.instanceMethod ({ cls := "TreesBeforeMenModel", name := "cheapest", desc := "(Z)I" } : Jvm.MethodName)) ∈ lw_all := lw_g (lw_at lw_m7 184 rfl) rfl
theorem q1715 : (Jvm.Cond.code ({ cls := "TreesBeforeMenModel", name := "cheapest", desc := "(Z)I" } : Jvm.MethodName) prog_15_method_73_code (8 : Nat) (Option.some Jvm.ClassFile.FieldType.int)) ∈ lw_all := lw_g (lw_at lw_m7 185 rfl) rfl
theorem q1716 : (Jvm.Cond.constant "TreesBeforeMenModel" (371 : Nat) (1000000 : Int32)) ∈ lw_all := lw_g (lw_at lw_m7 186 rfl) rfl
theorem q1717 : (Jvm.Cond.methodLink "TreesBeforeMenModel" (372 : Nat) ({ cls := "TreesBeforeMenModel", name := "isLess", desc := "(II[I)Z" } : Jvm.MethodName)) ∈ lw_all := lw_g (lw_at lw_m7 187 rfl) rfl
theorem q1718 : (Jvm.Cond.static ({ cls := "TreesBeforeMenModel", name := "isLess", desc := "(II[I)Z" } : Jvm.MethodName)) ∈ lw_all := lw_g (lw_at lw_m7 188 rfl) rfl
theorem q1719 : (Jvm.Cond.code ({ cls := "TreesBeforeMenModel", name := "isLess", desc := "(II[I)Z" } : Jvm.MethodName) prog_15_method_72_code (6 : Nat) (Option.some Jvm.ClassFile.FieldType.boolean)) ∈ lw_all := lw_g (lw_at lw_m7 189 rfl) rfl
theorem q1721 : (Jvm.Cond.instanceMethod ({ cls := "TreesBeforeMenModel", name := "kindness", desc := "()I" } : Jvm.MethodName)) ∈ lw_all := lw_g (lw_at lw_m7 191 rfl) rfl
theorem q1722 : (Jvm.Cond.selects "TreesBeforeMenModel" ({ cls := "TreesBeforeMenModel", name := "kindness", desc := "()I" } : Jvm.MethodName) ({ cls := "TreesBeforeMenModel", name := "kindness", desc := "()I" } : Jvm.MethodName)) ∈ lw_all := lw_g (lw_at lw_m7 192 rfl) rfl
theorem q1723 : (Jvm.Cond.code ({ cls := "TreesBeforeMenModel", name := "kindness", desc := "()I" } : Jvm.MethodName) prog_15_method_76_code (1 : Nat) (Option.some Jvm.ClassFile.FieldType.int)) ∈ lw_all := lw_g (lw_at lw_m7 193 rfl) rfl
theorem q1725 : (Jvm.Cond.instanceMethod ({ cls := "TreesBeforeMenModel", name := "heads", desc := "()I" } : Jvm.MethodName)) ∈ lw_all := lw_g (lw_at lw_m7 195 rfl) rfl
theorem q1726 : (Jvm.Cond.selects "TreesBeforeMenModel" ({ cls := "TreesBeforeMenModel", name := "heads", desc := "()I" } : Jvm.MethodName) ({ cls := "TreesBeforeMenModel", name := "heads", desc := "()I" } : Jvm.MethodName)) ∈ lw_all := lw_g (lw_at lw_m7 196 rfl) rfl
theorem q1727 : (Jvm.Cond.code ({ cls := "TreesBeforeMenModel", name := "heads", desc := "()I" } : Jvm.MethodName) prog_15_method_77_code (3 : Nat) (Option.some Jvm.ClassFile.FieldType.int)) ∈ lw_all := lw_g (lw_at lw_m7 197 rfl) rfl
theorem q1729 : (Jvm.Cond.instanceMethod ({ cls := "TreesBeforeMenModel", name := "ahead", desc := "(I)I" } : Jvm.MethodName)) ∈ lw_all := lw_g (lw_at lw_m7 199 rfl) rfl
theorem q1730 : (Jvm.Cond.selects "TreesBeforeMenModel" ({ cls := "TreesBeforeMenModel", name := "ahead", desc := "(I)I" } : Jvm.MethodName) ({ cls := "TreesBeforeMenModel", name := "ahead", desc := "(I)I" } : Jvm.MethodName)) ∈ lw_all := lw_g (lw_at lw_m7 200 rfl) rfl
theorem q1731 : (Jvm.Cond.code ({ cls := "TreesBeforeMenModel", name := "ahead", desc := "(I)I" } : Jvm.MethodName) prog_15_method_78_code (3 : Nat) (Option.some Jvm.ClassFile.FieldType.int)) ∈ lw_all := lw_g (lw_at lw_m7 201 rfl) rfl
theorem q1733 : (Jvm.Cond.instanceMethod ({ cls := "TreesBeforeMenModel", name := "lasts", desc := "()I" } : Jvm.MethodName)) ∈ lw_all := lw_g (lw_at lw_m7 203 rfl) rfl
theorem q1734 : (Jvm.Cond.selects "TreesBeforeMenModel" ({ cls := "TreesBeforeMenModel", name := "lasts", desc := "()I" } : Jvm.MethodName) ({ cls := "TreesBeforeMenModel", name := "lasts", desc := "()I" } : Jvm.MethodName)) ∈ lw_all := lw_g (lw_at lw_m7 204 rfl) rfl
theorem q1735 : (Jvm.Cond.code ({ cls := "TreesBeforeMenModel", name := "lasts", desc := "()I" } : Jvm.MethodName) prog_15_method_79_code (2 : Nat) (Option.some Jvm.ClassFile.FieldType.int)) ∈ lw_all := lw_g (lw_at lw_m7 205 rfl) rfl
theorem q1737 : (Jvm.Cond.instanceMethod ({ cls := "TreesBeforeMenModel", name := "most", desc := "(I)I" } : Jvm.MethodName)) ∈ lw_all := lw_g (lw_at lw_m7 207 rfl) rfl
theorem q1738 : (Jvm.Cond.selects "TreesBeforeMenModel" ({ cls := "TreesBeforeMenModel", name := "most", desc := "(I)I" } : Jvm.MethodName) ({ cls := "TreesBeforeMenModel", name := "most", desc := "(I)I" } : Jvm.MethodName)) ∈ lw_all := lw_g (lw_at lw_m7 208 rfl) rfl
theorem q1739 : (Jvm.Cond.code ({ cls := "TreesBeforeMenModel", name := "most", desc := "(I)I" } : Jvm.MethodName) prog_15_method_80_code (6 : Nat) (Option.some Jvm.ClassFile.FieldType.int)) ∈ lw_all := lw_g (lw_at lw_m7 209 rfl) rfl
theorem q1740 : (Jvm.Cond.constantLong "TreesBeforeMenModel" (382 : Nat) (30 : Int64)) ∈ lw_all := lw_g (lw_at lw_m7 210 rfl) rfl
theorem q1742 : (Jvm.Cond.instanceMethod ({ cls := "TreesBeforeMenModel", name := "gives", desc := "(I)I" } : Jvm.MethodName)) ∈ lw_all := lw_g (lw_at lw_m7 212 rfl) rfl
theorem q1743 : (Jvm.Cond.selects "TreesBeforeMenModel" ({ cls := "TreesBeforeMenModel", name := "gives", desc := "(I)I" } : Jvm.MethodName) ({ cls := "TreesBeforeMenModel", name := "gives", desc := "(I)I" } : Jvm.MethodName)) ∈ lw_all := lw_g (lw_at lw_m7 213 rfl) rfl
theorem q1744 : (Jvm.Cond.code ({ cls := "TreesBeforeMenModel", name := "gives", desc := "(I)I" } : Jvm.MethodName) prog_15_method_81_code (4 : Nat) (Option.some Jvm.ClassFile.FieldType.int)) ∈ lw_all := lw_g (lw_at lw_m7 214 rfl) rfl
theorem q1746 : (Jvm.Cond.instanceMethod ({ cls := "TreesBeforeMenModel", name := "plan", desc := "(I)I" } : Jvm.MethodName)) ∈ lw_all := lw_g (lw_at lw_m7 216 rfl) rfl
theorem q1747 : (Jvm.Cond.selects "TreesBeforeMenModel" ({ cls := "TreesBeforeMenModel", name := "plan", desc := "(I)I" } : Jvm.MethodName) ({ cls := "TreesBeforeMenModel", name := "plan", desc := "(I)I" } : Jvm.MethodName)) ∈ lw_all := lw_g (lw_at lw_m7 217 rfl) rfl
theorem q1748 : (Jvm.Cond.code ({ cls := "TreesBeforeMenModel", name := "plan", desc := "(I)I" } : Jvm.MethodName) prog_15_method_83_code (3 : Nat) (Option.some Jvm.ClassFile.FieldType.int)) ∈ lw_all := lw_g (lw_at lw_m7 218 rfl) rfl
theorem q1749 : (Jvm.Cond.constantLong "TreesBeforeMenModel" (391 : Nat) (6 : Int64)) ∈ lw_all := lw_g (lw_at lw_m7 219 rfl) rfl
theorem q1750 : (Jvm.Cond.methodLink "TreesBeforeMenModel" (387 : Nat) ({ cls := "TreesBeforeMenModel", name := "plans", desc := "(II)V" } : Jvm.MethodName)) ∈ lw_all := lw_g (lw_at lw_m7 220 rfl) rfl
theorem q1751 : (Jvm.Cond.privateMethod ({ cls := "TreesBeforeMenModel", name := "plans", desc := "(II)V" } : Jvm.MethodName)) ∈ lw_tbl := lw_at lw_m7 221 rfl
theorem q1752 : (Jvm.Cond.instanceMethod ({ cls := "TreesBeforeMenModel", name := "plans", desc := "(II)V" } : Jvm.MethodName)) ∈ lw_all := lw_g (lw_at lw_m7 222 rfl) rfl
theorem q1753 : (Jvm.Cond.code ({ cls := "TreesBeforeMenModel", name := "plans", desc := "(II)V" } : Jvm.MethodName) prog_15_method_82_code (6 : Nat) (Option.none : Option Jvm.ClassFile.FieldType)) ∈ lw_all := lw_g (lw_at lw_m7 223 rfl) rfl
theorem q1755 : (Jvm.Cond.instanceMethod ({ cls := "TreesBeforeMenModel", name := "law", desc := "()I" } : Jvm.MethodName)) ∈ lw_all := lw_g (lw_at lw_m7 225 rfl) rfl
theorem q1756 : (Jvm.Cond.selects "TreesBeforeMenModel" ({ cls := "TreesBeforeMenModel", name := "law", desc := "()I" } : Jvm.MethodName) ({ cls := "TreesBeforeMenModel", name := "law", desc := "()I" } : Jvm.MethodName)) ∈ lw_all := lw_g (lw_at lw_m7 226 rfl) rfl
theorem q1757 : (Jvm.Cond.code ({ cls := "TreesBeforeMenModel", name := "law", desc := "()I" } : Jvm.MethodName) prog_15_method_85_code (5 : Nat) (Option.some Jvm.ClassFile.FieldType.int)) ∈ lw_all := lw_g (lw_at lw_m7 227 rfl) rfl
theorem q1758 : (Jvm.Cond.methodLink "TreesBeforeMenModel" (393 : Nat) ({ cls := "TreesBeforeMenModel", name := "treesIn", desc := "(I)I" } : Jvm.MethodName)) ∈ lw_all := lw_g (lw_at lw_m7 228 rfl) rfl
theorem q1759 : (Jvm.Cond.privateMethod ({ cls := "TreesBeforeMenModel", name := "treesIn", desc := "(I)I" } : Jvm.MethodName)) ∈ lw_tbl := lw_at lw_m7 229 rfl
theorem q1760 : (Jvm.Cond.instanceMethod ({ cls := "TreesBeforeMenModel", name := "treesIn", desc := "(I)I" } : Jvm.MethodName)) ∈ lw_all := lw_g (lw_at lw_m7 230 rfl) rfl
theorem q1761 : (Jvm.Cond.code ({ cls := "TreesBeforeMenModel", name := "treesIn", desc := "(I)I" } : Jvm.MethodName) prog_15_method_84_code (2 : Nat) (Option.some Jvm.ClassFile.FieldType.int)) ∈ lw_all := lw_g (lw_at lw_m7 231 rfl) rfl
theorem q1763 : (Jvm.Cond.instanceMethod ({ cls := "TreesBeforeMenModel", name := "sail", desc := "(II)I" } : Jvm.MethodName)) ∈ lw_all := lw_g (lw_at lw_m7 233 rfl) rfl
theorem q1764 : (Jvm.Cond.selects "TreesBeforeMenModel" ({ cls := "TreesBeforeMenModel", name := "sail", desc := "(II)I" } : Jvm.MethodName) ({ cls := "TreesBeforeMenModel", name := "sail", desc := "(II)I" } : Jvm.MethodName)) ∈ lw_all := lw_g (lw_at lw_m7 234 rfl) rfl
theorem q1765 : (Jvm.Cond.code ({ cls := "TreesBeforeMenModel", name := "sail", desc := "(II)I" } : Jvm.MethodName) prog_15_method_88_code (5 : Nat) (Option.some Jvm.ClassFile.FieldType.int)) ∈ lw_all := lw_g (lw_at lw_m7 235 rfl) rfl
theorem q1766 : (Jvm.Cond.constantLong "TreesBeforeMenModel" (402 : Nat) (20 : Int64)) ∈ lw_all := lw_g (lw_at lw_m7 236 rfl) rfl
theorem q1767 : (Jvm.Cond.constantLong "TreesBeforeMenModel" (404 : Nat) (999 : Int64)) ∈ lw_all := lw_g (lw_at lw_m7 237 rfl) rfl
theorem q1768 : (Jvm.Cond.methodLink "TreesBeforeMenModel" (406 : Nat) ({ cls := "TreesBeforeMenModel", name := "bestLanding", desc := "(II)I" } : Jvm.MethodName)) ∈ lw_all := lw_g (lw_at lw_m7 238 rfl) rfl
theorem q1769 : (Jvm.Cond.privateMethod ({ cls := "TreesBeforeMenModel", name := "bestLanding", desc := "(II)I" } : Jvm.MethodName)) ∈ lw_tbl := lw_at lw_m7 239 rfl
theorem q1770 : (Jvm.Cond.instanceMethod ({ cls := "TreesBeforeMenModel", name := "bestLanding", desc := "(II)I" } : Jvm.MethodName)) ∈ lw_all := lw_g (lw_at lw_m8 0 rfl) rfl
theorem q1771 : (Jvm.Cond.code ({ cls := "TreesBeforeMenModel", name := "bestLanding", desc := "(II)I" } : Jvm.MethodName) prog_15_method_87_code (5 : Nat) (Option.some Jvm.ClassFile.FieldType.int)) ∈ lw_all := lw_g (lw_at lw_m8 1 rfl) rfl
theorem q1772 : (Jvm.Cond.methodLink "TreesBeforeMenModel" (399 : Nat) ({ cls := "TreesBeforeMenModel", name := "alive", desc := "(III)I" } : Jvm.MethodName)) ∈ lw_all := lw_g (lw_at lw_m8 2 rfl) rfl
theorem q1773 : (Jvm.Cond.privateMethod ({ cls := "TreesBeforeMenModel", name := "alive", desc := "(III)I" } : Jvm.MethodName)) ∈ lw_tbl := lw_at lw_m8 3 rfl
theorem q1774 : (Jvm.Cond.instanceMethod ({ cls := "TreesBeforeMenModel", name := "alive", desc := "(III)I" } : Jvm.MethodName)) ∈ lw_all := lw_g (lw_at lw_m8 4 rfl) rfl
theorem q1775 : (Jvm.Cond.code ({ cls := "TreesBeforeMenModel", name := "alive", desc := "(III)I" } : Jvm.MethodName) prog_15_method_86_code (8 : Nat) (Option.some Jvm.ClassFile.FieldType.int)) ∈ lw_all := lw_g (lw_at lw_m8 5 rfl) rfl
theorem q1777 : (Jvm.Cond.instanceMethod ({ cls := "TreesBeforeMenModel", name := "bread", desc := "(I)I" } : Jvm.MethodName)) ∈ lw_all := lw_g (lw_at lw_m8 7 rfl) rfl
theorem q1778 : (Jvm.Cond.selects "TreesBeforeMenModel" ({ cls := "TreesBeforeMenModel", name := "bread", desc := "(I)I" } : Jvm.MethodName) ({ cls := "TreesBeforeMenModel", name := "bread", desc := "(I)I" } : Jvm.MethodName)) ∈ lw_all := lw_g (lw_at lw_m8 8 rfl) rfl
theorem q1779 : (Jvm.Cond.code ({ cls := "TreesBeforeMenModel", name := "bread", desc := "(I)I" } : Jvm.MethodName) prog_15_method_89_code (3 : Nat) (Option.some Jvm.ClassFile.FieldType.int)) ∈ lw_all := lw_g (lw_at lw_m8 9 rfl) rfl
theorem q1781 : (Jvm.Cond.instanceMethod ({ cls := "TreesBeforeMenModel", name := "shares", desc := "(III)I" } : Jvm.MethodName)) ∈ lw_all := lw_g (lw_at lw_m8 11 rfl) rfl
theorem q1782 : (Jvm.Cond.selects "TreesBeforeMenModel" ({ cls := "TreesBeforeMenModel", name := "shares", desc := "(III)I" } : Jvm.MethodName) ({ cls := "TreesBeforeMenModel", name := "shares", desc := "(III)I" } : Jvm.MethodName)) ∈ lw_all := lw_g (lw_at lw_m8 12 rfl) rfl
theorem q1783 : (Jvm.Cond.code ({ cls := "TreesBeforeMenModel", name := "shares", desc := "(III)I" } : Jvm.MethodName) prog_15_method_90_code (4 : Nat) (Option.some Jvm.ClassFile.FieldType.int)) ∈ lw_all := lw_g (lw_at lw_m8 13 rfl) rfl
theorem q1785 : (Jvm.Cond.instanceMethod ({ cls := "TreesBeforeMenModel", name := "searched", desc := "(I)I" } : Jvm.MethodName)) ∈ lw_all := lw_g (lw_at lw_m8 15 rfl) rfl
theorem q1786 : (Jvm.Cond.selects "TreesBeforeMenModel" ({ cls := "TreesBeforeMenModel", name := "searched", desc := "(I)I" } : Jvm.MethodName) ({ cls := "TreesBeforeMenModel", name := "searched", desc := "(I)I" } : Jvm.MethodName)) ∈ lw_all := lw_g (lw_at lw_m8 16 rfl) rfl
theorem q1787 : (Jvm.Cond.code ({ cls := "TreesBeforeMenModel", name := "searched", desc := "(I)I" } : Jvm.MethodName) prog_15_method_92_code (2 : Nat) (Option.some Jvm.ClassFile.FieldType.int)) ∈ lw_all := lw_g (lw_at lw_m8 17 rfl) rfl
theorem q1789 : (Jvm.Cond.instanceMethod ({ cls := "TreesBeforeMenModel", name := "forget", desc := "()I" } : Jvm.MethodName)) ∈ lw_all := lw_g (lw_at lw_m8 19 rfl) rfl
theorem q1790 : (Jvm.Cond.selects "TreesBeforeMenModel" ({ cls := "TreesBeforeMenModel", name := "forget", desc := "()I" } : Jvm.MethodName) ({ cls := "TreesBeforeMenModel", name := "forget", desc := "()I" } : Jvm.MethodName)) ∈ lw_all := lw_g (lw_at lw_m8 20 rfl) rfl
theorem q1791 : (Jvm.Cond.code ({ cls := "TreesBeforeMenModel", name := "forget", desc := "()I" } : Jvm.MethodName) prog_15_method_93_code (2 : Nat) (Option.some Jvm.ClassFile.FieldType.int)) ∈ lw_all := lw_g (lw_at lw_m8 21 rfl) rfl
theorem q1793 : (Jvm.Cond.instanceMethod ({ cls := "TreesBeforeMenModel", name := "belief", desc := "(II)I" } : Jvm.MethodName)) ∈ lw_all := lw_g (lw_at lw_m8 23 rfl) rfl
theorem q1794 : (Jvm.Cond.selects "TreesBeforeMenModel" ({ cls := "TreesBeforeMenModel", name := "belief", desc := "(II)I" } : Jvm.MethodName) ({ cls := "TreesBeforeMenModel", name := "belief", desc := "(II)I" } : Jvm.MethodName)) ∈ lw_all := lw_g (lw_at lw_m8 24 rfl) rfl
theorem q1795 : (Jvm.Cond.code ({ cls := "TreesBeforeMenModel", name := "belief", desc := "(II)I" } : Jvm.MethodName) prog_15_method_96_code (5 : Nat) (Option.some Jvm.ClassFile.FieldType.int)) ∈ lw_all := lw_g (lw_at lw_m8 25 rfl) rfl
theorem q1796 : (Jvm.Cond.constantLong "TreesBeforeMenModel" (412 : Nat) (10 : Int64)) ∈ lw_all := lw_g (lw_at lw_m8 26 rfl) rfl
theorem q1797 : (Jvm.Cond.methodLink "TreesBeforeMenModel" (418 : Nat) ({ cls := "TreesBeforeMenModel", name := "allWeights", desc := "(I)J" } : Jvm.MethodName)) ∈ lw_all := lw_g (lw_at lw_m8 27 rfl) rfl
theorem q1798 : (Jvm.Cond.privateMethod ({ cls := "TreesBeforeMenModel", name := "allWeights", desc := "(I)J" } : Jvm.MethodName)) ∈ lw_tbl := lw_at lw_m8 28 rfl
theorem q1799 : (Jvm.Cond.instanceMethod ({ cls := "TreesBeforeMenModel", name := "allWeights", desc := "(I)J" } : Jvm.MethodName)) ∈ lw_all := lw_g (lw_at lw_m8 29 rfl) rfl
theorem q1800 : (Jvm.Cond.code ({ cls := "TreesBeforeMenModel", name := "allWeights", desc := "(I)J" } : Jvm.MethodName) prog_15_method_95_code (5 : Nat) (Option.some Jvm.ClassFile.FieldType.long)) ∈ lw_all := lw_g (lw_at lw_m8 30 rfl) rfl
theorem q1801 : (Jvm.Cond.methodLink "TreesBeforeMenModel" (414 : Nat) ({ cls := "TreesBeforeMenModel", name := "weightOf", desc := "(II)J" } : Jvm.MethodName)) ∈ lw_all := lw_g (lw_at lw_m8 31 rfl) rfl
theorem q1802 : (Jvm.Cond.privateMethod ({ cls := "TreesBeforeMenModel", name := "weightOf", desc := "(II)J" } : Jvm.MethodName)) ∈ lw_tbl := lw_at lw_m8 32 rfl
theorem q1803 : (Jvm.Cond.instanceMethod ({ cls := "TreesBeforeMenModel", name := "weightOf", desc := "(II)J" } : Jvm.MethodName)) ∈ lw_all := lw_g (lw_at lw_m8 33 rfl) rfl
theorem q1804 : (Jvm.Cond.code ({ cls := "TreesBeforeMenModel", name := "weightOf", desc := "(II)J" } : Jvm.MethodName) prog_15_method_94_code (6 : Nat) (Option.some Jvm.ClassFile.FieldType.long)) ∈ lw_all := lw_g (lw_at lw_m8 34 rfl) rfl
theorem q1805 : (Jvm.Cond.methodLink "TreesBeforeMenModel" (422 : Nat) ({ cls := "TreesBeforeMenModel", name := "tellsFraction", desc := "(JJ)V" } : Jvm.MethodName)) ∈ lw_all := lw_g (lw_at lw_m8 35 rfl) rfl
theorem q1806 : (Jvm.Cond.privateMethod ({ cls := "TreesBeforeMenModel", name := "tellsFraction", desc := "(JJ)V" } : Jvm.MethodName)) ∈ lw_tbl := lw_at lw_m8 36 rfl
theorem q1807 : (Jvm.Cond.instanceMethod ({ cls := "TreesBeforeMenModel", name := "tellsFraction", desc := "(JJ)V" } : Jvm.MethodName)) ∈ lw_all := lw_g (lw_at lw_m8 37 rfl) rfl
theorem q1808 : (Jvm.Cond.code ({ cls := "TreesBeforeMenModel", name := "tellsFraction", desc := "(JJ)V" } : Jvm.MethodName) prog_15_method_9_code (7 : Nat) (Option.none : Option Jvm.ClassFile.FieldType)) ∈ lw_all := lw_g (lw_at lw_m8 38 rfl) rfl
theorem q1809 : (Jvm.Cond.methodLink "TreesBeforeMenModel" (115 : Nat) ({ cls := "TreesBeforeMenModel", name := "common", desc := "(JJ)J" } : Jvm.MethodName)) ∈ lw_all := lw_g (lw_at lw_m8 39 rfl) rfl
theorem q1810 : (Jvm.Cond.static ({ cls := "TreesBeforeMenModel", name := "common", desc := "(JJ)J" } : Jvm.MethodName)) ∈ lw_all := lw_g (lw_at lw_m8 40 rfl) rfl
theorem q1811 : (Jvm.Cond.code ({ cls := "TreesBeforeMenModel", name := "common", desc := "(JJ)J" } : Jvm.MethodName) prog_15_method_7_code (4 : Nat) (Option.some Jvm.ClassFile.FieldType.long)) ∈ lw_all := lw_g (lw_at lw_m8 41 rfl) rfl
theorem q1813 : (Jvm.Cond.instanceMethod ({ cls := "TreesBeforeMenModel", name := "hunt", desc := "(I)I" } : Jvm.MethodName)) ∈ lw_all := lw_g (lw_at lw_m8 43 rfl) rfl
theorem q1814 : (Jvm.Cond.selects "TreesBeforeMenModel" ({ cls := "TreesBeforeMenModel", name := "hunt", desc := "(I)I" } : Jvm.MethodName) ({ cls := "TreesBeforeMenModel", name := "hunt", desc := "(I)I" } : Jvm.MethodName)) ∈ lw_all := lw_g (lw_at lw_m8 44 rfl) rfl
theorem q1815 : (Jvm.Cond.code ({ cls := "TreesBeforeMenModel", name := "hunt", desc := "(I)I" } : Jvm.MethodName) prog_15_method_97_code (6 : Nat) (Option.some Jvm.ClassFile.FieldType.int)) ∈ lw_all := lw_g (lw_at lw_m8 45 rfl) rfl
theorem q1817 : (Jvm.Cond.instanceMethod ({ cls := "TreesBeforeMenModel", name := "heard", desc := "(II)I" } : Jvm.MethodName)) ∈ lw_all := lw_g (lw_at lw_m8 47 rfl) rfl
theorem q1818 : (Jvm.Cond.selects "TreesBeforeMenModel" ({ cls := "TreesBeforeMenModel", name := "heard", desc := "(II)I" } : Jvm.MethodName) ({ cls := "TreesBeforeMenModel", name := "heard", desc := "(II)I" } : Jvm.MethodName)) ∈ lw_all := lw_g (lw_at lw_m8 48 rfl) rfl
theorem q1819 : (Jvm.Cond.code ({ cls := "TreesBeforeMenModel", name := "heard", desc := "(II)I" } : Jvm.MethodName) prog_15_method_98_code (4 : Nat) (Option.some Jvm.ClassFile.FieldType.int)) ∈ lw_all := lw_g (lw_at lw_m8 49 rfl) rfl
theorem q1821 : (Jvm.Cond.instanceMethod ({ cls := "TreesBeforeMenModel", name := "pardon", desc := "()I" } : Jvm.MethodName)) ∈ lw_all := lw_g (lw_at lw_m8 51 rfl) rfl
theorem q1822 : (Jvm.Cond.selects "TreesBeforeMenModel" ({ cls := "TreesBeforeMenModel", name := "pardon", desc := "()I" } : Jvm.MethodName) ({ cls := "TreesBeforeMenModel", name := "pardon", desc := "()I" } : Jvm.MethodName)) ∈ lw_all := lw_g (lw_at lw_m8 52 rfl) rfl
theorem q1823 : (Jvm.Cond.code ({ cls := "TreesBeforeMenModel", name := "pardon", desc := "()I" } : Jvm.MethodName) prog_15_method_99_code (2 : Nat) (Option.some Jvm.ClassFile.FieldType.int)) ∈ lw_all := lw_g (lw_at lw_m8 53 rfl) rfl
theorem q1825 : (Jvm.Cond.instanceMethod ({ cls := "TreesBeforeMenModel", name := "fits", desc := "()I" } : Jvm.MethodName)) ∈ lw_all := lw_g (lw_at lw_m8 55 rfl) rfl
theorem q1826 : (Jvm.Cond.selects "TreesBeforeMenModel" ({ cls := "TreesBeforeMenModel", name := "fits", desc := "()I" } : Jvm.MethodName) ({ cls := "TreesBeforeMenModel", name := "fits", desc := "()I" } : Jvm.MethodName)) ∈ lw_all := lw_g (lw_at lw_m8 56 rfl) rfl
theorem q1827 : (Jvm.Cond.code ({ cls := "TreesBeforeMenModel", name := "fits", desc := "()I" } : Jvm.MethodName) prog_15_method_102_code (2 : Nat) (Option.some Jvm.ClassFile.FieldType.int)) ∈ lw_all := lw_g (lw_at lw_m8 57 rfl) rfl
theorem q1828 : (Jvm.Cond.methodLink "TreesBeforeMenModel" (433 : Nat) ({ cls := "TreesBeforeMenModel", name := "fitting", desc := "()I" } : Jvm.MethodName)) ∈ lw_all := lw_g (lw_at lw_m8 58 rfl) rfl
theorem q1829 : (Jvm.Cond.privateMethod ({ cls := "TreesBeforeMenModel", name := "fitting", desc := "()I" } : Jvm.MethodName)) ∈ lw_tbl := lw_at lw_m8 59 rfl
theorem q1830 : (Jvm.Cond.instanceMethod ({ cls := "TreesBeforeMenModel", name := "fitting", desc := "()I" } : Jvm.MethodName)) ∈ lw_all := lw_g (lw_at lw_m8 60 rfl) rfl
theorem q1831 : (Jvm.Cond.code ({ cls := "TreesBeforeMenModel", name := "fitting", desc := "()I" } : Jvm.MethodName) prog_15_method_101_code (5 : Nat) (Option.some Jvm.ClassFile.FieldType.int)) ∈ lw_all := lw_g (lw_at lw_m8 61 rfl) rfl
theorem q1832 : (Jvm.Cond.methodLink "TreesBeforeMenModel" (429 : Nat) ({ cls := "TreesBeforeMenModel", name := "isSo", desc := "(III)Z" } : Jvm.MethodName)) ∈ lw_all := lw_g (lw_at lw_m8 62 rfl) rfl
theorem q1833 : (Jvm.Cond.privateMethod ({ cls := "TreesBeforeMenModel", name := "isSo", desc := "(III)Z" } : Jvm.MethodName)) ∈ lw_tbl := lw_at lw_m8 63 rfl
theorem q1834 : (Jvm.Cond.instanceMethod ({ cls := "TreesBeforeMenModel", name := "isSo", desc := "(III)Z" } : Jvm.MethodName)) ∈ lw_all := lw_g (lw_at lw_m8 64 rfl) rfl
theorem q1835 : (Jvm.Cond.code ({ cls := "TreesBeforeMenModel", name := "isSo", desc := "(III)Z" } : Jvm.MethodName) prog_15_method_100_code (4 : Nat) (Option.some Jvm.ClassFile.FieldType.boolean)) ∈ lw_all := lw_g (lw_at lw_m8 65 rfl) rfl
theorem q1837 : (Jvm.Cond.instanceMethod ({ cls := "TreesBeforeMenModel", name := "ask", desc := "()I" } : Jvm.MethodName)) ∈ lw_all := lw_g (lw_at lw_m8 67 rfl) rfl
theorem q1838 : (Jvm.Cond.selects "TreesBeforeMenModel" ({ cls := "TreesBeforeMenModel", name := "ask", desc := "()I" } : Jvm.MethodName) ({ cls := "TreesBeforeMenModel", name := "ask", desc := "()I" } : Jvm.MethodName)) ∈ lw_all := lw_g (lw_at lw_m8 68 rfl) rfl
theorem q1839 : (Jvm.Cond.code ({ cls := "TreesBeforeMenModel", name := "ask", desc := "()I" } : Jvm.MethodName) prog_15_method_103_code (7 : Nat) (Option.some Jvm.ClassFile.FieldType.int)) ∈ lw_all := lw_g (lw_at lw_m8 69 rfl) rfl
theorem q1841 : (Jvm.Cond.instanceMethod ({ cls := "TreesBeforeMenModel", name := "rests", desc := "(I)I" } : Jvm.MethodName)) ∈ lw_all := lw_g (lw_at lw_m8 71 rfl) rfl
theorem q1842 : (Jvm.Cond.selects "TreesBeforeMenModel" ({ cls := "TreesBeforeMenModel", name := "rests", desc := "(I)I" } : Jvm.MethodName) ({ cls := "TreesBeforeMenModel", name := "rests", desc := "(I)I" } : Jvm.MethodName)) ∈ lw_all := lw_g (lw_at lw_m8 72 rfl) rfl
theorem q1843 : (Jvm.Cond.code ({ cls := "TreesBeforeMenModel", name := "rests", desc := "(I)I" } : Jvm.MethodName) prog_15_method_106_code (5 : Nat) (Option.some Jvm.ClassFile.FieldType.int)) ∈ lw_all := lw_g (lw_at lw_m8 73 rfl) rfl
theorem q1844 : (Jvm.Cond.constantLong "TreesBeforeMenModel" (439 : Nat) (18 : Int64)) ∈ lw_all := lw_g (lw_at lw_m8 74 rfl) rfl
theorem q1845 : (Jvm.Cond.methodLink "TreesBeforeMenModel" (441 : Nat) ({ cls := "TreesBeforeMenModel", name := "isRest", desc := "(III)Z" } : Jvm.MethodName)) ∈ lw_all := lw_g (lw_at lw_m8 75 rfl) rfl
theorem q1846 : (Jvm.Cond.static ({ cls := "TreesBeforeMenModel", name := "isRest", desc := "(III)Z" } : Jvm.MethodName)) ∈ lw_all := lw_g (lw_at lw_m8 76 rfl) rfl
theorem q1847 : (Jvm.Cond.code ({ cls := "TreesBeforeMenModel", name := "isRest", desc := "(III)Z" } : Jvm.MethodName) prog_15_method_105_code (5 : Nat) (Option.some Jvm.ClassFile.FieldType.boolean)) ∈ lw_all := lw_g (lw_at lw_m8 77 rfl) rfl
theorem q1848 : (Jvm.Cond.methodLink "TreesBeforeMenModel" (436 : Nat) ({ cls := "TreesBeforeMenModel", name := "gets", desc := "(III)I" } : Jvm.MethodName)) ∈ lw_all := lw_g (lw_at lw_m8 78 rfl) rfl
theorem q1849 : (Jvm.Cond.static ({ cls := "TreesBeforeMenModel", name := "gets", desc := "(III)I" } : Jvm.MethodName)) ∈ lw_all := lw_g (lw_at lw_m8 79 rfl) rfl
theorem q1850 : (Jvm.Cond.code ({ cls := "TreesBeforeMenModel", name := "gets", desc := "(III)I" } : Jvm.MethodName) prog_15_method_104_code (3 : Nat) (Option.some Jvm.ClassFile.FieldType.int)) ∈ lw_all := lw_g (lw_at lw_m8 80 rfl) rfl
theorem q1852 : (Jvm.Cond.instanceMethod ({ cls := "TreesBeforeMenModel", name := "voyages", desc := "(II)I" } : Jvm.MethodName)) ∈ lw_all := lw_g (lw_at lw_m8 82 rfl) rfl
theorem q1853 : (Jvm.Cond.selects "TreesBeforeMenModel" ({ cls := "TreesBeforeMenModel", name := "voyages", desc := "(II)I" } : Jvm.MethodName) ({ cls := "TreesBeforeMenModel", name := "voyages", desc := "(II)I" } : Jvm.MethodName)) ∈ lw_all := lw_g (lw_at lw_m8 83 rfl) rfl
theorem q1854 : (Jvm.Cond.code ({ cls := "TreesBeforeMenModel", name := "voyages", desc := "(II)I" } : Jvm.MethodName) prog_15_method_108_code (5 : Nat) (Option.some Jvm.ClassFile.FieldType.int)) ∈ lw_all := lw_g (lw_at lw_m8 84 rfl) rfl
theorem q1855 : (Jvm.Cond.methodLink "TreesBeforeMenModel" (448 : Nat) ({ cls := "TreesBeforeMenModel", name := "draws", desc := "(I)I" } : Jvm.MethodName)) ∈ lw_all := lw_g (lw_at lw_m8 85 rfl) rfl
theorem q1856 : (Jvm.Cond.privateMethod ({ cls := "TreesBeforeMenModel", name := "draws", desc := "(I)I" } : Jvm.MethodName)) ∈ lw_tbl := lw_at lw_m8 86 rfl
theorem q1857 : (Jvm.Cond.instanceMethod ({ cls := "TreesBeforeMenModel", name := "draws", desc := "(I)I" } : Jvm.MethodName)) ∈ lw_all := lw_g (lw_at lw_m8 87 rfl) rfl
theorem q1858 : (Jvm.Cond.code ({ cls := "TreesBeforeMenModel", name := "draws", desc := "(I)I" } : Jvm.MethodName) prog_15_method_107_code (2 : Nat) (Option.some Jvm.ClassFile.FieldType.int)) ∈ lw_all := lw_g (lw_at lw_m8 88 rfl) rfl
theorem q1859 : (Jvm.Cond.constant "TreesBeforeMenModel" (447 : Nat) (1103515245 : Int32)) ∈ lw_all := lw_g (lw_at lw_m8 89 rfl) rfl
theorem q1861 : (Jvm.Cond.instanceMethod ({ cls := "TreesBeforeMenModel", name := "keep", desc := "(I)Z" } : Jvm.MethodName)) ∈ lw_all := lw_g (lw_at lw_m8 91 rfl) rfl
theorem q1862 : (Jvm.Cond.selects "TreesBeforeMenModel" ({ cls := "TreesBeforeMenModel", name := "keep", desc := "(I)Z" } : Jvm.MethodName) ({ cls := "TreesBeforeMenModel", name := "keep", desc := "(I)Z" } : Jvm.MethodName)) ∈ lw_all := lw_g (lw_at lw_m8 92 rfl) rfl
theorem q1863 : (Jvm.Cond.code ({ cls := "TreesBeforeMenModel", name := "keep", desc := "(I)Z" } : Jvm.MethodName) prog_15_method_109_code (3 : Nat) (Option.some Jvm.ClassFile.FieldType.boolean)) ∈ lw_all := lw_g (lw_at lw_m8 93 rfl) rfl
theorem q1864 : (Jvm.Cond.constantLong "TreesBeforeMenModel" (451 : Nat) (2 : Int64)) ∈ lw_all := lw_g (lw_at lw_m8 94 rfl) rfl
theorem q1866 : (Jvm.Cond.instanceMethod ({ cls := "TreesBeforeMenModel", name := "again", desc := "(I)Z" } : Jvm.MethodName)) ∈ lw_all := lw_g (lw_at lw_m8 96 rfl) rfl
theorem q1867 : (Jvm.Cond.selects "TreesBeforeMenModel" ({ cls := "TreesBeforeMenModel", name := "again", desc := "(I)Z" } : Jvm.MethodName) ({ cls := "TreesBeforeMenModel", name := "again", desc := "(I)Z" } : Jvm.MethodName)) ∈ lw_all := lw_g (lw_at lw_m8 97 rfl) rfl
theorem q1868 : (Jvm.Cond.code ({ cls := "TreesBeforeMenModel", name := "again", desc := "(I)Z" } : Jvm.MethodName) prog_15_method_110_code (3 : Nat) (Option.some Jvm.ClassFile.FieldType.boolean)) ∈ lw_all := lw_g (lw_at lw_m8 98 rfl) rfl
theorem q1870 : (Jvm.Cond.instanceMethod ({ cls := "TreesBeforeMenModel", name := "count", desc := "(I)I" } : Jvm.MethodName)) ∈ lw_all := lw_g (lw_at lw_m8 100 rfl) rfl
theorem q1871 : (Jvm.Cond.selects "TreesBeforeMenModel" ({ cls := "TreesBeforeMenModel", name := "count", desc := "(I)I" } : Jvm.MethodName) ({ cls := "TreesBeforeMenModel", name := "count", desc := "(I)I" } : Jvm.MethodName)) ∈ lw_all := lw_g (lw_at lw_m8 101 rfl) rfl
theorem q1872 : (Jvm.Cond.code ({ cls := "TreesBeforeMenModel", name := "count", desc := "(I)I" } : Jvm.MethodName) prog_15_method_111_code (2 : Nat) (Option.some Jvm.ClassFile.FieldType.int)) ∈ lw_all := lw_g (lw_at lw_m8 102 rfl) rfl
theorem q1874 : (Jvm.Cond.instanceMethod ({ cls := "TreesBeforeMenModel", name := "row", desc := "(I)J" } : Jvm.MethodName)) ∈ lw_all := lw_g (lw_at lw_m8 104 rfl) rfl
theorem q1875 : (Jvm.Cond.selects "TreesBeforeMenModel" ({ cls := "TreesBeforeMenModel", name := "row", desc := "(I)J" } : Jvm.MethodName) ({ cls := "TreesBeforeMenModel", name := "row", desc := "(I)J" } : Jvm.MethodName)) ∈ lw_all := lw_g (lw_at lw_m8 105 rfl) rfl
theorem q1876 : (Jvm.Cond.code ({ cls := "TreesBeforeMenModel", name := "row", desc := "(I)J" } : Jvm.MethodName) prog_15_method_112_code (2 : Nat) (Option.some Jvm.ClassFile.FieldType.long)) ∈ lw_all := lw_g (lw_at lw_m8 106 rfl) rfl
theorem q1887 : (Jvm.Cond.castable "TreesBeforeMenModel" "java/lang/Object") ∈ lw_tbl := lw_at lw_m8 117 rfl
theorem in_X9 : ∀ w ∈ wsX90, w ∈ lw_all := lw_in wsX90 [1283, 1285, 1287, 1289, 1291, 1293, 1295, 1297, 1299, 1301, 1303, 1305, 1307, 1309, 1311, 1313, 1315, 1317, 1319, 1321, 1323, 1325, 1327, 1329, 1331, 1333, 1335, 1337, 1339, 1341, 1343, 1345, 1347, 1349, 1351, 1353, 1355, 1357, 1359, 1361, 1363, 1365, 1367, 1369, 1371, 1373, 1375, 1377, 1379, 1381, 1383, 1385, 1387] (by decide +kernel) (by decide +kernel)
