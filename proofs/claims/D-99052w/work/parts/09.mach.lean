/-! A SMALL MACHINE OVER W: values, memory, roles; the picture of the heap; the judgement Ex and the contract MX -/
set_option maxRecDepth 100000
abbrev tbA : Type := Nat × Nat
abbrev tbV : Type := Int32 ⊕ (Int64 ⊕ Option tbA)
/-- memory: ints, longs, references by (role, number, place); lengths; how many of a role are made -/
abbrev tbS : Type := (Nat → Nat → Nat → Int32) × (Nat → Nat → Nat → Int64) × (Nat → Nat → Nat → Option tbA) × (Nat → Nat → Nat) × (Nat → Nat)
abbrev tbL : Type := List (Option tbV)
/-- an instruction at its place, with two numbers, a list, a constant -/
abbrev tbI : Type := Nat × Instr × Nat × Nat × List Nat × tbV
/-- a method: name, bytes, locals, answer, handlers, how many blocks, blocks -/
abbrev tbM : Type := MethodName × ByteArray × Nat × Option FieldType × List (Nat × Nat × Nat × Nat) × Nat × (Nat → List tbI)
/-- what a method comes to: an answer, or an exception of a class at a place -/
abbrev tbO : Type := Option tbV ⊕ (String × tbA)
/-- what stays the same all through: launch, classes, array classes, the heap at the start, things outside, the script -/
abbrev tbG : Type := Launch × va_G × (Nat → ClassId) × Heap × (Nat → Nat → Nat) × Nat × (Nat → Int32)
def tb_nth {α : Type} : List α → Nat → α → α
  | [], _, d => d
  | a :: _, 0, _ => a
  | _ :: l, n + 1, d => tb_nth l n d
def tb_sI (s : tbS) (c k j : Nat) (v : Int32) : tbS := (fun c' k' j' => if c' = c ∧ k' = k ∧ j' = j then v else s.1 c' k' j', s.2)
def tb_sL (s : tbS) (c k j : Nat) (v : Int64) : tbS := (s.1, fun c' k' j' => if c' = c ∧ k' = k ∧ j' = j then v else s.2.1 c' k' j', s.2.2)
def tb_sR (s : tbS) (c k j : Nat) (v : Option tbA) : tbS := (s.1, s.2.1, fun c' k' j' => if c' = c ∧ k' = k ∧ j' = j then v else s.2.2.1 c' k' j', s.2.2.2)
/-- a new thing of role c (its length n), all nought -/
def tb_new (s : tbS) (c n : Nat) : tbS :=
  (fun c' k' j' => if c' = c ∧ k' = s.2.2.2.2 c then 0 else s.1 c' k' j',
   fun c' k' j' => if c' = c ∧ k' = s.2.2.2.2 c then 0 else s.2.1 c' k' j',
   fun c' k' j' => if c' = c ∧ k' = s.2.2.2.2 c then none else s.2.2.1 c' k' j',
   fun c' k' => if c' = c ∧ k' = s.2.2.2.2 c then n else s.2.2.2.1 c' k',
   fun c' => if c' = c then s.2.2.2.2 c + 1 else s.2.2.2.2 c')
/-- roles: (0, class, fields), (1, array type, length + 1 or 0), (2, ..) things outside -/
def tb_roles : List (Nat × Nat × Nat) := [(0, 0, 40), (0, 1, 2), (0, 2, 2), (0, 3, 2), (0, 4, 3), (0, 5, 3), (0, 6, 7), (1, 0, 9), (1, 0, 9), (1, 6, 16), (1, 6, 8),
  (1, 0, 9), (1, 0, 9), (1, 0, 9), (1, 0, 7), (1, 0, 7), (1, 0, 7), (1, 0, 7), (1, 1, 0), (1, 1, 81), (1, 2, 17),
  (1, 0, 9), (1, 0, 9), (1, 0, 7), (1, 0, 7), (1, 0, 13), (1, 0, 13), (1, 7, 4), (0, 8, 4), (0, 9, 7), (1, 8, 0), (1, 0, 4), (0, 10, 7), (1, 1, 81), (0, 11, 8), (1, 4, 61), (1, 0, 61), (1, 0, 61), (0, 12, 3), (1, 1, 0), (1, 3, 0), (1, 0, 0),
  (0, 7, 53), (1, 2, 25), (1, 0, 21), (1, 0, 9), (1, 0, 9), (1, 0, 9), (1, 0, 7), (1, 0, 7), (1, 0, 7), (1, 0, 22), (1, 0, 22), (1, 0, 81), (1, 0, 25), (1, 0, 21), (1, 0, 81), (1, 0, 81), (1, 0, 81), (1, 0, 6), (1, 0, 337), (1, 0, 61), (1, 0, 61), (1, 0, 61), (1, 0, 9), (1, 0, 148), (1, 0, 7), (1, 0, 7), (1, 0, 81), (1, 0, 13), (1, 0, 13), (1, 0, 13), (1, 5, 4), (1, 0, 4), (1, 0, 64), (1, 2, 2)]
def tb_role (c : Nat) : Nat × Nat × Nat := tb_nth tb_roles c (2, 0, 0)
def tb_len (s : tbS) (c k : Nat) : Nat := match (tb_role c).2.2 with
  | 0 => s.2.2.2.1 c k
  | n + 1 => n
def tb_get : tbL → Nat → Option tbV
  | [], _ => none
  | a :: _, 0 => a
  | _ :: l, n + 1 => tb_get l n
def tb_put {R : Type} : tbL → Nat → Option tbV → (tbL → Option R) → Option R
  | [], _, _, _ => none
  | _ :: l, 0, v, k => k (v :: l)
  | a :: l, 1, v, k => match l with
    | [] => none
    | _ :: l' => match a with
      | some (.inr (.inl _)) => k (none :: v :: l')
      | a' => k (a' :: v :: l')
  | a :: l, n + 2, v, k => tb_put l (n + 1) v (fun l' => k (a :: l'))
/-- kinds of fields: 0 int, 1 long, 2 reference -/
def tb_ftys : List (List Nat) := [[2, 2, 2, 2, 2, 2, 2, 2, 2, 2, 2, 2, 2, 2, 2, 2, 2, 2, 0, 0, 0, 0, 0, 2, 2, 0, 2, 0, 2, 2, 2, 2, 2, 0, 0, 2, 2, 0, 0, 2],
  [2, 2], [2, 2], [2, 2], [2, 2, 2], [2, 2, 2], [2, 2, 0, 0, 0, 0, 0],
  [0, 0, 2, 0, 0, 0, 0, 2, 2, 2, 2, 2, 2, 2, 2, 2, 2, 0, 0, 0, 0, 2, 0, 2, 2, 2, 0, 0, 2, 2, 0, 2, 0, 2, 2, 2, 0, 2, 2, 2, 2, 0, 2, 0, 0, 2, 0, 2, 2, 0, 2, 2, 2],
  [2, 0, 0, 0], [2, 2, 2, 2, 2, 0, 0], [2, 0, 0, 0, 2, 0, 2], [2, 0, 0, 0, 2, 2, 2, 0], [2, 0, 2]]
def tb_fty (ci j : Nat) : Nat := tb_nth (tb_nth tb_ftys ci []) j 9
def tb_tag : FieldType → Nat
  | .int => 0
  | .long => 1
  | .object _ => 2
  | .array _ => 2
  | _ => 9
def tb_cl : List vw_C := [(RX1, TX1, 40), (RX3, TX3, 2), (RX4, TX4, 2), (RX5, TX5, 2), (RX6, TX6, 3), (RX7, TX7, 3), (RX8, TX8, 7), (RX9, TX9, 53), (RX10, TX10, 4), (RX11, TX11, 7), (RX12, TX12, 7), (RX13, TX13, 8), (RX14, TX14, 3)]
def tb_clsOk (ci : Nat) (q : vw_C) : Prop := (∀ w ∈ u_ws q.1 q.2.1 q.2.2, w ∈ lw_all) ∧ (∃ ty : Nat → FieldType, (∀ k, k < q.2.2 → parseFieldDescriptor (q.2.1 k).2.2.1 = some (ty k)) ∧ ∀ k, k < q.2.2 → tb_tag (ty k) = tb_fty ci k ∧ tb_tag (ty k) < 3) ∧ (∀ a, a < q.2.2 → ∀ b, b < q.2.2 → a ≠ b → ((q.2.1 a).1 ≠ (q.2.1 b).1 ∧ (q.2.1 a).2.2.2 = true ∧ (q.2.1 b).2.2.2 = true) ∨ (q.2.1 a).2.1 ≠ (q.2.1 b).2.1)
theorem tb_cls : ∀ ci q, tb_cl[ci]? = some q → tb_clsOk ci q := by
  intro ci q h
  match ci, h with
  | 0, h => cases h; exact ⟨in_X1, ⟨tyX1, tyX1_ok, by decide⟩, fun a ha b hb n => Or.inr (nmX1 a ha b hb n)⟩
  | 1, h => cases h; exact ⟨in_X3, ⟨tyX3, tyX3_ok, by decide⟩, by decide +kernel⟩
  | 2, h => cases h; exact ⟨in_X4, ⟨tyX4, tyX4_ok, by decide⟩, by decide +kernel⟩
  | 3, h => cases h; exact ⟨in_X5, ⟨tyX5, tyX5_ok, by decide⟩, by decide +kernel⟩
  | 4, h => cases h; exact ⟨in_X6, ⟨tyX6, tyX6_ok, by decide⟩, by decide +kernel⟩
  | 5, h => cases h; exact ⟨in_X7, ⟨tyX7, tyX7_ok, by decide⟩, by decide +kernel⟩
  | 6, h => cases h; exact ⟨in_X8, ⟨tyX8, tyX8_ok, by decide⟩, fun a ha b hb n => Or.inr (nmX8 a ha b hb n)⟩
  | 7, h => cases h; exact ⟨in_X9, ⟨tyX9, tyX9_ok, by decide⟩, fun a ha b hb n => Or.inr (nmX9 a ha b hb n)⟩
  | 8, h => cases h; exact ⟨in_X10, ⟨tyX10, tyX10_ok, by decide⟩, fun a ha b hb n => Or.inr (nmX10 a ha b hb n)⟩
  | 9, h => cases h; exact ⟨in_X11, ⟨tyX11, tyX11_ok, by decide⟩, fun a ha b hb n => Or.inr (nmX11 a ha b hb n)⟩
  | 10, h => cases h; exact ⟨in_X12, ⟨tyX12, tyX12_ok, by decide⟩, fun a ha b hb n => Or.inr (nmX12 a ha b hb n)⟩
  | 11, h => cases h; exact ⟨in_X13, ⟨tyX13, tyX13_ok, by decide⟩, fun a ha b hb n => Or.inr (nmX13 a ha b hb n)⟩
  | 12, h => cases h; exact ⟨in_X14, ⟨tyX14, tyX14_ok, by decide⟩, fun a ha b hb n => Or.inr (nmX14 a ha b hb n)⟩
  | n + 13, h => simp [tb_cl] at h
/-- types of arrays by number -/
def tb_at : Nat → FieldType
  | 0 => .int
  | 1 => .byte
  | 2 => .long
  | 3 => .short
  | 4 => .char
  | 5 => .boolean
  | 6 => .object "TreesBeforeMen$Voyage"
  | 7 => .object "TreesBeforeMen$Page"
  | _ => .array .int
def tb_tyl (γ : tbG) : List (ClassId × FieldType) := (List.range 9).map fun t => (γ.2.2.1 t, tb_at t)
def tb_tv (α : tbA → Nat) : tbV → Value
  | .inl x => .int x
  | .inr (.inl x) => .long x
  | .inr (.inr r) => va_rf (r.map α)
def tb_fv (α : tbA → Nat) (s : tbS) (c k ci j : Nat) : Value := match tb_fty ci j with
  | 0 => .int (s.1 c k j)
  | 1 => .long (s.2.1 c k j)
  | _ => va_rf ((s.2.2.1 c k j).map α)
def tb_dat (α : tbA → Nat) (s : tbS) (c k ti : Nat) : (Nat → Int32) ⊕ (Nat → Int64) ⊕ (Nat → UInt32) ⊕ (Nat → UInt64) ⊕ (Nat → Option Nat) := match ti with
  | 0 => .inl (s.1 c k)
  | 1 => .inl (s.1 c k)
  | 2 => .inr (.inl (s.2.1 c k))
  | 3 => .inl (s.1 c k)
  | 4 => .inl (s.1 c k)
  | 5 => .inl (s.1 c k)
  | _ => .inr (.inr (.inr (.inr (fun j => (s.2.2.1 c k j).map α))))
def tb_cel (γ : tbG) (α : tbA → Nat) (s : tbS) (a : tbA) : va_E := if (tb_role a.1).1 = 0 then .inr ((tb_role a.1).2.1, (List.range (tb_role a.1).2.2).map (tb_fv α s a.1 a.2 (tb_role a.1).2.1))
  else .inl (γ.2.2.1 (tb_role a.1).2.1, tb_len s a.1 a.2, tb_dat α s a.1 a.2 (tb_role a.1).2.1)
def tb_w (γ : tbG) (α : tbA → Nat) (s : tbS) (Lv : List tbA) : va_W := Lv.map fun a => (α a, tb_cel γ α s a)
def tb_Ab (γ : tbG) : Nat → Prop := fun q => γ.2.2.2.1.size ≤ q
/-- the heap holds the memory: every thing made of roles below 76 (but 78) has its cell -/
def tb_Rep (γ : tbG) (α : tbA → Nat) (Lv : List tbA) (s : tbS) (H : Heap) : Prop :=
  va_P γ.2.1 tb_cl (tb_w γ α s Lv) H ∧ va_D (tb_Ab γ) (tb_w γ α s Lv) ∧ (∀ c k, (c, k) ∈ Lv ↔ (tb_role c).1 < 2 ∧ k < s.2.2.2.2 c) ∧ (∀ c k j a, k < s.2.2.2.2 c → s.2.2.1 c k j = some a → a.2 < s.2.2.2.2 a.1) ∧ ∀ c k, 76 ≤ c → c ≠ 78 → α (c, k) = γ.2.2.2.2.1 c k
def tb_ok (s : tbS) : tbV → Prop
  | .inl _ => True
  | .inr (.inl _) => True
  | .inr (.inr none) => True
  | .inr (.inr (some a)) => a.2 < s.2.2.2.2 a.1
def tb_oks (s : tbS) : List tbV → Prop
  | [] => True
  | v :: l => tb_ok s v ∧ tb_oks s l
def tb_okl (s : tbS) (ls : tbL) : Prop := ∀ i v, tb_get ls i = some v → tb_ok s v
def tb_loc (α : tbA → Nat) (nL : Nat) (ls : tbL) (A : Array Slot) : Prop := ls.length = nL ∧ A.size = nL ∧ lv_wf A ∧ ∀ i v, tb_get ls i = some v → A[i]? = some (.val (tb_tv α v))
/-- things outside: the script, Strings, statics, arrays over classes -/
def tb_lens : List Nat := [5, 8, 4, 5, 3, 2, 2, 8, 8]
def tb_byts : List (List Int32) := [[116, 98, 104, 115, 100], [100, 119, 99, 107, 114, 112, 97, 98], [102, 104, 115, 114], [116, 98, 104, 115, 100], [60, 62, 61], [43, 45], [42, 47], [100, 119, 99, 107, 114, 112, 97, 98], [97, 98, 99, 100, 101, 102, 103, 104]]
def tb_strs : List (String × Nat × String) := [("TreesBeforeMen$Rule", 68, "tbhsd"), ("TreesBeforeMen$Order", 43, "dwckrpab"), ("TreesBeforeMenModel", 210, "fhsr"), ("TreesBeforeMenModel", 228, "tbhsd"), ("TreesBeforeMenModel", 233, "<>="), ("TreesBeforeMenModel", 235, "+-"), ("TreesBeforeMenModel", 237, "*/"), ("TreesBeforeMenModel", 355, "dwckrpab"), ("TreesBeforeMenModel", 357, "abcdefgh")]
def tb_X (γ : tbG) (U : State) : Prop :=
  va_X (γ.2.2.2.2.1 76 0) γ.2.2.2.2.2.1 γ.2.2.2.2.2.2 U γ.2.2.2.1 ∧ γ.2.2.2.2.1 76 0 < γ.2.2.2.1.size ∧ va_AO "TreesBeforeMen$Voyage" U ∧ va_AO "TreesBeforeMen$Page" U ∧
  (∀ i q, tb_strs[i]? = some q → vk_R q.1 q.2.1 q.2.2 (γ.2.2.2.2.1 77 i) U) ∧
  va_Z "java/lang/String" "COMPACT_STRINGS" "Z" (.int 1) (tb_Ab γ) U γ.2.2.2.1 ∧ vx_Zq Bundle.tN "UNASSIGNED_STACK" Bundle.steD (tb_Ab γ) U γ.2.2.2.1 ∧ vx_Zq Bundle.tN "SUPPRESSED_SENTINEL" Bundle.listD (tb_Ab γ) U γ.2.2.2.1
/-- what a state is asked at a method's start -/
def tb_K (γ : tbG) (U : State) : Prop := va_K γ.2.1 tb_cl (tb_tyl γ) U ∧ (∀ w ∈ tb_nest, va_Nw w U) ∧ tb_X γ U ∧ γ.2.2.2.1.size ≤ U.heap.size ∧ (∀ q : Nat, q < γ.2.2.2.1.size → U.heap[q]? = γ.2.2.2.1[q]?) ∧ γ.1.stackTraces = false
def tb_pc : List tbI → Nat
  | [] => 0
  | i :: _ => i.1
def tb_end : Instr → Bool
  | .goto _ => true
  | .ireturn => true
  | .lreturn => true
  | .areturn => true
  | .return_ => true
  | .athrow => true
  | .tableswitch _ _ _ _ => true
  | .lookupswitch _ _ => true
  | .nop => true
  | _ => false
/-- a field's place, by the class of the code, the pool's index, the class of the thing -/
def tb_fld (own : String) (k ci j t : Nat) : Prop := ∃ C T N, tb_cl[ci]? = some (C, T, N) ∧ j < N ∧ tb_fty ci j = t ∧
  ((∃ ref, Jvm.Cond.fieldLink own k ref (T j).2.1 (T j).2.2.1 ∈ lw_all ∧ (ref = (T j).1 ∨ Jvm.Cond.sameField ref (T j).1 (T j).2.1 (T j).2.2.1 ∈ lw_all)) ∨ ∃ host, Jvm.Cond.fieldLinkNest own k (T j).1 (T j).2.1 (T j).2.2.1 host ∈ tb_nest)
/-- .. and that the code may write it -/
def tb_fldW (y : MethodName) (k ci j t : Nat) : Prop := ∃ C T N ref, tb_cl[ci]? = some (C, T, N) ∧ j < N ∧ tb_fty ci j = t ∧
  Jvm.Cond.fieldLink y.cls k ref (T j).2.1 (T j).2.2.1 ∈ lw_all ∧ (ref = (T j).1 ∨ Jvm.Cond.sameField ref (T j).1 (T j).2.1 (T j).2.2.1 ∈ lw_all) ∧
  ((T j).2.2.2 = false ∨ ((T j).2.2.2 = true ∧ y.name = "<init>" ∧ (T j).1 = y.cls))
def tb_fact (y : tbM) (i : tbI) : Prop := match i with
  | (pc, ins, a, b, l, v) => match ins with
    | .nop => a < y.2.2.2.2.2.1 ∧ tb_pc (y.2.2.2.2.2.2 a) = pc
    | .aconst_null => v = .inr (.inr none)
    | .iconst n => ∃ x, v = .inl x ∧ Int32.ofInt n = x
    | .bipush n => ∃ x, v = .inl x ∧ (Int8.ofInt n).toInt32 = x
    | .sipush n => ∃ x, v = .inl x ∧ (Int16.ofInt n).toInt32 = x
    | .lconst n => ∃ x, v = .inr (.inl x) ∧ Int64.ofNat (n : Nat) = x
    | .ldc k => ∃ q n, tb_strs[n]? = some q ∧ q.1 = y.1.cls ∧ q.2.1 = k ∧ v = .inr (.inr (some (77, n)))
    | .ldc_w k => (b = 0 ∧ ∃ x, v = .inl x ∧ Jvm.Cond.constant y.1.cls k x ∈ lw_all) ∨ (b = 1 ∧ ∃ q n, tb_strs[n]? = some q ∧ q.1 = y.1.cls ∧ q.2.1 = k ∧ v = .inr (.inr (some (77, n))))
    | .ldc2_w k => ∃ x, v = .inr (.inl x) ∧ Jvm.Cond.constantLong y.1.cls k x ∈ lw_all
    | .iload_n n => (n : Nat) = a
    | .lload_n n => (n : Nat) = a
    | .aload_n n => (n : Nat) = a
    | .istore_n n => (n : Nat) = a
    | .lstore_n n => (n : Nat) = a
    | .astore_n n => (n : Nat) = a
    | .iload n => n = a
    | .lload n => n = a
    | .aload n => n = a
    | .istore n => n = a
    | .lstore n => n = a
    | .astore n => n = a
    | .iinc n k => n = a ∧ ∃ x, v = .inl x ∧ Int32.ofInt k = x
    | .goto o => a < y.2.2.2.2.2.1 ∧ (pc : Int) + o = (tb_pc (y.2.2.2.2.2.2 a) : Int)
    | .if_icmp _ o => a < y.2.2.2.2.2.1 ∧ (pc : Int) + o = (tb_pc (y.2.2.2.2.2.2 a) : Int)
    | .ifCond _ o => a < y.2.2.2.2.2.1 ∧ (pc : Int) + o = (tb_pc (y.2.2.2.2.2.2 a) : Int)
    | .ifnull o => a < y.2.2.2.2.2.1 ∧ (pc : Int) + o = (tb_pc (y.2.2.2.2.2.2 a) : Int)
    | .ifnonnull o => a < y.2.2.2.2.2.1 ∧ (pc : Int) + o = (tb_pc (y.2.2.2.2.2.2 a) : Int)
    | .tableswitch d lo hi os => (a < y.2.2.2.2.2.1 ∧ (pc : Int) + d = (tb_pc (y.2.2.2.2.2.2 a) : Int)) ∧ hi = lo + l.length - 1 ∧ (b : Int) = lo ∧ os.size = l.length ∧ ∀ (n t : Nat) (o : Int), l[n]? = some t → os[n]? = some o → t < y.2.2.2.2.2.1 ∧ (pc : Int) + o = (tb_pc (y.2.2.2.2.2.2 t) : Int)
    | .getfield k => ∀ ci ∈ l, tb_fld y.1.cls k ci a b
    | .putfield k => ∀ ci ∈ l, tb_fldW y.1 k ci a b
    | .new k => (a = 78 ∧ ∃ C, Jvm.Cond.classLink y.1.cls k C ∈ lw_all ∧ Jvm.Cond.initialized C ∈ lw_all) ∨ ∃ C T N, tb_cl[(tb_role a).2.1]? = some (C, T, N) ∧ (tb_role a).1 = 0 ∧ (tb_role a).2.2 = N ∧ Jvm.Cond.classLink y.1.cls k C ∈ lw_all ∧ Jvm.Cond.instantiable C N ∈ lw_all ∧ Jvm.Cond.initialized C ∈ lw_all
    | .newarray t => (tb_role a).1 = 1 ∧ tb_at (tb_role a).2.1 = newarray.typeOf t ∧ Jvm.Cond.arrayClass (newarray.typeOf t) ∈ lw_all ∧ (tb_role a).2.1 < 6
    | .anewarray k => ∃ C, (tb_role a).1 = 1 ∧ tb_at (tb_role a).2.1 = .object C ∧ Jvm.Cond.classLink y.1.cls k C ∈ lw_all ∧ (C = "TreesBeforeMen$Voyage" ∨ C = "TreesBeforeMen$Page") ∧ 6 ≤ (tb_role a).2.1 ∧ (tb_role a).2.1 < 8
    | _ => True
/-- lengths; 0 for the switches -/
def tb_ilen : Instr → Nat
  | .aload _ => 2
  | .astore _ => 2
  | .iload _ => 2
  | .istore _ => 2
  | .lload _ => 2
  | .lstore _ => 2
  | .bipush _ => 2
  | .ldc _ => 2
  | .newarray _ => 2
  | .anewarray _ => 3
  | .checkcast _ => 3
  | .getfield _ => 3
  | .getstatic _ => 3
  | .goto _ => 3
  | .if_icmp _ _ => 3
  | .ifCond _ _ => 3
  | .ifnull _ => 3
  | .ifnonnull _ => 3
  | .iinc _ _ => 3
  | .instanceof _ => 3
  | .invokespecial _ => 3
  | .invokestatic _ => 3
  | .invokevirtual _ => 3
  | .ldc_w _ => 3
  | .ldc2_w _ => 3
  | .new _ => 3
  | .putfield _ => 3
  | .putstatic _ => 3
  | .sipush _ => 3
  | .multianewarray _ _ => 4
  | .tableswitch _ _ _ _ => 0
  | .lookupswitch _ _ => 0
  | _ => 1
/-- the blocks of code are the method's own -/
def tb_Ok (y : tbM) : List tbI → Prop
  | [] => False
  | i :: cs => (i.2.1 = .nop ∨ ∃ n, decode y.2.1 i.1 = .ok (i.2.1, n) ∧ (tb_ilen i.2.1 = 0 ∨ n = tb_ilen i.2.1) ∧ (tb_end i.2.1 = true ∨ tb_pc cs = i.1 + n)) ∧ tb_fact y i ∧ (tb_end i.2.1 = true ∨ tb_Ok y cs)
def tb_All (y : tbM) : Prop := ∀ n, n < y.2.2.2.2.2.1 → tb_Ok y (y.2.2.2.2.2.2 n)
def tb_Env (γ : tbG) (y : tbM) (p : Program) (u : State) (m : MethodId) (args : Array Value) (meth : Method) (c : Code) : Prop :=
  p.tables.exec = Jvm.exec ∧ c.code = y.2.1 ∧ meth.sig.returnType = y.2.2.2.1 ∧ (∀ w ∈ lw_all, w.before args u = true) ∧ u.vm.findClass y.1.cls = some m.cls ∧ meth.locks = false ∧ c.maxLocals = y.2.2.1 ∧ meth.name = y.1.name ∧ c.exceptionTable.toList = tableOf y.2.2.2.2.1 ∧ tb_K γ u ∧ tb_All y
def tb_Ext (α0 : tbA → Nat) (C0 : Nat → Nat) (α : tbA → Nat) (C : Nat → Nat) : Prop := ∀ c, C0 c ≤ C c ∧ ∀ k, k < C0 c → α (c, k) = α0 (c, k)
def tb_Qc (γ : tbG) (Q : tbO → tbS → Prop) (α0 : tbA → Nat) (C0 : Nat → Nat) : Array Value → State → Outcome → State → Prop := fun _ st oc t =>
  (∃ (v : Option tbV) (s' : tbS) (α' : tbA → Nat) (Lv' : List tbA), Q (.inl v) s' ∧ oc = .returned (v.map (tb_tv α')) ∧ tb_Ext α0 C0 α' s'.2.2.2.2 ∧ (∀ w, v = some w → tb_ok s' w) ∧ tb_Rep γ α' Lv' s' t.heap) ∧ va_F (tb_Ab γ) st t
def tb_XC (γ : tbG) (Q : tbO → tbS → Prop) (α0 : tbA → Nat) (C0 : Nat → Nat) : String → Addr → State → State → Prop := fun E q st t =>
  (∃ (a : tbA) (s' : tbS) (α' : tbA → Nat) (Lv' : List tbA), Q (.inr (E, a)) s' ∧ q = α' a ∧ tb_Ext α0 C0 α' s'.2.2.2.2 ∧ a.2 < s'.2.2.2.2 a.1 ∧ tb_Rep γ α' Lv' s' t.heap) ∧ va_F (tb_Ab γ) st t
def tb_rm (d mc ms : Nat) : Room := { frames := d, cells := mc, slots := ms, locals := 64 * d + 64 }
/-- THE JUDGEMENT: from this place in the method's code, with these locals, this stack, this memory, the method comes to an end for which Q holds -/
def Ex (γ : tbG) (y : tbM) (d mc ms : Nat) (Q : tbO → tbS → Prop) (nc ns : Nat) (cs : List tbI) (ls : tbL) (st : List tbV) (s : tbS) : Prop :=
  ∀ (p : Program) (e : Env) (u : State) (m : MethodId) (args : Array Value) (below : List Frame) (meth : Method) (c : Code) (H : Heap) (locs : List Loc) (A : Array Slot) (α : tbA → Nat) (Lv : List tbA) (α0 : tbA → Nat) (C0 : Nat → Nat),
    tb_Env γ y p u m args meth c → tb_Ok y cs → tb_loc α y.2.2.1 ls A → tb_okl s ls → tb_oks s st → tb_Rep γ α Lv s H → va_S (tb_Ab γ) u.heap H locs → tb_Ext α0 C0 α s.2.2.2.2 →
    W p γ.1 e (tb_rm d mc ms) u m args below meth c H locs nc ns (vx_MQ below (tb_Qc γ Q α0 C0) (tb_XC γ Q α0 C0) args u mc ms (tb_Ab γ)) (F0 m (tb_pc cs) A (st.map (tb_tv α)))
/-- an exception E at a is over the frame -/
def ExX (γ : tbG) (y : tbM) (d mc ms : Nat) (Q : tbO → tbS → Prop) (nc ns pc : Nat) (ls : tbL) (E : String) (a : tbA) (s : tbS) : Prop :=
  ∀ (p : Program) (e : Env) (u : State) (m : MethodId) (args : Array Value) (below : List Frame) (meth : Method) (c : Code) (H : Heap) (locs : List Loc) (A : Array Slot) (α : tbA → Nat) (Lv : List tbA) (α0 : tbA → Nat) (C0 : Nat → Nat) (ce : Cell) (rest : List Value),
    tb_Env γ y p u m args meth c → tb_loc α y.2.2.1 ls A → tb_okl s ls → a.2 < s.2.2.2.2 a.1 → tb_Rep γ α Lv s H → va_S (tb_Ab γ) u.heap H locs → tb_Ext α0 C0 α s.2.2.2.2 →
    H[α a]? = some ce → ce.vm = .none → u.vm.findClass E = some ce.cls →
    vx_W p γ.1 e (tb_rm d mc ms) u m args below meth c H locs nc ns (vx_MQ below (tb_Qc γ Q α0 C0) (tb_XC γ Q α0 C0) args u mc ms (tb_Ab γ)) (F0 m pc A rest) (α a)
def tb_words (y : tbM) : List Jvm.Cond := match y.2.2.2.2.1 with
  | [] => ws_ y.1 y.2.1 y.2.2.1 y.2.2.2.1
  | h => wsW_ y.1 y.2.1 y.2.2.1 y.2.2.2.1 h
/-- A METHOD's CONTRACT: from memory s and these arguments it comes to an end for which Q holds; d frames, mc new things of ms places -/
def MX (γ : tbG) (d mc ms : Nat) (y : tbM) (args : List tbV) (s : tbS) (Q : tbO → tbS → Prop) : Prop :=
  ∀ (α : tbA → Nat) (Lv : List tbA), vx_Met γ.1 y.1 (tb_words y) (tb_rm d mc ms) (va_Pc (args.map (tb_tv α)) (fun U => tb_K γ U ∧ tb_Rep γ α Lv s U.heap ∧ tb_oks s args)) (tb_Qc γ Q α s.2.2.2.2) (tb_XC γ Q α s.2.2.2.2) mc ms (tb_Ab γ)
