/-! CODE TABLES (printed by tools/gen_code.py) -/
set_option maxRecDepth 100000
theorem tb_okc {y : tbM} {pc a b n : Nat} {ins : Instr} {l : List Nat} {v : tbV} {cs : List tbI} (hd : decode y.2.1 pc = .ok (ins, n)) (hn : n = tb_ilen ins) (hp : tb_pc cs = pc + n) (hf : tb_fact y (pc, ins, a, b, l, v)) (h : tb_Ok y cs) : tb_Ok y ((pc, ins, a, b, l, v) :: cs) := ⟨Or.inr ⟨n, hd, Or.inr hn, Or.inr hp⟩, hf, Or.inr h⟩
theorem tb_oke {y : tbM} {pc a b n : Nat} {ins : Instr} {l : List Nat} {v : tbV} {cs : List tbI} (hd : decode y.2.1 pc = .ok (ins, n)) (hn : n = tb_ilen ins) (he : tb_end ins = true) (hf : tb_fact y (pc, ins, a, b, l, v)) : tb_Ok y ((pc, ins, a, b, l, v) :: cs) := ⟨Or.inr ⟨n, hd, Or.inr hn, Or.inl he⟩, hf, Or.inl he⟩
theorem tb_oksw {y : tbM} {pc a b n : Nat} {ins : Instr} {l : List Nat} {v : tbV} {cs : List tbI} (hd : decode y.2.1 pc = .ok (ins, n)) (he : tb_end ins = true) (hf : tb_fact y (pc, ins, a, b, l, v)) (hn : tb_ilen ins = 0 := by rfl) : tb_Ok y ((pc, ins, a, b, l, v) :: cs) := ⟨Or.inr ⟨n, hd, Or.inl hn, Or.inl he⟩, hf, Or.inl he⟩
theorem tb_okn {y : tbM} {pc a b : Nat} {l : List Nat} {v : tbV} {cs : List tbI} (hf : a < y.2.2.2.2.2.1 ∧ tb_pc (y.2.2.2.2.2.2 a) = pc) : tb_Ok y ((pc, .nop, a, b, l, v) :: cs) := ⟨Or.inl rfl, hf, Or.inl rfl⟩
theorem tb_all_of {y : tbM} {bs : List (List tbI)} (hc : y.2.2.2.2.2.2 = fun n => tb_nth bs n []) (hn : y.2.2.2.2.2.1 = bs.length) (h : ∀ x ∈ bs, tb_Ok y x) : tb_All y := by
  intro n hlt
  rw [hc]
  rw [hn] at hlt
  have key : ∀ (bs : List (List tbI)) (n : Nat), n < bs.length → tb_nth bs n [] ∈ bs := by
    intro bs
    induction bs with
    | nil => intro n h; exact absurd h (Nat.not_lt_zero n)
    | cons b bs ih =>
      intro n h
      cases n with
      | zero => exact List.mem_cons_self
      | succ n => exact List.mem_cons_of_mem _ (ih n (Nat.lt_of_succ_lt_succ h))
  exact h _ (key bs n hlt)
theorem tb_m1 {P : Nat → Prop} {a : Nat} (h : P a) : ∀ c ∈ [a], P c := fun c hc => by cases List.mem_singleton.mp hc; exact h
theorem tb_m3 {P : Nat → Prop} {a b c : Nat} (h1 : P a) (h2 : P b) (h3 : P c) : ∀ z ∈ [a, b, c], P z := List.forall_mem_cons.mpr ⟨h1, List.forall_mem_cons.mpr ⟨h2, tb_m1 h3⟩⟩
theorem tb_m5 {P : Nat → Prop} {a b c d e : Nat} (h1 : P a) (h2 : P b) (h3 : P c) (h4 : P d) (h5 : P e) : ∀ z ∈ [a, b, c, d, e], P z := List.forall_mem_cons.mpr ⟨h1, List.forall_mem_cons.mpr ⟨h2, tb_m3 h3 h4 h5⟩⟩
/-- a switch's places, by one check -/
def tb_swc (y : tbM) (pc a b : Nat) (l : List Nat) (d lo hi : Int) (os : Array Int) : Bool :=
  decide (a < y.2.2.2.2.2.1) && decide ((pc : Int) + d = (tb_pc (y.2.2.2.2.2.2 a) : Int)) && decide (hi = lo + l.length - 1) && decide ((b : Int) = lo) && decide (os.toList.length = l.length) && (l.zip os.toList).all (fun q => decide (q.1 < y.2.2.2.2.2.1) && decide ((pc : Int) + q.2 = (tb_pc (y.2.2.2.2.2.2 q.1) : Int)))
theorem tb_swf {y : tbM} {pc a b : Nat} {l : List Nat} {v : tbV} {d lo hi : Int} {os : Array Int} (h : tb_swc y pc a b l d lo hi os = true) : tb_fact y (pc, .tableswitch d lo hi os, a, b, l, v) := by
  unfold tb_swc at h
  simp only [Bool.and_eq_true, decide_eq_true_eq, List.all_eq_true] at h
  obtain ⟨⟨⟨⟨⟨h1, h2⟩, h3⟩, h4⟩, h5⟩, h6⟩ := h
  refine ⟨⟨h1, h2⟩, h3, h4, by rw [← Array.length_toList]; exact h5, fun n t o hn ho => ?_⟩
  have hm : (t, o) ∈ l.zip os.toList := by
    refine List.mem_of_getElem? (i := n) ?_
    rw [List.getElem?_zip_eq_some]
    exact ⟨hn, by rw [Array.getElem?_toList]; exact ho⟩
  exact h6 _ hm
theorem wX1_20_0 (y : MethodName) (hy : y.cls = RX1) (hn : y.name = "<init>") : tb_fldW y 20 0 0 2 := ⟨RX1, TX1, 40, "TreesBeforeMen", rfl, Nat.le_of_ble_eq_true rfl, rfl, by rw [hy]; exact q232, Or.inl rfl, Or.inr ⟨rfl, hn, hy.symm⟩⟩
theorem wX1_7_0 (y : MethodName) (hy : y.cls = RX1) (hn : y.name = "<init>") : tb_fldW y 7 0 1 2 := ⟨RX1, TX1, 40, "TreesBeforeMen", rfl, Nat.le_of_ble_eq_true rfl, rfl, by rw [hy]; exact q233, Or.inl rfl, Or.inr ⟨rfl, hn, hy.symm⟩⟩
theorem wX1_11_0 (y : MethodName) (hy : y.cls = RX1) (hn : y.name = "<init>") : tb_fldW y 11 0 2 2 := ⟨RX1, TX1, 40, "TreesBeforeMen", rfl, Nat.le_of_ble_eq_true rfl, rfl, by rw [hy]; exact q234, Or.inl rfl, Or.inr ⟨rfl, hn, hy.symm⟩⟩
theorem wX1_14_0 (y : MethodName) (hy : y.cls = RX1) (hn : y.name = "<init>") : tb_fldW y 14 0 3 2 := ⟨RX1, TX1, 40, "TreesBeforeMen", rfl, Nat.le_of_ble_eq_true rfl, rfl, by rw [hy]; exact q235, Or.inl rfl, Or.inr ⟨rfl, hn, hy.symm⟩⟩
theorem wX1_17_0 (y : MethodName) (hy : y.cls = RX1) (hn : y.name = "<init>") : tb_fldW y 17 0 4 2 := ⟨RX1, TX1, 40, "TreesBeforeMen", rfl, Nat.le_of_ble_eq_true rfl, rfl, by rw [hy]; exact q236, Or.inl rfl, Or.inr ⟨rfl, hn, hy.symm⟩⟩
theorem wX1_49_0 (y : MethodName) (hy : y.cls = RX1) (hn : y.name = "<init>") : tb_fldW y 49 0 5 2 := ⟨RX1, TX1, 40, "TreesBeforeMen", rfl, Nat.le_of_ble_eq_true rfl, rfl, by rw [hy]; exact q238, Or.inl rfl, Or.inr ⟨rfl, hn, hy.symm⟩⟩
theorem wX1_53_0 (y : MethodName) (hy : y.cls = RX1) (hn : y.name = "<init>") : tb_fldW y 53 0 6 2 := ⟨RX1, TX1, 40, "TreesBeforeMen", rfl, Nat.le_of_ble_eq_true rfl, rfl, by rw [hy]; exact q239, Or.inl rfl, Or.inr ⟨rfl, hn, hy.symm⟩⟩
theorem wX1_56_0 (y : MethodName) (hy : y.cls = RX1) (hn : y.name = "<init>") : tb_fldW y 56 0 7 2 := ⟨RX1, TX1, 40, "TreesBeforeMen", rfl, Nat.le_of_ble_eq_true rfl, rfl, by rw [hy]; exact q240, Or.inl rfl, Or.inr ⟨rfl, hn, hy.symm⟩⟩
theorem wX1_59_0 (y : MethodName) (hy : y.cls = RX1) (hn : y.name = "<init>") : tb_fldW y 59 0 8 2 := ⟨RX1, TX1, 40, "TreesBeforeMen", rfl, Nat.le_of_ble_eq_true rfl, rfl, by rw [hy]; exact q241, Or.inl rfl, Or.inr ⟨rfl, hn, hy.symm⟩⟩
theorem wX1_62_0 (y : MethodName) (hy : y.cls = RX1) (hn : y.name = "<init>") : tb_fldW y 62 0 9 2 := ⟨RX1, TX1, 40, "TreesBeforeMen", rfl, Nat.le_of_ble_eq_true rfl, rfl, by rw [hy]; exact q242, Or.inl rfl, Or.inr ⟨rfl, hn, hy.symm⟩⟩
theorem wX1_66_0 (y : MethodName) (hy : y.cls = RX1) (hn : y.name = "<init>") : tb_fldW y 66 0 10 2 := ⟨RX1, TX1, 40, "TreesBeforeMen", rfl, Nat.le_of_ble_eq_true rfl, rfl, by rw [hy]; exact q243, Or.inl rfl, Or.inr ⟨rfl, hn, hy.symm⟩⟩
theorem wX1_69_0 (y : MethodName) (hy : y.cls = RX1) (hn : y.name = "<init>") : tb_fldW y 69 0 11 2 := ⟨RX1, TX1, 40, "TreesBeforeMen", rfl, Nat.le_of_ble_eq_true rfl, rfl, by rw [hy]; exact q245, Or.inl rfl, Or.inr ⟨rfl, hn, hy.symm⟩⟩
theorem wX1_72_0 (y : MethodName) (hy : y.cls = RX1) (hn : y.name = "<init>") : tb_fldW y 72 0 12 2 := ⟨RX1, TX1, 40, "TreesBeforeMen", rfl, Nat.le_of_ble_eq_true rfl, rfl, by rw [hy]; exact q247, Or.inl rfl, Or.inr ⟨rfl, hn, hy.symm⟩⟩
theorem wX1_1_0 (y : MethodName) (hy : y.cls = RX1) (hn : y.name = "<init>") : tb_fldW y 1 0 13 2 := ⟨RX1, TX1, 40, "TreesBeforeMen", rfl, Nat.le_of_ble_eq_true rfl, rfl, by rw [hy]; exact q248, Or.inl rfl, Or.inr ⟨rfl, hn, hy.symm⟩⟩
theorem wX1_75_0 (y : MethodName) (hy : y.cls = RX1) (hn : y.name = "<init>") : tb_fldW y 75 0 14 2 := ⟨RX1, TX1, 40, "TreesBeforeMen", rfl, Nat.le_of_ble_eq_true rfl, rfl, by rw [hy]; exact q249, Or.inl rfl, Or.inr ⟨rfl, hn, hy.symm⟩⟩
theorem wX1_78_0 (y : MethodName) (hy : y.cls = RX1) (hn : y.name = "<init>") : tb_fldW y 78 0 15 2 := ⟨RX1, TX1, 40, "TreesBeforeMen", rfl, Nat.le_of_ble_eq_true rfl, rfl, by rw [hy]; exact q250, Or.inl rfl, Or.inr ⟨rfl, hn, hy.symm⟩⟩
theorem wX1_81_0 (y : MethodName) (hy : y.cls = RX1) (hn : y.name = "<init>") : tb_fldW y 81 0 16 2 := ⟨RX1, TX1, 40, "TreesBeforeMen", rfl, Nat.le_of_ble_eq_true rfl, rfl, by rw [hy]; exact q251, Or.inl rfl, Or.inr ⟨rfl, hn, hy.symm⟩⟩
theorem wX1_84_0 (y : MethodName) (hy : y.cls = RX1) (hn : y.name = "<init>") : tb_fldW y 84 0 17 2 := ⟨RX1, TX1, 40, "TreesBeforeMen", rfl, Nat.le_of_ble_eq_true rfl, rfl, by rw [hy]; exact q252, Or.inl rfl, Or.inr ⟨rfl, hn, hy.symm⟩⟩
theorem wX1_87_0 (y : MethodName) (hy : y.cls = RX1) : tb_fldW y 87 0 23 2 := ⟨RX1, TX1, 40, "TreesBeforeMen", rfl, Nat.le_of_ble_eq_true rfl, rfl, by rw [hy]; exact q259, Or.inl rfl, Or.inl rfl⟩
theorem wX1_91_0 (y : MethodName) (hy : y.cls = RX1) (hn : y.name = "<init>") : tb_fldW y 91 0 24 2 := ⟨RX1, TX1, 40, "TreesBeforeMen", rfl, Nat.le_of_ble_eq_true rfl, rfl, by rw [hy]; exact q260, Or.inl rfl, Or.inr ⟨rfl, hn, hy.symm⟩⟩
theorem wX1_94_0 (y : MethodName) (hy : y.cls = RX1) (hn : y.name = "<init>") : tb_fldW y 94 0 26 2 := ⟨RX1, TX1, 40, "TreesBeforeMen", rfl, Nat.le_of_ble_eq_true rfl, rfl, by rw [hy]; exact q262, Or.inl rfl, Or.inr ⟨rfl, hn, hy.symm⟩⟩
theorem wX1_98_0 (y : MethodName) (hy : y.cls = RX1) (hn : y.name = "<init>") : tb_fldW y 98 0 29 2 := ⟨RX1, TX1, 40, "TreesBeforeMen", rfl, Nat.le_of_ble_eq_true rfl, rfl, by rw [hy]; exact q265, Or.inl rfl, Or.inr ⟨rfl, hn, hy.symm⟩⟩
theorem wX1_101_0 (y : MethodName) (hy : y.cls = RX1) (hn : y.name = "<init>") : tb_fldW y 101 0 30 2 := ⟨RX1, TX1, 40, "TreesBeforeMen", rfl, Nat.le_of_ble_eq_true rfl, rfl, by rw [hy]; exact q266, Or.inl rfl, Or.inr ⟨rfl, hn, hy.symm⟩⟩
theorem wX1_104_0 (y : MethodName) (hy : y.cls = RX1) (hn : y.name = "<init>") : tb_fldW y 104 0 31 2 := ⟨RX1, TX1, 40, "TreesBeforeMen", rfl, Nat.le_of_ble_eq_true rfl, rfl, by rw [hy]; exact q267, Or.inl rfl, Or.inr ⟨rfl, hn, hy.symm⟩⟩
theorem wX1_107_0 (y : MethodName) (hy : y.cls = RX1) (hn : y.name = "<init>") : tb_fldW y 107 0 32 2 := ⟨RX1, TX1, 40, "TreesBeforeMen", rfl, Nat.le_of_ble_eq_true rfl, rfl, by rw [hy]; exact q268, Or.inl rfl, Or.inr ⟨rfl, hn, hy.symm⟩⟩
theorem wX1_110_0 (y : MethodName) (hy : y.cls = RX1) (hn : y.name = "<init>") : tb_fldW y 110 0 35 2 := ⟨RX1, TX1, 40, "TreesBeforeMen", rfl, Nat.le_of_ble_eq_true rfl, rfl, by rw [hy]; exact q271, Or.inl rfl, Or.inr ⟨rfl, hn, hy.symm⟩⟩
theorem wX1_113_0 (y : MethodName) (hy : y.cls = RX1) (hn : y.name = "<init>") : tb_fldW y 113 0 36 2 := ⟨RX1, TX1, 40, "TreesBeforeMen", rfl, Nat.le_of_ble_eq_true rfl, rfl, by rw [hy]; exact q272, Or.inl rfl, Or.inr ⟨rfl, hn, hy.symm⟩⟩
theorem wX1_118_0 (y : MethodName) (hy : y.cls = RX1) (hn : y.name = "<init>") : tb_fldW y 118 0 39 2 := ⟨RX1, TX1, 40, "TreesBeforeMen", rfl, Nat.le_of_ble_eq_true rfl, rfl, by rw [hy]; exact q275, Or.inl rfl, Or.inr ⟨rfl, hn, hy.symm⟩⟩
theorem fX1_62_0 : tb_fld RX1 62 0 9 2 := ⟨RX1, TX1, 40, rfl, Nat.le_of_ble_eq_true rfl, rfl, Or.inl ⟨"TreesBeforeMen", q242, Or.inl rfl⟩⟩
theorem fX1_66_0 : tb_fld RX1 66 0 10 2 := ⟨RX1, TX1, 40, rfl, Nat.le_of_ble_eq_true rfl, rfl, Or.inl ⟨"TreesBeforeMen", q243, Or.inl rfl⟩⟩
theorem fX1_135_0 : tb_fld RX1 135 0 25 0 := ⟨RX1, TX1, 40, rfl, Nat.le_of_ble_eq_true rfl, rfl, Or.inl ⟨"TreesBeforeMen", q261, Or.inl rfl⟩⟩
theorem fX1_91_0 : tb_fld RX1 91 0 24 2 := ⟨RX1, TX1, 40, rfl, Nat.le_of_ble_eq_true rfl, rfl, Or.inl ⟨"TreesBeforeMen", q260, Or.inl rfl⟩⟩
theorem wX1_135_0 (y : MethodName) (hy : y.cls = RX1) : tb_fldW y 135 0 25 0 := ⟨RX1, TX1, 40, "TreesBeforeMen", rfl, Nat.le_of_ble_eq_true rfl, rfl, by rw [hy]; exact q261, Or.inl rfl, Or.inl rfl⟩
theorem fX1_145_8 : tb_fld RX1 145 8 1 0 := ⟨RX10, TX10, 4, rfl, Nat.le_of_ble_eq_true rfl, rfl, Or.inl ⟨"TreesBeforeMen$Words", q390, Or.inl rfl⟩⟩
theorem fX1_145_10 : tb_fld RX1 145 10 1 0 := ⟨RX12, TX12, 7, rfl, Nat.le_of_ble_eq_true rfl, rfl, Or.inl ⟨"TreesBeforeMen$Words", q390, Or.inl rfl⟩⟩
theorem fX1_145_11 : tb_fld RX1 145 11 1 0 := ⟨RX13, TX13, 8, rfl, Nat.le_of_ble_eq_true rfl, rfl, Or.inl ⟨"TreesBeforeMen$Words", q390, Or.inl rfl⟩⟩
theorem fX1_126_0 : tb_fld RX1 126 0 18 0 := ⟨RX1, TX1, 40, rfl, Nat.le_of_ble_eq_true rfl, rfl, Or.inl ⟨"TreesBeforeMen", q253, Or.inl rfl⟩⟩
theorem fX1_166_9 : tb_fld RX1 166 9 6 0 := ⟨RX11, TX11, 7, rfl, Nat.le_of_ble_eq_true rfl, rfl, Or.inr ⟨"TreesBeforeMen", tbn465⟩⟩
theorem fX1_69_0 : tb_fld RX1 69 0 11 2 := ⟨RX1, TX1, 40, rfl, Nat.le_of_ble_eq_true rfl, rfl, Or.inl ⟨"TreesBeforeMen", q245, Or.inl rfl⟩⟩
theorem fX1_72_0 : tb_fld RX1 72 0 12 2 := ⟨RX1, TX1, 40, rfl, Nat.le_of_ble_eq_true rfl, rfl, Or.inl ⟨"TreesBeforeMen", q247, Or.inl rfl⟩⟩
theorem fX1_1_0 : tb_fld RX1 1 0 13 2 := ⟨RX1, TX1, 40, rfl, Nat.le_of_ble_eq_true rfl, rfl, Or.inl ⟨"TreesBeforeMen", q248, Or.inl rfl⟩⟩
theorem fX1_49_0 : tb_fld RX1 49 0 5 2 := ⟨RX1, TX1, 40, rfl, Nat.le_of_ble_eq_true rfl, rfl, Or.inl ⟨"TreesBeforeMen", q238, Or.inl rfl⟩⟩
theorem fX1_169_6 : tb_fld RX1 169 6 0 2 := ⟨RX8, TX8, 7, rfl, Nat.le_of_ble_eq_true rfl, rfl, Or.inl ⟨"TreesBeforeMen$Voyage", q197, Or.inl rfl⟩⟩
theorem fX1_172_6 : tb_fld RX1 172 6 1 2 := ⟨RX8, TX8, 7, rfl, Nat.le_of_ble_eq_true rfl, rfl, Or.inl ⟨"TreesBeforeMen$Voyage", q199, Or.inl rfl⟩⟩
theorem wX1_126_0 (y : MethodName) (hy : y.cls = RX1) : tb_fldW y 126 0 18 0 := ⟨RX1, TX1, 40, "TreesBeforeMen", rfl, Nat.le_of_ble_eq_true rfl, rfl, by rw [hy]; exact q253, Or.inl rfl, Or.inl rfl⟩
theorem wX1_175_0 (y : MethodName) (hy : y.cls = RX1) : tb_fldW y 175 0 22 0 := ⟨RX1, TX1, 40, "TreesBeforeMen", rfl, Nat.le_of_ble_eq_true rfl, rfl, by rw [hy]; exact q258, Or.inl rfl, Or.inl rfl⟩
theorem fX1_178_0 : tb_fld RX1 178 0 21 0 := ⟨RX1, TX1, 40, rfl, Nat.le_of_ble_eq_true rfl, rfl, Or.inl ⟨"TreesBeforeMen", q257, Or.inl rfl⟩⟩
theorem wX1_178_0 (y : MethodName) (hy : y.cls = RX1) : tb_fldW y 178 0 21 0 := ⟨RX1, TX1, 40, "TreesBeforeMen", rfl, Nat.le_of_ble_eq_true rfl, rfl, by rw [hy]; exact q257, Or.inl rfl, Or.inl rfl⟩
theorem fX1_185_8 : tb_fld RX1 185 8 3 0 := ⟨RX10, TX10, 4, rfl, Nat.le_of_ble_eq_true rfl, rfl, Or.inl ⟨"TreesBeforeMen$Words", q399, Or.inl rfl⟩⟩
theorem fX1_185_10 : tb_fld RX1 185 10 3 0 := ⟨RX12, TX12, 7, rfl, Nat.le_of_ble_eq_true rfl, rfl, Or.inl ⟨"TreesBeforeMen$Words", q399, Or.inl rfl⟩⟩
theorem fX1_185_11 : tb_fld RX1 185 11 3 0 := ⟨RX13, TX13, 8, rfl, Nat.le_of_ble_eq_true rfl, rfl, Or.inl ⟨"TreesBeforeMen$Words", q399, Or.inl rfl⟩⟩
theorem wX1_185_8 (y : MethodName) (hy : y.cls = RX1) : tb_fldW y 185 8 3 0 := ⟨RX10, TX10, 4, "TreesBeforeMen$Words", rfl, Nat.le_of_ble_eq_true rfl, rfl, by rw [hy]; exact q399, Or.inl rfl, Or.inl rfl⟩
theorem wX1_185_10 (y : MethodName) (hy : y.cls = RX1) : tb_fldW y 185 10 3 0 := ⟨RX12, TX12, 7, "TreesBeforeMen$Words", rfl, Nat.le_of_ble_eq_true rfl, rfl, by rw [hy]; exact q399, Or.inl rfl, Or.inl rfl⟩
theorem wX1_185_11 (y : MethodName) (hy : y.cls = RX1) : tb_fldW y 185 11 3 0 := ⟨RX13, TX13, 8, "TreesBeforeMen$Words", rfl, Nat.le_of_ble_eq_true rfl, rfl, by rw [hy]; exact q399, Or.inl rfl, Or.inl rfl⟩
theorem fX1_87_0 : tb_fld RX1 87 0 23 2 := ⟨RX1, TX1, 40, rfl, Nat.le_of_ble_eq_true rfl, rfl, Or.inl ⟨"TreesBeforeMen", q259, Or.inl rfl⟩⟩
theorem fX1_192_0 : tb_fld RX1 192 0 19 0 := ⟨RX1, TX1, 40, rfl, Nat.le_of_ble_eq_true rfl, rfl, Or.inl ⟨"TreesBeforeMen", q254, Or.inl rfl⟩⟩
theorem fX1_75_0 : tb_fld RX1 75 0 14 2 := ⟨RX1, TX1, 40, rfl, Nat.le_of_ble_eq_true rfl, rfl, Or.inl ⟨"TreesBeforeMen", q249, Or.inl rfl⟩⟩
theorem fX1_78_0 : tb_fld RX1 78 0 15 2 := ⟨RX1, TX1, 40, rfl, Nat.le_of_ble_eq_true rfl, rfl, Or.inl ⟨"TreesBeforeMen", q250, Or.inl rfl⟩⟩
theorem fX1_81_0 : tb_fld RX1 81 0 16 2 := ⟨RX1, TX1, 40, rfl, Nat.le_of_ble_eq_true rfl, rfl, Or.inl ⟨"TreesBeforeMen", q251, Or.inl rfl⟩⟩
theorem wX1_192_0 (y : MethodName) (hy : y.cls = RX1) : tb_fldW y 192 0 19 0 := ⟨RX1, TX1, 40, "TreesBeforeMen", rfl, Nat.le_of_ble_eq_true rfl, rfl, by rw [hy]; exact q254, Or.inl rfl, Or.inl rfl⟩
theorem wX1_204_0 (y : MethodName) (hy : y.cls = RX1) : tb_fldW y 204 0 28 2 := ⟨RX1, TX1, 40, "TreesBeforeMen", rfl, Nat.le_of_ble_eq_true rfl, rfl, by rw [hy]; exact q264, Or.inl rfl, Or.inl rfl⟩
theorem fX1_175_0 : tb_fld RX1 175 0 22 0 := ⟨RX1, TX1, 40, rfl, Nat.le_of_ble_eq_true rfl, rfl, Or.inl ⟨"TreesBeforeMen", q258, Or.inl rfl⟩⟩
theorem fX1_257_6 : tb_fld RX1 257 6 4 0 := ⟨RX8, TX8, 7, rfl, Nat.le_of_ble_eq_true rfl, rfl, Or.inl ⟨"TreesBeforeMen$Voyage", q207, Or.inl rfl⟩⟩
theorem fX1_260_6 : tb_fld RX1 260 6 5 0 := ⟨RX8, TX8, 7, rfl, Nat.le_of_ble_eq_true rfl, rfl, Or.inl ⟨"TreesBeforeMen$Voyage", q209, Or.inl rfl⟩⟩
theorem wX1_257_6 (y : MethodName) (hy : y.cls = RX1) : tb_fldW y 257 6 4 0 := ⟨RX8, TX8, 7, "TreesBeforeMen$Voyage", rfl, Nat.le_of_ble_eq_true rfl, rfl, by rw [hy]; exact q207, Or.inl rfl, Or.inl rfl⟩
theorem wX1_260_6 (y : MethodName) (hy : y.cls = RX1) : tb_fldW y 260 6 5 0 := ⟨RX8, TX8, 7, "TreesBeforeMen$Voyage", rfl, Nat.le_of_ble_eq_true rfl, rfl, by rw [hy]; exact q209, Or.inl rfl, Or.inl rfl⟩
theorem fX1_302_6 : tb_fld RX1 302 6 3 0 := ⟨RX8, TX8, 7, rfl, Nat.le_of_ble_eq_true rfl, rfl, Or.inl ⟨"TreesBeforeMen$Voyage", q205, Or.inl rfl⟩⟩
theorem wX1_122_0 (y : MethodName) (hy : y.cls = RX1) : tb_fldW y 122 0 27 0 := ⟨RX1, TX1, 40, "TreesBeforeMen", rfl, Nat.le_of_ble_eq_true rfl, rfl, by rw [hy]; exact q263, Or.inl rfl, Or.inl rfl⟩
theorem wX1_302_6 (y : MethodName) (hy : y.cls = RX1) : tb_fldW y 302 6 3 0 := ⟨RX8, TX8, 7, "TreesBeforeMen$Voyage", rfl, Nat.le_of_ble_eq_true rfl, rfl, by rw [hy]; exact q205, Or.inl rfl, Or.inl rfl⟩
theorem fX1_296_6 : tb_fld RX1 296 6 6 0 := ⟨RX8, TX8, 7, rfl, Nat.le_of_ble_eq_true rfl, rfl, Or.inl ⟨"TreesBeforeMen$Voyage", q212, Or.inl rfl⟩⟩
theorem wX1_296_6 (y : MethodName) (hy : y.cls = RX1) : tb_fldW y 296 6 6 0 := ⟨RX8, TX8, 7, "TreesBeforeMen$Voyage", rfl, Nat.le_of_ble_eq_true rfl, rfl, by rw [hy]; exact q212, Or.inl rfl, Or.inl rfl⟩
theorem fX1_204_0 : tb_fld RX1 204 0 28 2 := ⟨RX1, TX1, 40, rfl, Nat.le_of_ble_eq_true rfl, rfl, Or.inl ⟨"TreesBeforeMen", q264, Or.inl rfl⟩⟩
theorem fX1_94_0 : tb_fld RX1 94 0 26 2 := ⟨RX1, TX1, 40, rfl, Nat.le_of_ble_eq_true rfl, rfl, Or.inl ⟨"TreesBeforeMen", q262, Or.inl rfl⟩⟩
theorem fX1_122_0 : tb_fld RX1 122 0 27 0 := ⟨RX1, TX1, 40, rfl, Nat.le_of_ble_eq_true rfl, rfl, Or.inl ⟨"TreesBeforeMen", q263, Or.inl rfl⟩⟩
theorem fX1_7_0 : tb_fld RX1 7 0 1 2 := ⟨RX1, TX1, 40, rfl, Nat.le_of_ble_eq_true rfl, rfl, Or.inl ⟨"TreesBeforeMen", q233, Or.inl rfl⟩⟩
theorem fX1_11_0 : tb_fld RX1 11 0 2 2 := ⟨RX1, TX1, 40, rfl, Nat.le_of_ble_eq_true rfl, rfl, Or.inl ⟨"TreesBeforeMen", q234, Or.inl rfl⟩⟩
theorem fX1_14_0 : tb_fld RX1 14 0 3 2 := ⟨RX1, TX1, 40, rfl, Nat.le_of_ble_eq_true rfl, rfl, Or.inl ⟨"TreesBeforeMen", q235, Or.inl rfl⟩⟩
theorem fX1_17_0 : tb_fld RX1 17 0 4 2 := ⟨RX1, TX1, 40, rfl, Nat.le_of_ble_eq_true rfl, rfl, Or.inl ⟨"TreesBeforeMen", q236, Or.inl rfl⟩⟩
theorem fX1_20_0 : tb_fld RX1 20 0 0 2 := ⟨RX1, TX1, 40, rfl, Nat.le_of_ble_eq_true rfl, rfl, Or.inl ⟨"TreesBeforeMen", q232, Or.inl rfl⟩⟩
theorem fX1_53_0 : tb_fld RX1 53 0 6 2 := ⟨RX1, TX1, 40, rfl, Nat.le_of_ble_eq_true rfl, rfl, Or.inl ⟨"TreesBeforeMen", q239, Or.inl rfl⟩⟩
theorem fX1_362_11 : tb_fld RX1 362 11 7 0 := ⟨RX13, TX13, 8, rfl, Nat.le_of_ble_eq_true rfl, rfl, Or.inl ⟨"TreesBeforeMen$Order", q930, Or.inl rfl⟩⟩
theorem fX1_365_11 : tb_fld RX1 365 11 4 2 := ⟨RX13, TX13, 8, rfl, Nat.le_of_ble_eq_true rfl, rfl, Or.inl ⟨"TreesBeforeMen$Order", q924, Or.inl rfl⟩⟩
theorem fX1_369_11 : tb_fld RX1 369 11 5 2 := ⟨RX13, TX13, 8, rfl, Nat.le_of_ble_eq_true rfl, rfl, Or.inl ⟨"TreesBeforeMen$Order", q926, Or.inl rfl⟩⟩
theorem fX1_372_11 : tb_fld RX1 372 11 6 2 := ⟨RX13, TX13, 8, rfl, Nat.le_of_ble_eq_true rfl, rfl, Or.inl ⟨"TreesBeforeMen$Order", q928, Or.inl rfl⟩⟩
theorem fX1_56_0 : tb_fld RX1 56 0 7 2 := ⟨RX1, TX1, 40, rfl, Nat.le_of_ble_eq_true rfl, rfl, Or.inl ⟨"TreesBeforeMen", q240, Or.inl rfl⟩⟩
theorem fX1_98_0 : tb_fld RX1 98 0 29 2 := ⟨RX1, TX1, 40, rfl, Nat.le_of_ble_eq_true rfl, rfl, Or.inl ⟨"TreesBeforeMen", q265, Or.inl rfl⟩⟩
theorem fX1_101_0 : tb_fld RX1 101 0 30 2 := ⟨RX1, TX1, 40, rfl, Nat.le_of_ble_eq_true rfl, rfl, Or.inl ⟨"TreesBeforeMen", q266, Or.inl rfl⟩⟩
theorem fX1_388_6 : tb_fld RX1 388 6 2 0 := ⟨RX8, TX8, 7, rfl, Nat.le_of_ble_eq_true rfl, rfl, Or.inl ⟨"TreesBeforeMen$Voyage", q201, Or.inl rfl⟩⟩
theorem fX1_59_0 : tb_fld RX1 59 0 8 2 := ⟨RX1, TX1, 40, rfl, Nat.le_of_ble_eq_true rfl, rfl, Or.inl ⟨"TreesBeforeMen", q241, Or.inl rfl⟩⟩
theorem wX1_396_0 (y : MethodName) (hy : y.cls = RX1) : tb_fldW y 396 0 33 0 := ⟨RX1, TX1, 40, "TreesBeforeMen", rfl, Nat.le_of_ble_eq_true rfl, rfl, by rw [hy]; exact q269, Or.inl rfl, Or.inl rfl⟩
theorem fX1_396_0 : tb_fld RX1 396 0 33 0 := ⟨RX1, TX1, 40, rfl, Nat.le_of_ble_eq_true rfl, rfl, Or.inl ⟨"TreesBeforeMen", q269, Or.inl rfl⟩⟩
theorem fX1_107_0 : tb_fld RX1 107 0 32 2 := ⟨RX1, TX1, 40, rfl, Nat.le_of_ble_eq_true rfl, rfl, Or.inl ⟨"TreesBeforeMen", q268, Or.inl rfl⟩⟩
theorem fX1_104_0 : tb_fld RX1 104 0 31 2 := ⟨RX1, TX1, 40, rfl, Nat.le_of_ble_eq_true rfl, rfl, Or.inl ⟨"TreesBeforeMen", q267, Or.inl rfl⟩⟩
theorem fX1_407_0 : tb_fld RX1 407 0 34 0 := ⟨RX1, TX1, 40, rfl, Nat.le_of_ble_eq_true rfl, rfl, Or.inl ⟨"TreesBeforeMen", q270, Or.inl rfl⟩⟩
theorem wX1_407_0 (y : MethodName) (hy : y.cls = RX1) : tb_fldW y 407 0 34 0 := ⟨RX1, TX1, 40, "TreesBeforeMen", rfl, Nat.le_of_ble_eq_true rfl, rfl, by rw [hy]; exact q270, Or.inl rfl, Or.inl rfl⟩
theorem fX1_420_0 : tb_fld RX1 420 0 20 0 := ⟨RX1, TX1, 40, rfl, Nat.le_of_ble_eq_true rfl, rfl, Or.inl ⟨"TreesBeforeMen", q255, Or.inl rfl⟩⟩
theorem fX1_84_0 : tb_fld RX1 84 0 17 2 := ⟨RX1, TX1, 40, rfl, Nat.le_of_ble_eq_true rfl, rfl, Or.inl ⟨"TreesBeforeMen", q252, Or.inl rfl⟩⟩
theorem wX1_420_0 (y : MethodName) (hy : y.cls = RX1) : tb_fldW y 420 0 20 0 := ⟨RX1, TX1, 40, "TreesBeforeMen", rfl, Nat.le_of_ble_eq_true rfl, rfl, by rw [hy]; exact q255, Or.inl rfl, Or.inl rfl⟩
theorem fX1_452_0 : tb_fld RX1 452 0 37 0 := ⟨RX1, TX1, 40, rfl, Nat.le_of_ble_eq_true rfl, rfl, Or.inl ⟨"TreesBeforeMen", q273, Or.inl rfl⟩⟩
theorem fX1_110_0 : tb_fld RX1 110 0 35 2 := ⟨RX1, TX1, 40, rfl, Nat.le_of_ble_eq_true rfl, rfl, Or.inl ⟨"TreesBeforeMen", q271, Or.inl rfl⟩⟩
theorem fX1_113_0 : tb_fld RX1 113 0 36 2 := ⟨RX1, TX1, 40, rfl, Nat.le_of_ble_eq_true rfl, rfl, Or.inl ⟨"TreesBeforeMen", q272, Or.inl rfl⟩⟩
theorem wX1_452_0 (y : MethodName) (hy : y.cls = RX1) : tb_fldW y 452 0 37 0 := ⟨RX1, TX1, 40, "TreesBeforeMen", rfl, Nat.le_of_ble_eq_true rfl, rfl, by rw [hy]; exact q273, Or.inl rfl, Or.inl rfl⟩
theorem wX1_470_0 (y : MethodName) (hy : y.cls = RX1) : tb_fldW y 470 0 38 0 := ⟨RX1, TX1, 40, "TreesBeforeMen", rfl, Nat.le_of_ble_eq_true rfl, rfl, by rw [hy]; exact q274, Or.inl rfl, Or.inl rfl⟩
theorem fX1_470_0 : tb_fld RX1 470 0 38 0 := ⟨RX1, TX1, 40, rfl, Nat.le_of_ble_eq_true rfl, rfl, Or.inl ⟨"TreesBeforeMen", q274, Or.inl rfl⟩⟩
theorem fX1_118_0 : tb_fld RX1 118 0 39 2 := ⟨RX1, TX1, 40, rfl, Nat.le_of_ble_eq_true rfl, rfl, Or.inl ⟨"TreesBeforeMen", q275, Or.inl rfl⟩⟩
theorem fX1_480_12 : tb_fld RX1 480 12 1 0 := ⟨RX14, TX14, 3, rfl, Nat.le_of_ble_eq_true rfl, rfl, Or.inr ⟨"TreesBeforeMen", tbn1167⟩⟩
theorem fX1_483_12 : tb_fld RX1 483 12 0 2 := ⟨RX14, TX14, 3, rfl, Nat.le_of_ble_eq_true rfl, rfl, Or.inr ⟨"TreesBeforeMen", tbn1165⟩⟩
theorem wX10_9_8 (y : MethodName) (hy : y.cls = RX10) (hn : y.name = "<init>") : tb_fldW y 9 8 0 2 := ⟨RX10, TX10, 4, "TreesBeforeMen$Words", rfl, Nat.le_of_ble_eq_true rfl, rfl, by rw [hy]; exact q388, Or.inl rfl, Or.inr ⟨rfl, hn, hy.symm⟩⟩
theorem wX10_9_10 (y : MethodName) (hy : y.cls = RX10) (hn : y.name = "<init>") : tb_fldW y 9 10 0 2 := ⟨RX12, TX12, 7, "TreesBeforeMen$Words", rfl, Nat.le_of_ble_eq_true rfl, rfl, by rw [hy]; exact q388, Or.inl rfl, Or.inr ⟨rfl, hn, hy.symm⟩⟩
theorem wX10_9_11 (y : MethodName) (hy : y.cls = RX10) (hn : y.name = "<init>") : tb_fldW y 9 11 0 2 := ⟨RX13, TX13, 8, "TreesBeforeMen$Words", rfl, Nat.le_of_ble_eq_true rfl, rfl, by rw [hy]; exact q388, Or.inl rfl, Or.inr ⟨rfl, hn, hy.symm⟩⟩
theorem wX10_15_8 (y : MethodName) (hy : y.cls = RX10) (hn : y.name = "<init>") : tb_fldW y 15 8 1 0 := ⟨RX10, TX10, 4, "TreesBeforeMen$Words", rfl, Nat.le_of_ble_eq_true rfl, rfl, by rw [hy]; exact q389, Or.inl rfl, Or.inr ⟨rfl, hn, hy.symm⟩⟩
theorem wX10_15_10 (y : MethodName) (hy : y.cls = RX10) (hn : y.name = "<init>") : tb_fldW y 15 10 1 0 := ⟨RX12, TX12, 7, "TreesBeforeMen$Words", rfl, Nat.le_of_ble_eq_true rfl, rfl, by rw [hy]; exact q389, Or.inl rfl, Or.inr ⟨rfl, hn, hy.symm⟩⟩
theorem wX10_15_11 (y : MethodName) (hy : y.cls = RX10) (hn : y.name = "<init>") : tb_fldW y 15 11 1 0 := ⟨RX13, TX13, 8, "TreesBeforeMen$Words", rfl, Nat.le_of_ble_eq_true rfl, rfl, by rw [hy]; exact q389, Or.inl rfl, Or.inr ⟨rfl, hn, hy.symm⟩⟩
theorem wX10_25_8 (y : MethodName) (hy : y.cls = RX10) (hn : y.name = "<init>") : tb_fldW y 25 8 2 0 := ⟨RX10, TX10, 4, "TreesBeforeMen$Words", rfl, Nat.le_of_ble_eq_true rfl, rfl, by rw [hy]; exact q391, Or.inl rfl, Or.inr ⟨rfl, hn, hy.symm⟩⟩
theorem wX10_25_10 (y : MethodName) (hy : y.cls = RX10) (hn : y.name = "<init>") : tb_fldW y 25 10 2 0 := ⟨RX12, TX12, 7, "TreesBeforeMen$Words", rfl, Nat.le_of_ble_eq_true rfl, rfl, by rw [hy]; exact q391, Or.inl rfl, Or.inr ⟨rfl, hn, hy.symm⟩⟩
theorem wX10_25_11 (y : MethodName) (hy : y.cls = RX10) (hn : y.name = "<init>") : tb_fldW y 25 11 2 0 := ⟨RX13, TX13, 8, "TreesBeforeMen$Words", rfl, Nat.le_of_ble_eq_true rfl, rfl, by rw [hy]; exact q391, Or.inl rfl, Or.inr ⟨rfl, hn, hy.symm⟩⟩
theorem fX10_28_8 : tb_fld RX10 28 8 3 0 := ⟨RX10, TX10, 4, rfl, Nat.le_of_ble_eq_true rfl, rfl, Or.inl ⟨"TreesBeforeMen$Words", q394, Or.inl rfl⟩⟩
theorem fX10_28_10 : tb_fld RX10 28 10 3 0 := ⟨RX12, TX12, 7, rfl, Nat.le_of_ble_eq_true rfl, rfl, Or.inl ⟨"TreesBeforeMen$Words", q394, Or.inl rfl⟩⟩
theorem fX10_28_11 : tb_fld RX10 28 11 3 0 := ⟨RX13, TX13, 8, rfl, Nat.le_of_ble_eq_true rfl, rfl, Or.inl ⟨"TreesBeforeMen$Words", q394, Or.inl rfl⟩⟩
theorem wX10_28_8 (y : MethodName) (hy : y.cls = RX10) : tb_fldW y 28 8 3 0 := ⟨RX10, TX10, 4, "TreesBeforeMen$Words", rfl, Nat.le_of_ble_eq_true rfl, rfl, by rw [hy]; exact q394, Or.inl rfl, Or.inl rfl⟩
theorem wX10_28_10 (y : MethodName) (hy : y.cls = RX10) : tb_fldW y 28 10 3 0 := ⟨RX12, TX12, 7, "TreesBeforeMen$Words", rfl, Nat.le_of_ble_eq_true rfl, rfl, by rw [hy]; exact q394, Or.inl rfl, Or.inl rfl⟩
theorem wX10_28_11 (y : MethodName) (hy : y.cls = RX10) : tb_fldW y 28 11 3 0 := ⟨RX13, TX13, 8, "TreesBeforeMen$Words", rfl, Nat.le_of_ble_eq_true rfl, rfl, by rw [hy]; exact q394, Or.inl rfl, Or.inl rfl⟩
theorem fX10_9_8 : tb_fld RX10 9 8 0 2 := ⟨RX10, TX10, 4, rfl, Nat.le_of_ble_eq_true rfl, rfl, Or.inl ⟨"TreesBeforeMen$Words", q388, Or.inl rfl⟩⟩
theorem fX10_9_10 : tb_fld RX10 9 10 0 2 := ⟨RX12, TX12, 7, rfl, Nat.le_of_ble_eq_true rfl, rfl, Or.inl ⟨"TreesBeforeMen$Words", q388, Or.inl rfl⟩⟩
theorem fX10_9_11 : tb_fld RX10 9 11 0 2 := ⟨RX13, TX13, 8, rfl, Nat.le_of_ble_eq_true rfl, rfl, Or.inl ⟨"TreesBeforeMen$Words", q388, Or.inl rfl⟩⟩
theorem fX10_25_8 : tb_fld RX10 25 8 2 0 := ⟨RX10, TX10, 4, rfl, Nat.le_of_ble_eq_true rfl, rfl, Or.inl ⟨"TreesBeforeMen$Words", q391, Or.inl rfl⟩⟩
theorem fX10_25_10 : tb_fld RX10 25 10 2 0 := ⟨RX12, TX12, 7, rfl, Nat.le_of_ble_eq_true rfl, rfl, Or.inl ⟨"TreesBeforeMen$Words", q391, Or.inl rfl⟩⟩
theorem fX10_25_11 : tb_fld RX10 25 11 2 0 := ⟨RX13, TX13, 8, rfl, Nat.le_of_ble_eq_true rfl, rfl, Or.inl ⟨"TreesBeforeMen$Words", q391, Or.inl rfl⟩⟩
theorem fX10_15_8 : tb_fld RX10 15 8 1 0 := ⟨RX10, TX10, 4, rfl, Nat.le_of_ble_eq_true rfl, rfl, Or.inl ⟨"TreesBeforeMen$Words", q389, Or.inl rfl⟩⟩
theorem fX10_15_10 : tb_fld RX10 15 10 1 0 := ⟨RX12, TX12, 7, rfl, Nat.le_of_ble_eq_true rfl, rfl, Or.inl ⟨"TreesBeforeMen$Words", q389, Or.inl rfl⟩⟩
theorem fX10_15_11 : tb_fld RX10 15 11 1 0 := ⟨RX13, TX13, 8, rfl, Nat.le_of_ble_eq_true rfl, rfl, Or.inl ⟨"TreesBeforeMen$Words", q389, Or.inl rfl⟩⟩
theorem wX11_7_9 (y : MethodName) (hy : y.cls = RX11) (hn : y.name = "<init>") : tb_fldW y 7 9 6 0 := ⟨RX11, TX11, 7, "TreesBeforeMen$Fault", rfl, Nat.le_of_ble_eq_true rfl, rfl, by rw [hy]; exact q464, Or.inl rfl, Or.inr ⟨rfl, hn, hy.symm⟩⟩
theorem wX12_3_10 (y : MethodName) (hy : y.cls = RX12) (hn : y.name = "<init>") : tb_fldW y 3 10 6 2 := ⟨RX12, TX12, 7, "TreesBeforeMen$Rule", rfl, Nat.le_of_ble_eq_true rfl, rfl, by rw [hy]; exact q552, Or.inl rfl, Or.inr ⟨rfl, hn, hy.symm⟩⟩
theorem fX12_31_10 : tb_fld RX12 31 10 3 0 := ⟨RX12, TX12, 7, rfl, Nat.le_of_ble_eq_true rfl, rfl, Or.inl ⟨"TreesBeforeMen$Rule", q397, Or.inr q398⟩⟩
theorem wX12_31_10 (y : MethodName) (hy : y.cls = RX12) : tb_fldW y 31 10 3 0 := ⟨RX12, TX12, 7, "TreesBeforeMen$Rule", rfl, Nat.le_of_ble_eq_true rfl, rfl, by rw [hy]; exact q397, Or.inr q398, Or.inl rfl⟩
theorem fX12_23_10 : tb_fld RX12 23 10 4 2 := ⟨RX12, TX12, 7, rfl, Nat.le_of_ble_eq_true rfl, rfl, Or.inl ⟨"TreesBeforeMen$Rule", q550, Or.inl rfl⟩⟩
theorem fX12_78_6 : tb_fld RX12 78 6 3 0 := ⟨RX8, TX8, 7, rfl, Nat.le_of_ble_eq_true rfl, rfl, Or.inl ⟨"TreesBeforeMen$Voyage", q204, Or.inl rfl⟩⟩
theorem fX12_27_10 : tb_fld RX12 27 10 5 0 := ⟨RX12, TX12, 7, rfl, Nat.le_of_ble_eq_true rfl, rfl, Or.inl ⟨"TreesBeforeMen$Rule", q551, Or.inl rfl⟩⟩
theorem fX12_3_10 : tb_fld RX12 3 10 6 2 := ⟨RX12, TX12, 7, rfl, Nat.le_of_ble_eq_true rfl, rfl, Or.inl ⟨"TreesBeforeMen$Rule", q552, Or.inl rfl⟩⟩
theorem fX12_83_6 : tb_fld RX12 83 6 6 0 := ⟨RX8, TX8, 7, rfl, Nat.le_of_ble_eq_true rfl, rfl, Or.inl ⟨"TreesBeforeMen$Voyage", q211, Or.inl rfl⟩⟩
theorem wX12_23_10 (y : MethodName) (hy : y.cls = RX12) : tb_fldW y 23 10 4 2 := ⟨RX12, TX12, 7, "TreesBeforeMen$Rule", rfl, Nat.le_of_ble_eq_true rfl, rfl, by rw [hy]; exact q550, Or.inl rfl, Or.inl rfl⟩
theorem wX12_27_10 (y : MethodName) (hy : y.cls = RX12) : tb_fldW y 27 10 5 0 := ⟨RX12, TX12, 7, "TreesBeforeMen$Rule", rfl, Nat.le_of_ble_eq_true rfl, rfl, by rw [hy]; exact q551, Or.inl rfl, Or.inl rfl⟩
theorem wX13_9_11 (y : MethodName) (hy : y.cls = RX13) (hn : y.name = "<init>") : tb_fldW y 9 11 4 2 := ⟨RX13, TX13, 8, "TreesBeforeMen$Order", rfl, Nat.le_of_ble_eq_true rfl, rfl, by rw [hy]; exact q923, Or.inl rfl, Or.inr ⟨rfl, hn, hy.symm⟩⟩
theorem wX13_15_11 (y : MethodName) (hy : y.cls = RX13) (hn : y.name = "<init>") : tb_fldW y 15 11 5 2 := ⟨RX13, TX13, 8, "TreesBeforeMen$Order", rfl, Nat.le_of_ble_eq_true rfl, rfl, by rw [hy]; exact q925, Or.inl rfl, Or.inr ⟨rfl, hn, hy.symm⟩⟩
theorem wX13_19_11 (y : MethodName) (hy : y.cls = RX13) (hn : y.name = "<init>") : tb_fldW y 19 11 6 2 := ⟨RX13, TX13, 8, "TreesBeforeMen$Order", rfl, Nat.le_of_ble_eq_true rfl, rfl, by rw [hy]; exact q927, Or.inl rfl, Or.inr ⟨rfl, hn, hy.symm⟩⟩
theorem fX13_22_11 : tb_fld RX13 22 11 3 0 := ⟨RX13, TX13, 8, rfl, Nat.le_of_ble_eq_true rfl, rfl, Or.inl ⟨"TreesBeforeMen$Order", q395, Or.inr q396⟩⟩
theorem fX13_26_11 : tb_fld RX13 26 11 2 0 := ⟨RX13, TX13, 8, rfl, Nat.le_of_ble_eq_true rfl, rfl, Or.inl ⟨"TreesBeforeMen$Order", q392, Or.inr q393⟩⟩
theorem fX13_33_11 : tb_fld RX13 33 11 7 0 := ⟨RX13, TX13, 8, rfl, Nat.le_of_ble_eq_true rfl, rfl, Or.inl ⟨"TreesBeforeMen$Order", q929, Or.inl rfl⟩⟩
theorem wX13_33_11 (y : MethodName) (hy : y.cls = RX13) : tb_fldW y 33 11 7 0 := ⟨RX13, TX13, 8, "TreesBeforeMen$Order", rfl, Nat.le_of_ble_eq_true rfl, rfl, by rw [hy]; exact q929, Or.inl rfl, Or.inl rfl⟩
theorem wX13_22_11 (y : MethodName) (hy : y.cls = RX13) : tb_fldW y 22 11 3 0 := ⟨RX13, TX13, 8, "TreesBeforeMen$Order", rfl, Nat.le_of_ble_eq_true rfl, rfl, by rw [hy]; exact q395, Or.inr q396, Or.inl rfl⟩
theorem fX13_9_11 : tb_fld RX13 9 11 4 2 := ⟨RX13, TX13, 8, rfl, Nat.le_of_ble_eq_true rfl, rfl, Or.inl ⟨"TreesBeforeMen$Order", q923, Or.inl rfl⟩⟩
theorem fX13_15_11 : tb_fld RX13 15 11 5 2 := ⟨RX13, TX13, 8, rfl, Nat.le_of_ble_eq_true rfl, rfl, Or.inl ⟨"TreesBeforeMen$Order", q925, Or.inl rfl⟩⟩
theorem fX13_19_11 : tb_fld RX13 19 11 6 2 := ⟨RX13, TX13, 8, rfl, Nat.le_of_ble_eq_true rfl, rfl, Or.inl ⟨"TreesBeforeMen$Order", q927, Or.inl rfl⟩⟩
theorem wX14_1_12 (y : MethodName) (hy : y.cls = RX14) (hn : y.name = "<init>") : tb_fldW y 1 12 2 2 := ⟨RX14, TX14, 3, "TreesBeforeMen$Page", rfl, Nat.le_of_ble_eq_true rfl, rfl, by rw [hy]; exact q1168, Or.inl rfl, Or.inr ⟨rfl, hn, hy.symm⟩⟩
theorem wX14_16_12 (y : MethodName) (hy : y.cls = RX14) (hn : y.name = "<init>") : tb_fldW y 16 12 0 2 := ⟨RX14, TX14, 3, "TreesBeforeMen$Page", rfl, Nat.le_of_ble_eq_true rfl, rfl, by rw [hy]; exact q1164, Or.inl rfl, Or.inr ⟨rfl, hn, hy.symm⟩⟩
theorem fX14_1_12 : tb_fld RX14 1 12 2 2 := ⟨RX14, TX14, 3, rfl, Nat.le_of_ble_eq_true rfl, rfl, Or.inl ⟨"TreesBeforeMen$Page", q1168, Or.inl rfl⟩⟩
theorem fX14_20_0 : tb_fld RX14 20 0 21 0 := ⟨RX1, TX1, 40, rfl, Nat.le_of_ble_eq_true rfl, rfl, Or.inr ⟨"TreesBeforeMen", tbn256⟩⟩
theorem wX14_26_12 (y : MethodName) (hy : y.cls = RX14) (hn : y.name = "<init>") : tb_fldW y 26 12 1 0 := ⟨RX14, TX14, 3, "TreesBeforeMen$Page", rfl, Nat.le_of_ble_eq_true rfl, rfl, by rw [hy]; exact q1166, Or.inl rfl, Or.inr ⟨rfl, hn, hy.symm⟩⟩
theorem fX14_16_12 : tb_fld RX14 16 12 0 2 := ⟨RX14, TX14, 3, rfl, Nat.le_of_ble_eq_true rfl, rfl, Or.inl ⟨"TreesBeforeMen$Page", q1164, Or.inl rfl⟩⟩
theorem fX14_29_0 : tb_fld RX14 29 0 5 2 := ⟨RX1, TX1, 40, rfl, Nat.le_of_ble_eq_true rfl, rfl, Or.inr ⟨"TreesBeforeMen", tbn237⟩⟩
theorem wX2_1_1 (y : MethodName) (hy : y.cls = RX2) (hn : y.name = "<init>") : tb_fldW y 1 1 0 2 := ⟨RX3, TX3, 2, "TreesBeforeMen$Kind", rfl, Nat.le_of_ble_eq_true rfl, rfl, by rw [hy]; exact q137, Or.inl rfl, Or.inr ⟨rfl, hn, hy.symm⟩⟩
theorem wX2_1_2 (y : MethodName) (hy : y.cls = RX2) (hn : y.name = "<init>") : tb_fldW y 1 2 0 2 := ⟨RX4, TX4, 2, "TreesBeforeMen$Kind", rfl, Nat.le_of_ble_eq_true rfl, rfl, by rw [hy]; exact q137, Or.inl rfl, Or.inr ⟨rfl, hn, hy.symm⟩⟩
theorem wX2_1_3 (y : MethodName) (hy : y.cls = RX2) (hn : y.name = "<init>") : tb_fldW y 1 3 0 2 := ⟨RX5, TX5, 2, "TreesBeforeMen$Kind", rfl, Nat.le_of_ble_eq_true rfl, rfl, by rw [hy]; exact q137, Or.inl rfl, Or.inr ⟨rfl, hn, hy.symm⟩⟩
theorem wX2_1_4 (y : MethodName) (hy : y.cls = RX2) (hn : y.name = "<init>") : tb_fldW y 1 4 0 2 := ⟨RX6, TX6, 3, "TreesBeforeMen$Kind", rfl, Nat.le_of_ble_eq_true rfl, rfl, by rw [hy]; exact q137, Or.inl rfl, Or.inr ⟨rfl, hn, hy.symm⟩⟩
theorem wX2_1_5 (y : MethodName) (hy : y.cls = RX2) (hn : y.name = "<init>") : tb_fldW y 1 5 0 2 := ⟨RX7, TX7, 3, "TreesBeforeMen$Kind", rfl, Nat.le_of_ble_eq_true rfl, rfl, by rw [hy]; exact q137, Or.inl rfl, Or.inr ⟨rfl, hn, hy.symm⟩⟩
theorem fX2_1_1 : tb_fld RX2 1 1 0 2 := ⟨RX3, TX3, 2, rfl, Nat.le_of_ble_eq_true rfl, rfl, Or.inl ⟨"TreesBeforeMen$Kind", q137, Or.inl rfl⟩⟩
theorem fX2_1_2 : tb_fld RX2 1 2 0 2 := ⟨RX4, TX4, 2, rfl, Nat.le_of_ble_eq_true rfl, rfl, Or.inl ⟨"TreesBeforeMen$Kind", q137, Or.inl rfl⟩⟩
theorem fX2_1_3 : tb_fld RX2 1 3 0 2 := ⟨RX5, TX5, 2, rfl, Nat.le_of_ble_eq_true rfl, rfl, Or.inl ⟨"TreesBeforeMen$Kind", q137, Or.inl rfl⟩⟩
theorem fX2_1_4 : tb_fld RX2 1 4 0 2 := ⟨RX6, TX6, 3, rfl, Nat.le_of_ble_eq_true rfl, rfl, Or.inl ⟨"TreesBeforeMen$Kind", q137, Or.inl rfl⟩⟩
theorem fX2_1_5 : tb_fld RX2 1 5 0 2 := ⟨RX7, TX7, 3, rfl, Nat.le_of_ble_eq_true rfl, rfl, Or.inl ⟨"TreesBeforeMen$Kind", q137, Or.inl rfl⟩⟩
theorem fX2_13_0 : tb_fld RX2 13 0 12 2 := ⟨RX1, TX1, 40, rfl, Nat.le_of_ble_eq_true rfl, rfl, Or.inr ⟨"TreesBeforeMen", tbn246⟩⟩
theorem wX3_1_1 (y : MethodName) (hy : y.cls = RX3) (hn : y.name = "<init>") : tb_fldW y 1 1 1 2 := ⟨RX3, TX3, 2, "TreesBeforeMen$Plain", rfl, Nat.le_of_ble_eq_true rfl, rfl, by rw [hy]; exact q136, Or.inl rfl, Or.inr ⟨rfl, hn, hy.symm⟩⟩
theorem wX3_1_4 (y : MethodName) (hy : y.cls = RX3) (hn : y.name = "<init>") : tb_fldW y 1 4 1 2 := ⟨RX6, TX6, 3, "TreesBeforeMen$Plain", rfl, Nat.le_of_ble_eq_true rfl, rfl, by rw [hy]; exact q136, Or.inl rfl, Or.inr ⟨rfl, hn, hy.symm⟩⟩
theorem wX3_1_5 (y : MethodName) (hy : y.cls = RX3) (hn : y.name = "<init>") : tb_fldW y 1 5 1 2 := ⟨RX7, TX7, 3, "TreesBeforeMen$Plain", rfl, Nat.le_of_ble_eq_true rfl, rfl, by rw [hy]; exact q136, Or.inl rfl, Or.inr ⟨rfl, hn, hy.symm⟩⟩
theorem fX3_13_6 : tb_fld RX3 13 6 0 2 := ⟨RX8, TX8, 7, rfl, Nat.le_of_ble_eq_true rfl, rfl, Or.inl ⟨"TreesBeforeMen$Voyage", q196, Or.inl rfl⟩⟩
theorem fX3_1_1 : tb_fld RX3 1 1 1 2 := ⟨RX3, TX3, 2, rfl, Nat.le_of_ble_eq_true rfl, rfl, Or.inl ⟨"TreesBeforeMen$Plain", q136, Or.inl rfl⟩⟩
theorem fX3_1_4 : tb_fld RX3 1 4 1 2 := ⟨RX6, TX6, 3, rfl, Nat.le_of_ble_eq_true rfl, rfl, Or.inl ⟨"TreesBeforeMen$Plain", q136, Or.inl rfl⟩⟩
theorem fX3_1_5 : tb_fld RX3 1 5 1 2 := ⟨RX7, TX7, 3, rfl, Nat.le_of_ble_eq_true rfl, rfl, Or.inl ⟨"TreesBeforeMen$Plain", q136, Or.inl rfl⟩⟩
theorem fX3_19_0 : tb_fld RX3 19 0 11 2 := ⟨RX1, TX1, 40, rfl, Nat.le_of_ble_eq_true rfl, rfl, Or.inr ⟨"TreesBeforeMen", tbn244⟩⟩
theorem wX4_1_2 (y : MethodName) (hy : y.cls = RX4) (hn : y.name = "<init>") : tb_fldW y 1 2 1 2 := ⟨RX4, TX4, 2, "TreesBeforeMen$Forced", rfl, Nat.le_of_ble_eq_true rfl, rfl, by rw [hy]; exact q149, Or.inl rfl, Or.inr ⟨rfl, hn, hy.symm⟩⟩
theorem wX5_1_3 (y : MethodName) (hy : y.cls = RX5) (hn : y.name = "<init>") : tb_fldW y 1 3 1 2 := ⟨RX5, TX5, 2, "TreesBeforeMen$Asleep", rfl, Nat.le_of_ble_eq_true rfl, rfl, by rw [hy]; exact q160, Or.inl rfl, Or.inr ⟨rfl, hn, hy.symm⟩⟩
theorem wX6_1_4 (y : MethodName) (hy : y.cls = RX6) (hn : y.name = "<init>") : tb_fldW y 1 4 2 2 := ⟨RX6, TX6, 3, "TreesBeforeMen$Friend", rfl, Nat.le_of_ble_eq_true rfl, rfl, by rw [hy]; exact q171, Or.inl rfl, Or.inr ⟨rfl, hn, hy.symm⟩⟩
theorem wX7_1_5 (y : MethodName) (hy : y.cls = RX7) (hn : y.name = "<init>") : tb_fldW y 1 5 2 2 := ⟨RX7, TX7, 3, "TreesBeforeMen$Botanist", rfl, Nat.le_of_ble_eq_true rfl, rfl, by rw [hy]; exact q183, Or.inl rfl, Or.inr ⟨rfl, hn, hy.symm⟩⟩
theorem fX7_13_6 : tb_fld RX7 13 6 3 0 := ⟨RX8, TX8, 7, rfl, Nat.le_of_ble_eq_true rfl, rfl, Or.inl ⟨"TreesBeforeMen$Voyage", q203, Or.inl rfl⟩⟩
theorem wX8_9_6 (y : MethodName) (hy : y.cls = RX8) (hn : y.name = "<init>") : tb_fldW y 9 6 0 2 := ⟨RX8, TX8, 7, "TreesBeforeMen$Voyage", rfl, Nat.le_of_ble_eq_true rfl, rfl, by rw [hy]; exact q195, Or.inl rfl, Or.inr ⟨rfl, hn, hy.symm⟩⟩
theorem wX8_15_6 (y : MethodName) (hy : y.cls = RX8) (hn : y.name = "<init>") : tb_fldW y 15 6 1 2 := ⟨RX8, TX8, 7, "TreesBeforeMen$Voyage", rfl, Nat.le_of_ble_eq_true rfl, rfl, by rw [hy]; exact q198, Or.inl rfl, Or.inr ⟨rfl, hn, hy.symm⟩⟩
theorem wX8_18_6 (y : MethodName) (hy : y.cls = RX8) : tb_fldW y 18 6 2 0 := ⟨RX8, TX8, 7, "TreesBeforeMen$Voyage", rfl, Nat.le_of_ble_eq_true rfl, rfl, by rw [hy]; exact q200, Or.inl rfl, Or.inl rfl⟩
theorem wX8_22_6 (y : MethodName) (hy : y.cls = RX8) : tb_fldW y 22 6 3 0 := ⟨RX8, TX8, 7, "TreesBeforeMen$Voyage", rfl, Nat.le_of_ble_eq_true rfl, rfl, by rw [hy]; exact q202, Or.inl rfl, Or.inl rfl⟩
theorem wX8_25_6 (y : MethodName) (hy : y.cls = RX8) : tb_fldW y 25 6 4 0 := ⟨RX8, TX8, 7, "TreesBeforeMen$Voyage", rfl, Nat.le_of_ble_eq_true rfl, rfl, by rw [hy]; exact q206, Or.inl rfl, Or.inl rfl⟩
theorem wX8_28_6 (y : MethodName) (hy : y.cls = RX8) : tb_fldW y 28 6 5 0 := ⟨RX8, TX8, 7, "TreesBeforeMen$Voyage", rfl, Nat.le_of_ble_eq_true rfl, rfl, by rw [hy]; exact q208, Or.inl rfl, Or.inl rfl⟩
theorem fX8_9_6 : tb_fld RX8 9 6 0 2 := ⟨RX8, TX8, 7, rfl, Nat.le_of_ble_eq_true rfl, rfl, Or.inl ⟨"TreesBeforeMen$Voyage", q195, Or.inl rfl⟩⟩
theorem fX8_15_6 : tb_fld RX8 15 6 1 2 := ⟨RX8, TX8, 7, rfl, Nat.le_of_ble_eq_true rfl, rfl, Or.inl ⟨"TreesBeforeMen$Voyage", q198, Or.inl rfl⟩⟩
theorem fX8_18_6 : tb_fld RX8 18 6 2 0 := ⟨RX8, TX8, 7, rfl, Nat.le_of_ble_eq_true rfl, rfl, Or.inl ⟨"TreesBeforeMen$Voyage", q200, Or.inl rfl⟩⟩
theorem fX8_22_6 : tb_fld RX8 22 6 3 0 := ⟨RX8, TX8, 7, rfl, Nat.le_of_ble_eq_true rfl, rfl, Or.inl ⟨"TreesBeforeMen$Voyage", q202, Or.inl rfl⟩⟩
theorem fX8_25_6 : tb_fld RX8 25 6 4 0 := ⟨RX8, TX8, 7, rfl, Nat.le_of_ble_eq_true rfl, rfl, Or.inl ⟨"TreesBeforeMen$Voyage", q206, Or.inl rfl⟩⟩
theorem fX8_28_6 : tb_fld RX8 28 6 5 0 := ⟨RX8, TX8, 7, rfl, Nat.le_of_ble_eq_true rfl, rfl, Or.inl ⟨"TreesBeforeMen$Voyage", q208, Or.inl rfl⟩⟩
theorem fX8_37_6 : tb_fld RX8 37 6 6 0 := ⟨RX8, TX8, 7, rfl, Nat.le_of_ble_eq_true rfl, rfl, Or.inl ⟨"TreesBeforeMen$Voyage", q210, Or.inl rfl⟩⟩
theorem wX8_37_6 (y : MethodName) (hy : y.cls = RX8) : tb_fldW y 37 6 6 0 := ⟨RX8, TX8, 7, "TreesBeforeMen$Voyage", rfl, Nat.le_of_ble_eq_true rfl, rfl, by rw [hy]; exact q210, Or.inl rfl, Or.inl rfl⟩
theorem wX9_9_7 (y : MethodName) (hy : y.cls = RX9) (hn : y.name = "<init>") : tb_fldW y 9 7 2 2 := ⟨RX9, TX9, 53, "TreesBeforeMenModel", rfl, Nat.le_of_ble_eq_true rfl, rfl, by rw [hy]; exact q1232, Or.inl rfl, Or.inr ⟨rfl, hn, hy.symm⟩⟩
theorem wX9_13_7 (y : MethodName) (hy : y.cls = RX9) : tb_fldW y 13 7 6 0 := ⟨RX9, TX9, 53, "TreesBeforeMenModel", rfl, Nat.le_of_ble_eq_true rfl, rfl, by rw [hy]; exact q1236, Or.inl rfl, Or.inl rfl⟩
theorem wX9_17_7 (y : MethodName) (hy : y.cls = RX9) (hn : y.name = "<init>") : tb_fldW y 17 7 7 2 := ⟨RX9, TX9, 53, "TreesBeforeMenModel", rfl, Nat.le_of_ble_eq_true rfl, rfl, by rw [hy]; exact q1237, Or.inl rfl, Or.inr ⟨rfl, hn, hy.symm⟩⟩
theorem wX9_21_7 (y : MethodName) (hy : y.cls = RX9) (hn : y.name = "<init>") : tb_fldW y 21 7 8 2 := ⟨RX9, TX9, 53, "TreesBeforeMenModel", rfl, Nat.le_of_ble_eq_true rfl, rfl, by rw [hy]; exact q1238, Or.inl rfl, Or.inr ⟨rfl, hn, hy.symm⟩⟩
theorem wX9_24_7 (y : MethodName) (hy : y.cls = RX9) (hn : y.name = "<init>") : tb_fldW y 24 7 9 2 := ⟨RX9, TX9, 53, "TreesBeforeMenModel", rfl, Nat.le_of_ble_eq_true rfl, rfl, by rw [hy]; exact q1239, Or.inl rfl, Or.inr ⟨rfl, hn, hy.symm⟩⟩
theorem wX9_27_7 (y : MethodName) (hy : y.cls = RX9) (hn : y.name = "<init>") : tb_fldW y 27 7 10 2 := ⟨RX9, TX9, 53, "TreesBeforeMenModel", rfl, Nat.le_of_ble_eq_true rfl, rfl, by rw [hy]; exact q1240, Or.inl rfl, Or.inr ⟨rfl, hn, hy.symm⟩⟩
theorem wX9_30_7 (y : MethodName) (hy : y.cls = RX9) (hn : y.name = "<init>") : tb_fldW y 30 7 11 2 := ⟨RX9, TX9, 53, "TreesBeforeMenModel", rfl, Nat.le_of_ble_eq_true rfl, rfl, by rw [hy]; exact q1241, Or.inl rfl, Or.inr ⟨rfl, hn, hy.symm⟩⟩
theorem wX9_33_7 (y : MethodName) (hy : y.cls = RX9) (hn : y.name = "<init>") : tb_fldW y 33 7 12 2 := ⟨RX9, TX9, 53, "TreesBeforeMenModel", rfl, Nat.le_of_ble_eq_true rfl, rfl, by rw [hy]; exact q1242, Or.inl rfl, Or.inr ⟨rfl, hn, hy.symm⟩⟩
theorem wX9_36_7 (y : MethodName) (hy : y.cls = RX9) (hn : y.name = "<init>") : tb_fldW y 36 7 13 2 := ⟨RX9, TX9, 53, "TreesBeforeMenModel", rfl, Nat.le_of_ble_eq_true rfl, rfl, by rw [hy]; exact q1243, Or.inl rfl, Or.inr ⟨rfl, hn, hy.symm⟩⟩
theorem wX9_39_7 (y : MethodName) (hy : y.cls = RX9) (hn : y.name = "<init>") : tb_fldW y 39 7 14 2 := ⟨RX9, TX9, 53, "TreesBeforeMenModel", rfl, Nat.le_of_ble_eq_true rfl, rfl, by rw [hy]; exact q1244, Or.inl rfl, Or.inr ⟨rfl, hn, hy.symm⟩⟩
theorem wX9_42_7 (y : MethodName) (hy : y.cls = RX9) (hn : y.name = "<init>") : tb_fldW y 42 7 15 2 := ⟨RX9, TX9, 53, "TreesBeforeMenModel", rfl, Nat.le_of_ble_eq_true rfl, rfl, by rw [hy]; exact q1245, Or.inl rfl, Or.inr ⟨rfl, hn, hy.symm⟩⟩
theorem wX9_45_7 (y : MethodName) (hy : y.cls = RX9) (hn : y.name = "<init>") : tb_fldW y 45 7 16 2 := ⟨RX9, TX9, 53, "TreesBeforeMenModel", rfl, Nat.le_of_ble_eq_true rfl, rfl, by rw [hy]; exact q1246, Or.inl rfl, Or.inr ⟨rfl, hn, hy.symm⟩⟩
theorem wX9_48_7 (y : MethodName) (hy : y.cls = RX9) (hn : y.name = "<init>") : tb_fldW y 48 7 21 2 := ⟨RX9, TX9, 53, "TreesBeforeMenModel", rfl, Nat.le_of_ble_eq_true rfl, rfl, by rw [hy]; exact q1251, Or.inl rfl, Or.inr ⟨rfl, hn, hy.symm⟩⟩
theorem wX9_51_7 (y : MethodName) (hy : y.cls = RX9) (hn : y.name = "<init>") : tb_fldW y 51 7 23 2 := ⟨RX9, TX9, 53, "TreesBeforeMenModel", rfl, Nat.le_of_ble_eq_true rfl, rfl, by rw [hy]; exact q1253, Or.inl rfl, Or.inr ⟨rfl, hn, hy.symm⟩⟩
theorem wX9_54_7 (y : MethodName) (hy : y.cls = RX9) (hn : y.name = "<init>") : tb_fldW y 54 7 24 2 := ⟨RX9, TX9, 53, "TreesBeforeMenModel", rfl, Nat.le_of_ble_eq_true rfl, rfl, by rw [hy]; exact q1254, Or.inl rfl, Or.inr ⟨rfl, hn, hy.symm⟩⟩
theorem wX9_57_7 (y : MethodName) (hy : y.cls = RX9) (hn : y.name = "<init>") : tb_fldW y 57 7 25 2 := ⟨RX9, TX9, 53, "TreesBeforeMenModel", rfl, Nat.le_of_ble_eq_true rfl, rfl, by rw [hy]; exact q1255, Or.inl rfl, Or.inr ⟨rfl, hn, hy.symm⟩⟩
theorem wX9_60_7 (y : MethodName) (hy : y.cls = RX9) (hn : y.name = "<init>") : tb_fldW y 60 7 28 2 := ⟨RX9, TX9, 53, "TreesBeforeMenModel", rfl, Nat.le_of_ble_eq_true rfl, rfl, by rw [hy]; exact q1258, Or.inl rfl, Or.inr ⟨rfl, hn, hy.symm⟩⟩
theorem wX9_63_7 (y : MethodName) (hy : y.cls = RX9) (hn : y.name = "<init>") : tb_fldW y 63 7 29 2 := ⟨RX9, TX9, 53, "TreesBeforeMenModel", rfl, Nat.le_of_ble_eq_true rfl, rfl, by rw [hy]; exact q1259, Or.inl rfl, Or.inr ⟨rfl, hn, hy.symm⟩⟩
theorem wX9_66_7 (y : MethodName) (hy : y.cls = RX9) (hn : y.name = "<init>") : tb_fldW y 66 7 31 2 := ⟨RX9, TX9, 53, "TreesBeforeMenModel", rfl, Nat.le_of_ble_eq_true rfl, rfl, by rw [hy]; exact q1261, Or.inl rfl, Or.inr ⟨rfl, hn, hy.symm⟩⟩
theorem wX9_69_7 (y : MethodName) (hy : y.cls = RX9) (hn : y.name = "<init>") : tb_fldW y 69 7 33 2 := ⟨RX9, TX9, 53, "TreesBeforeMenModel", rfl, Nat.le_of_ble_eq_true rfl, rfl, by rw [hy]; exact q1263, Or.inl rfl, Or.inr ⟨rfl, hn, hy.symm⟩⟩
theorem wX9_72_7 (y : MethodName) (hy : y.cls = RX9) (hn : y.name = "<init>") : tb_fldW y 72 7 34 2 := ⟨RX9, TX9, 53, "TreesBeforeMenModel", rfl, Nat.le_of_ble_eq_true rfl, rfl, by rw [hy]; exact q1264, Or.inl rfl, Or.inr ⟨rfl, hn, hy.symm⟩⟩
theorem wX9_75_7 (y : MethodName) (hy : y.cls = RX9) (hn : y.name = "<init>") : tb_fldW y 75 7 35 2 := ⟨RX9, TX9, 53, "TreesBeforeMenModel", rfl, Nat.le_of_ble_eq_true rfl, rfl, by rw [hy]; exact q1265, Or.inl rfl, Or.inr ⟨rfl, hn, hy.symm⟩⟩
theorem wX9_78_7 (y : MethodName) (hy : y.cls = RX9) (hn : y.name = "<init>") : tb_fldW y 78 7 37 2 := ⟨RX9, TX9, 53, "TreesBeforeMenModel", rfl, Nat.le_of_ble_eq_true rfl, rfl, by rw [hy]; exact q1267, Or.inl rfl, Or.inr ⟨rfl, hn, hy.symm⟩⟩
theorem wX9_81_7 (y : MethodName) (hy : y.cls = RX9) (hn : y.name = "<init>") : tb_fldW y 81 7 38 2 := ⟨RX9, TX9, 53, "TreesBeforeMenModel", rfl, Nat.le_of_ble_eq_true rfl, rfl, by rw [hy]; exact q1268, Or.inl rfl, Or.inr ⟨rfl, hn, hy.symm⟩⟩
theorem wX9_84_7 (y : MethodName) (hy : y.cls = RX9) (hn : y.name = "<init>") : tb_fldW y 84 7 39 2 := ⟨RX9, TX9, 53, "TreesBeforeMenModel", rfl, Nat.le_of_ble_eq_true rfl, rfl, by rw [hy]; exact q1269, Or.inl rfl, Or.inr ⟨rfl, hn, hy.symm⟩⟩
theorem wX9_87_7 (y : MethodName) (hy : y.cls = RX9) (hn : y.name = "<init>") : tb_fldW y 87 7 40 2 := ⟨RX9, TX9, 53, "TreesBeforeMenModel", rfl, Nat.le_of_ble_eq_true rfl, rfl, by rw [hy]; exact q1270, Or.inl rfl, Or.inr ⟨rfl, hn, hy.symm⟩⟩
theorem wX9_90_7 (y : MethodName) (hy : y.cls = RX9) (hn : y.name = "<init>") : tb_fldW y 90 7 42 2 := ⟨RX9, TX9, 53, "TreesBeforeMenModel", rfl, Nat.le_of_ble_eq_true rfl, rfl, by rw [hy]; exact q1272, Or.inl rfl, Or.inr ⟨rfl, hn, hy.symm⟩⟩
theorem wX9_93_7 (y : MethodName) (hy : y.cls = RX9) (hn : y.name = "<init>") : tb_fldW y 93 7 45 2 := ⟨RX9, TX9, 53, "TreesBeforeMenModel", rfl, Nat.le_of_ble_eq_true rfl, rfl, by rw [hy]; exact q1275, Or.inl rfl, Or.inr ⟨rfl, hn, hy.symm⟩⟩
theorem wX9_96_7 (y : MethodName) (hy : y.cls = RX9) (hn : y.name = "<init>") : tb_fldW y 96 7 47 2 := ⟨RX9, TX9, 53, "TreesBeforeMenModel", rfl, Nat.le_of_ble_eq_true rfl, rfl, by rw [hy]; exact q1277, Or.inl rfl, Or.inr ⟨rfl, hn, hy.symm⟩⟩
theorem wX9_99_7 (y : MethodName) (hy : y.cls = RX9) (hn : y.name = "<init>") : tb_fldW y 99 7 48 2 := ⟨RX9, TX9, 53, "TreesBeforeMenModel", rfl, Nat.le_of_ble_eq_true rfl, rfl, by rw [hy]; exact q1278, Or.inl rfl, Or.inr ⟨rfl, hn, hy.symm⟩⟩
theorem wX9_102_7 (y : MethodName) (hy : y.cls = RX9) (hn : y.name = "<init>") : tb_fldW y 102 7 50 2 := ⟨RX9, TX9, 53, "TreesBeforeMenModel", rfl, Nat.le_of_ble_eq_true rfl, rfl, by rw [hy]; exact q1280, Or.inl rfl, Or.inr ⟨rfl, hn, hy.symm⟩⟩
theorem wX9_106_7 (y : MethodName) (hy : y.cls = RX9) (hn : y.name = "<init>") : tb_fldW y 106 7 51 2 := ⟨RX9, TX9, 53, "TreesBeforeMenModel", rfl, Nat.le_of_ble_eq_true rfl, rfl, by rw [hy]; exact q1281, Or.inl rfl, Or.inr ⟨rfl, hn, hy.symm⟩⟩
theorem wX9_109_7 (y : MethodName) (hy : y.cls = RX9) (hn : y.name = "<init>") : tb_fldW y 109 7 52 2 := ⟨RX9, TX9, 53, "TreesBeforeMenModel", rfl, Nat.le_of_ble_eq_true rfl, rfl, by rw [hy]; exact q1282, Or.inl rfl, Or.inr ⟨rfl, hn, hy.symm⟩⟩
theorem fX9_112_7 : tb_fld RX9 112 7 0 0 := ⟨RX9, TX9, 53, rfl, Nat.le_of_ble_eq_true rfl, rfl, Or.inl ⟨"TreesBeforeMenModel", q1230, Or.inl rfl⟩⟩
theorem wX9_112_7 (y : MethodName) (hy : y.cls = RX9) : tb_fldW y 112 7 0 0 := ⟨RX9, TX9, 53, "TreesBeforeMenModel", rfl, Nat.le_of_ble_eq_true rfl, rfl, by rw [hy]; exact q1230, Or.inl rfl, Or.inl rfl⟩
theorem fX9_136_7 : tb_fld RX9 136 7 17 0 := ⟨RX9, TX9, 53, rfl, Nat.le_of_ble_eq_true rfl, rfl, Or.inl ⟨"TreesBeforeMenModel", q1247, Or.inl rfl⟩⟩
theorem fX9_45_7 : tb_fld RX9 45 7 16 2 := ⟨RX9, TX9, 53, rfl, Nat.le_of_ble_eq_true rfl, rfl, Or.inl ⟨"TreesBeforeMenModel", q1246, Or.inl rfl⟩⟩
theorem wX9_136_7 (y : MethodName) (hy : y.cls = RX9) : tb_fldW y 136 7 17 0 := ⟨RX9, TX9, 53, "TreesBeforeMenModel", rfl, Nat.le_of_ble_eq_true rfl, rfl, by rw [hy]; exact q1247, Or.inl rfl, Or.inl rfl⟩
theorem wX9_180_7 (y : MethodName) (hy : y.cls = RX9) : tb_fldW y 180 7 22 0 := ⟨RX9, TX9, 53, "TreesBeforeMenModel", rfl, Nat.le_of_ble_eq_true rfl, rfl, by rw [hy]; exact q1252, Or.inl rfl, Or.inl rfl⟩
theorem fX9_180_7 : tb_fld RX9 180 7 22 0 := ⟨RX9, TX9, 53, rfl, Nat.le_of_ble_eq_true rfl, rfl, Or.inl ⟨"TreesBeforeMenModel", q1252, Or.inl rfl⟩⟩
theorem fX9_21_7 : tb_fld RX9 21 7 8 2 := ⟨RX9, TX9, 53, rfl, Nat.le_of_ble_eq_true rfl, rfl, Or.inl ⟨"TreesBeforeMenModel", q1238, Or.inl rfl⟩⟩
theorem fX9_126_7 : tb_fld RX9 126 7 3 0 := ⟨RX9, TX9, 53, rfl, Nat.le_of_ble_eq_true rfl, rfl, Or.inl ⟨"TreesBeforeMenModel", q1233, Or.inl rfl⟩⟩
theorem fX9_48_7 : tb_fld RX9 48 7 21 2 := ⟨RX9, TX9, 53, rfl, Nat.le_of_ble_eq_true rfl, rfl, Or.inl ⟨"TreesBeforeMenModel", q1251, Or.inl rfl⟩⟩
theorem fX9_24_7 : tb_fld RX9 24 7 9 2 := ⟨RX9, TX9, 53, rfl, Nat.le_of_ble_eq_true rfl, rfl, Or.inl ⟨"TreesBeforeMenModel", q1239, Or.inl rfl⟩⟩
theorem fX9_27_7 : tb_fld RX9 27 7 10 2 := ⟨RX9, TX9, 53, rfl, Nat.le_of_ble_eq_true rfl, rfl, Or.inl ⟨"TreesBeforeMenModel", q1240, Or.inl rfl⟩⟩
theorem fX9_39_7 : tb_fld RX9 39 7 14 2 := ⟨RX9, TX9, 53, rfl, Nat.le_of_ble_eq_true rfl, rfl, Or.inl ⟨"TreesBeforeMenModel", q1244, Or.inl rfl⟩⟩
theorem wX9_126_7 (y : MethodName) (hy : y.cls = RX9) : tb_fldW y 126 7 3 0 := ⟨RX9, TX9, 53, "TreesBeforeMenModel", rfl, Nat.le_of_ble_eq_true rfl, rfl, by rw [hy]; exact q1233, Or.inl rfl, Or.inl rfl⟩
theorem wX9_204_7 (y : MethodName) (hy : y.cls = RX9) : tb_fldW y 204 7 30 0 := ⟨RX9, TX9, 53, "TreesBeforeMenModel", rfl, Nat.le_of_ble_eq_true rfl, rfl, by rw [hy]; exact q1260, Or.inl rfl, Or.inl rfl⟩
theorem fX9_207_7 : tb_fld RX9 207 7 5 0 := ⟨RX9, TX9, 53, rfl, Nat.le_of_ble_eq_true rfl, rfl, Or.inl ⟨"TreesBeforeMenModel", q1235, Or.inl rfl⟩⟩
theorem wX9_207_7 (y : MethodName) (hy : y.cls = RX9) : tb_fldW y 207 7 5 0 := ⟨RX9, TX9, 53, "TreesBeforeMenModel", rfl, Nat.le_of_ble_eq_true rfl, rfl, by rw [hy]; exact q1235, Or.inl rfl, Or.inl rfl⟩
theorem wX9_139_7 (y : MethodName) (hy : y.cls = RX9) : tb_fldW y 139 7 18 0 := ⟨RX9, TX9, 53, "TreesBeforeMenModel", rfl, Nat.le_of_ble_eq_true rfl, rfl, by rw [hy]; exact q1248, Or.inl rfl, Or.inl rfl⟩
theorem wX9_142_7 (y : MethodName) (hy : y.cls = RX9) : tb_fldW y 142 7 20 0 := ⟨RX9, TX9, 53, "TreesBeforeMenModel", rfl, Nat.le_of_ble_eq_true rfl, rfl, by rw [hy]; exact q1250, Or.inl rfl, Or.inl rfl⟩
theorem wX9_151_7 (y : MethodName) (hy : y.cls = RX9) : tb_fldW y 151 7 19 0 := ⟨RX9, TX9, 53, "TreesBeforeMenModel", rfl, Nat.le_of_ble_eq_true rfl, rfl, by rw [hy]; exact q1249, Or.inl rfl, Or.inl rfl⟩
theorem fX9_139_7 : tb_fld RX9 139 7 18 0 := ⟨RX9, TX9, 53, rfl, Nat.le_of_ble_eq_true rfl, rfl, Or.inl ⟨"TreesBeforeMenModel", q1248, Or.inl rfl⟩⟩
theorem fX9_151_7 : tb_fld RX9 151 7 19 0 := ⟨RX9, TX9, 53, rfl, Nat.le_of_ble_eq_true rfl, rfl, Or.inl ⟨"TreesBeforeMenModel", q1249, Or.inl rfl⟩⟩
theorem fX9_51_7 : tb_fld RX9 51 7 23 2 := ⟨RX9, TX9, 53, rfl, Nat.le_of_ble_eq_true rfl, rfl, Or.inl ⟨"TreesBeforeMenModel", q1253, Or.inl rfl⟩⟩
theorem fX9_17_7 : tb_fld RX9 17 7 7 2 := ⟨RX9, TX9, 53, rfl, Nat.le_of_ble_eq_true rfl, rfl, Or.inl ⟨"TreesBeforeMenModel", q1237, Or.inl rfl⟩⟩
theorem fX9_30_7 : tb_fld RX9 30 7 11 2 := ⟨RX9, TX9, 53, rfl, Nat.le_of_ble_eq_true rfl, rfl, Or.inl ⟨"TreesBeforeMenModel", q1241, Or.inl rfl⟩⟩
theorem fX9_133_7 : tb_fld RX9 133 7 4 0 := ⟨RX9, TX9, 53, rfl, Nat.le_of_ble_eq_true rfl, rfl, Or.inl ⟨"TreesBeforeMenModel", q1234, Or.inl rfl⟩⟩
theorem fX9_33_7 : tb_fld RX9 33 7 12 2 := ⟨RX9, TX9, 53, rfl, Nat.le_of_ble_eq_true rfl, rfl, Or.inl ⟨"TreesBeforeMenModel", q1242, Or.inl rfl⟩⟩
theorem fX9_36_7 : tb_fld RX9 36 7 13 2 := ⟨RX9, TX9, 53, rfl, Nat.le_of_ble_eq_true rfl, rfl, Or.inl ⟨"TreesBeforeMenModel", q1243, Or.inl rfl⟩⟩
theorem wX9_133_7 (y : MethodName) (hy : y.cls = RX9) : tb_fldW y 133 7 4 0 := ⟨RX9, TX9, 53, "TreesBeforeMenModel", rfl, Nat.le_of_ble_eq_true rfl, rfl, by rw [hy]; exact q1234, Or.inl rfl, Or.inl rfl⟩
theorem fX9_57_7 : tb_fld RX9 57 7 25 2 := ⟨RX9, TX9, 53, rfl, Nat.le_of_ble_eq_true rfl, rfl, Or.inl ⟨"TreesBeforeMenModel", q1255, Or.inl rfl⟩⟩
theorem fX9_218_7 : tb_fld RX9 218 7 27 0 := ⟨RX9, TX9, 53, rfl, Nat.le_of_ble_eq_true rfl, rfl, Or.inl ⟨"TreesBeforeMenModel", q1257, Or.inl rfl⟩⟩
theorem wX9_218_7 (y : MethodName) (hy : y.cls = RX9) : tb_fldW y 218 7 27 0 := ⟨RX9, TX9, 53, "TreesBeforeMenModel", rfl, Nat.le_of_ble_eq_true rfl, rfl, by rw [hy]; exact q1257, Or.inl rfl, Or.inl rfl⟩
theorem fX9_142_7 : tb_fld RX9 142 7 20 0 := ⟨RX9, TX9, 53, rfl, Nat.le_of_ble_eq_true rfl, rfl, Or.inl ⟨"TreesBeforeMenModel", q1250, Or.inl rfl⟩⟩
theorem wX9_239_7 (y : MethodName) (hy : y.cls = RX9) : tb_fldW y 239 7 26 0 := ⟨RX9, TX9, 53, "TreesBeforeMenModel", rfl, Nat.le_of_ble_eq_true rfl, rfl, by rw [hy]; exact q1256, Or.inl rfl, Or.inl rfl⟩
theorem fX9_54_7 : tb_fld RX9 54 7 24 2 := ⟨RX9, TX9, 53, rfl, Nat.le_of_ble_eq_true rfl, rfl, Or.inl ⟨"TreesBeforeMenModel", q1254, Or.inl rfl⟩⟩
theorem fX9_409_7 : tb_fld RX9 409 7 44 0 := ⟨RX9, TX9, 53, rfl, Nat.le_of_ble_eq_true rfl, rfl, Or.inl ⟨"TreesBeforeMenModel", q1274, Or.inl rfl⟩⟩
theorem fX9_93_7 : tb_fld RX9 93 7 45 2 := ⟨RX9, TX9, 53, rfl, Nat.le_of_ble_eq_true rfl, rfl, Or.inl ⟨"TreesBeforeMenModel", q1275, Or.inl rfl⟩⟩
theorem fX9_204_7 : tb_fld RX9 204 7 30 0 := ⟨RX9, TX9, 53, rfl, Nat.le_of_ble_eq_true rfl, rfl, Or.inl ⟨"TreesBeforeMenModel", q1260, Or.inl rfl⟩⟩
theorem fX9_66_7 : tb_fld RX9 66 7 31 2 := ⟨RX9, TX9, 53, rfl, Nat.le_of_ble_eq_true rfl, rfl, Or.inl ⟨"TreesBeforeMenModel", q1261, Or.inl rfl⟩⟩
theorem wX9_119_7 (y : MethodName) (hy : y.cls = RX9) : tb_fldW y 119 7 1 0 := ⟨RX9, TX9, 53, "TreesBeforeMenModel", rfl, Nat.le_of_ble_eq_true rfl, rfl, by rw [hy]; exact q1231, Or.inl rfl, Or.inl rfl⟩
theorem fX9_13_7 : tb_fld RX9 13 7 6 0 := ⟨RX9, TX9, 53, rfl, Nat.le_of_ble_eq_true rfl, rfl, Or.inl ⟨"TreesBeforeMenModel", q1236, Or.inl rfl⟩⟩
theorem fX9_63_7 : tb_fld RX9 63 7 29 2 := ⟨RX9, TX9, 53, rfl, Nat.le_of_ble_eq_true rfl, rfl, Or.inl ⟨"TreesBeforeMenModel", q1259, Or.inl rfl⟩⟩
theorem fX9_239_7 : tb_fld RX9 239 7 26 0 := ⟨RX9, TX9, 53, rfl, Nat.le_of_ble_eq_true rfl, rfl, Or.inl ⟨"TreesBeforeMenModel", q1256, Or.inl rfl⟩⟩
theorem fX9_60_7 : tb_fld RX9 60 7 28 2 := ⟨RX9, TX9, 53, rfl, Nat.le_of_ble_eq_true rfl, rfl, Or.inl ⟨"TreesBeforeMenModel", q1258, Or.inl rfl⟩⟩
theorem fX9_9_7 : tb_fld RX9 9 7 2 2 := ⟨RX9, TX9, 53, rfl, Nat.le_of_ble_eq_true rfl, rfl, Or.inl ⟨"TreesBeforeMenModel", q1232, Or.inl rfl⟩⟩
theorem fX9_119_7 : tb_fld RX9 119 7 1 0 := ⟨RX9, TX9, 53, rfl, Nat.le_of_ble_eq_true rfl, rfl, Or.inl ⟨"TreesBeforeMenModel", q1231, Or.inl rfl⟩⟩
theorem fX9_317_7 : tb_fld RX9 317 7 32 0 := ⟨RX9, TX9, 53, rfl, Nat.le_of_ble_eq_true rfl, rfl, Or.inl ⟨"TreesBeforeMenModel", q1262, Or.inl rfl⟩⟩
theorem wX9_317_7 (y : MethodName) (hy : y.cls = RX9) : tb_fldW y 317 7 32 0 := ⟨RX9, TX9, 53, "TreesBeforeMenModel", rfl, Nat.le_of_ble_eq_true rfl, rfl, by rw [hy]; exact q1262, Or.inl rfl, Or.inl rfl⟩
theorem wX9_352_7 (y : MethodName) (hy : y.cls = RX9) : tb_fldW y 352 7 36 0 := ⟨RX9, TX9, 53, "TreesBeforeMenModel", rfl, Nat.le_of_ble_eq_true rfl, rfl, by rw [hy]; exact q1266, Or.inl rfl, Or.inl rfl⟩
theorem fX9_352_7 : tb_fld RX9 352 7 36 0 := ⟨RX9, TX9, 53, rfl, Nat.le_of_ble_eq_true rfl, rfl, Or.inl ⟨"TreesBeforeMenModel", q1266, Or.inl rfl⟩⟩
theorem fX9_69_7 : tb_fld RX9 69 7 33 2 := ⟨RX9, TX9, 53, rfl, Nat.le_of_ble_eq_true rfl, rfl, Or.inl ⟨"TreesBeforeMenModel", q1263, Or.inl rfl⟩⟩
theorem fX9_72_7 : tb_fld RX9 72 7 34 2 := ⟨RX9, TX9, 53, rfl, Nat.le_of_ble_eq_true rfl, rfl, Or.inl ⟨"TreesBeforeMenModel", q1264, Or.inl rfl⟩⟩
theorem fX9_75_7 : tb_fld RX9 75 7 35 2 := ⟨RX9, TX9, 53, rfl, Nat.le_of_ble_eq_true rfl, rfl, Or.inl ⟨"TreesBeforeMenModel", q1265, Or.inl rfl⟩⟩
theorem fX9_42_7 : tb_fld RX9 42 7 15 2 := ⟨RX9, TX9, 53, rfl, Nat.le_of_ble_eq_true rfl, rfl, Or.inl ⟨"TreesBeforeMenModel", q1245, Or.inl rfl⟩⟩
theorem fX9_78_7 : tb_fld RX9 78 7 37 2 := ⟨RX9, TX9, 53, rfl, Nat.le_of_ble_eq_true rfl, rfl, Or.inl ⟨"TreesBeforeMenModel", q1267, Or.inl rfl⟩⟩
theorem fX9_81_7 : tb_fld RX9 81 7 38 2 := ⟨RX9, TX9, 53, rfl, Nat.le_of_ble_eq_true rfl, rfl, Or.inl ⟨"TreesBeforeMenModel", q1268, Or.inl rfl⟩⟩
theorem wX9_384_7 (y : MethodName) (hy : y.cls = RX9) : tb_fldW y 384 7 41 0 := ⟨RX9, TX9, 53, "TreesBeforeMenModel", rfl, Nat.le_of_ble_eq_true rfl, rfl, by rw [hy]; exact q1271, Or.inl rfl, Or.inl rfl⟩
theorem fX9_384_7 : tb_fld RX9 384 7 41 0 := ⟨RX9, TX9, 53, rfl, Nat.le_of_ble_eq_true rfl, rfl, Or.inl ⟨"TreesBeforeMenModel", q1271, Or.inl rfl⟩⟩
theorem fX9_87_7 : tb_fld RX9 87 7 40 2 := ⟨RX9, TX9, 53, rfl, Nat.le_of_ble_eq_true rfl, rfl, Or.inl ⟨"TreesBeforeMenModel", q1270, Or.inl rfl⟩⟩
theorem fX9_84_7 : tb_fld RX9 84 7 39 2 := ⟨RX9, TX9, 53, rfl, Nat.le_of_ble_eq_true rfl, rfl, Or.inl ⟨"TreesBeforeMenModel", q1269, Or.inl rfl⟩⟩
theorem fX9_90_7 : tb_fld RX9 90 7 42 2 := ⟨RX9, TX9, 53, rfl, Nat.le_of_ble_eq_true rfl, rfl, Or.inl ⟨"TreesBeforeMenModel", q1272, Or.inl rfl⟩⟩
theorem fX9_396_7 : tb_fld RX9 396 7 43 0 := ⟨RX9, TX9, 53, rfl, Nat.le_of_ble_eq_true rfl, rfl, Or.inl ⟨"TreesBeforeMenModel", q1273, Or.inl rfl⟩⟩
theorem wX9_396_7 (y : MethodName) (hy : y.cls = RX9) : tb_fldW y 396 7 43 0 := ⟨RX9, TX9, 53, "TreesBeforeMenModel", rfl, Nat.le_of_ble_eq_true rfl, rfl, by rw [hy]; exact q1273, Or.inl rfl, Or.inl rfl⟩
theorem wX9_409_7 (y : MethodName) (hy : y.cls = RX9) : tb_fldW y 409 7 44 0 := ⟨RX9, TX9, 53, "TreesBeforeMenModel", rfl, Nat.le_of_ble_eq_true rfl, rfl, by rw [hy]; exact q1274, Or.inl rfl, Or.inl rfl⟩
theorem fX9_426_7 : tb_fld RX9 426 7 46 0 := ⟨RX9, TX9, 53, rfl, Nat.le_of_ble_eq_true rfl, rfl, Or.inl ⟨"TreesBeforeMenModel", q1276, Or.inl rfl⟩⟩
theorem fX9_96_7 : tb_fld RX9 96 7 47 2 := ⟨RX9, TX9, 53, rfl, Nat.le_of_ble_eq_true rfl, rfl, Or.inl ⟨"TreesBeforeMenModel", q1277, Or.inl rfl⟩⟩
theorem fX9_99_7 : tb_fld RX9 99 7 48 2 := ⟨RX9, TX9, 53, rfl, Nat.le_of_ble_eq_true rfl, rfl, Or.inl ⟨"TreesBeforeMenModel", q1278, Or.inl rfl⟩⟩
theorem wX9_426_7 (y : MethodName) (hy : y.cls = RX9) : tb_fldW y 426 7 46 0 := ⟨RX9, TX9, 53, "TreesBeforeMenModel", rfl, Nat.le_of_ble_eq_true rfl, rfl, by rw [hy]; exact q1276, Or.inl rfl, Or.inl rfl⟩
theorem wX9_444_7 (y : MethodName) (hy : y.cls = RX9) : tb_fldW y 444 7 49 0 := ⟨RX9, TX9, 53, "TreesBeforeMenModel", rfl, Nat.le_of_ble_eq_true rfl, rfl, by rw [hy]; exact q1279, Or.inl rfl, Or.inl rfl⟩
theorem fX9_444_7 : tb_fld RX9 444 7 49 0 := ⟨RX9, TX9, 53, rfl, Nat.le_of_ble_eq_true rfl, rfl, Or.inl ⟨"TreesBeforeMenModel", q1279, Or.inl rfl⟩⟩
theorem fX9_102_7 : tb_fld RX9 102 7 50 2 := ⟨RX9, TX9, 53, rfl, Nat.le_of_ble_eq_true rfl, rfl, Or.inl ⟨"TreesBeforeMenModel", q1280, Or.inl rfl⟩⟩
theorem fX9_106_7 : tb_fld RX9 106 7 51 2 := ⟨RX9, TX9, 53, rfl, Nat.le_of_ble_eq_true rfl, rfl, Or.inl ⟨"TreesBeforeMenModel", q1281, Or.inl rfl⟩⟩
theorem fX9_109_7 : tb_fld RX9 109 7 52 2 := ⟨RX9, TX9, 53, rfl, Nat.le_of_ble_eq_true rfl, rfl, Or.inl ⟨"TreesBeforeMenModel", q1282, Or.inl rfl⟩⟩
