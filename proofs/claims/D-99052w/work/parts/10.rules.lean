/-! RULES FOR SINGLE INSTRUCTIONS (printed by tools/gen_rules.py) -/
set_option maxRecDepth 100000
theorem tb_Ok.go {y : tbM} {pc a b : Nat} {ins : Instr} {l : List Nat} {v : tbV} {cs : List tbI} (O : tb_Ok y ((pc, ins, a, b, l, v) :: cs)) (h1 : tb_end ins = false) {n : Nat} (h2 : tb_ilen ins = n + 1) :
    decode y.2.1 pc = .ok (ins, n + 1) ∧ tb_pc cs = pc + (n + 1) ∧ tb_Ok y cs ∧ tb_fact y (pc, ins, a, b, l, v) := by
  obtain ⟨O1, O2, O3⟩ := O
  dsimp only at O1 O3
  rw [h1] at O1 O3
  rcases O1 with rfl | ⟨k, e1, e2, e3⟩
  · cases h1
  rw [h2] at e2
  rcases e2 with e2 | rfl
  · exact absurd e2 (Nat.succ_ne_zero n)
  rcases e3 with e3 | e3
  · cases e3
  rcases O3 with O3 | O3
  · cases O3
  exact ⟨e1, e3, O3, O2⟩
theorem tb_Ok.at {y : tbM} {pc a b : Nat} {ins : Instr} {l : List Nat} {v : tbV} {cs : List tbI} (O : tb_Ok y ((pc, ins, a, b, l, v) :: cs)) (h0 : ins ≠ .nop) {n : Nat} (h2 : tb_ilen ins = n + 1) :
    decode y.2.1 pc = .ok (ins, n + 1) ∧ tb_fact y (pc, ins, a, b, l, v) := by
  obtain ⟨O1, O2, O3⟩ := O
  dsimp only at O1 O3
  rcases O1 with h | ⟨k, e1, e2, e3⟩
  · exact absurd h h0
  rw [h2] at e2
  rcases e2 with e2 | rfl
  · exact absurd e2 (Nat.succ_ne_zero n)
  exact ⟨e1, O2⟩
theorem tb_Ok.sw {y : tbM} {pc a b : Nat} {ins : Instr} {l : List Nat} {v : tbV} {cs : List tbI} (O : tb_Ok y ((pc, ins, a, b, l, v) :: cs)) (h0 : ins ≠ .nop) :
    (∃ n, decode y.2.1 pc = .ok (ins, n)) ∧ tb_fact y (pc, ins, a, b, l, v) := by
  obtain ⟨O1, O2, O3⟩ := O
  dsimp only at O1 O3
  rcases O1 with h | ⟨k, e1, e2, e3⟩
  · exact absurd h h0
  exact ⟨⟨k, e1⟩, O2⟩
theorem tb_cat1 (α : tbA → Nat) (x : Int32) : (tb_tv α (.inl x)).category = 1 := rfl
theorem tb_catR (α : tbA → Nat) (r : Option tbA) : (tb_tv α (.inr (.inr r))).category = 1 := by cases r <;> rfl
def tb_long : tbV → Bool
  | .inr (.inl _) => true
  | _ => false
theorem tb_cat (α : tbA → Nat) {v : tbV} (h : tb_long v = false) : (tb_tv α v).category = 1 := by
  rcases v with x | x | r
  · rfl
  · cases h
  · exact tb_catR α r
/-- locals as the kit lists them -/
def tb_lv (α : tbA → Nat) (ls : tbL) : List (Nat × Value) := (List.range ls.length).filterMap fun j => (tb_get ls j).map fun v => (j, tb_tv α v)
theorem tb_get_lt : ∀ {ls : tbL} {j : Nat} {v : tbV}, tb_get ls j = some v → j < ls.length
  | [], _, _, h => by cases h
  | _ :: _, 0, _, _ => Nat.zero_lt_succ _
  | _ :: l, j + 1, _, h => Nat.succ_lt_succ (tb_get_lt (ls := l) h)
theorem tb_lv_mem {α : tbA → Nat} {ls : tbL} {j : Nat} {v : tbV} (h : tb_get ls j = some v) : (j, tb_tv α v) ∈ tb_lv α ls :=
  List.mem_filterMap.mpr ⟨j, List.mem_range.mpr (tb_get_lt h), by rw [h]; rfl⟩
theorem tb_loc.has {α : tbA → Nat} {nL : Nat} {ls : tbL} {A : Array Slot} (h : tb_loc α nL ls A) : lv_has A nL (tb_lv α ls) := by
  refine ⟨h.2.1, h.2.2.1, fun q hq => ?_⟩
  obtain ⟨j, -, hj⟩ := List.mem_filterMap.mp hq
  cases hg : tb_get ls j with
  | none => rw [hg] at hj; cases hj
  | some v =>
    rw [hg] at hj
    cases hj
    exact h.2.2.2 j v hg
theorem tb_loc.of {α : tbA → Nat} {nL : Nat} {ls : tbL} {A : Array Slot} {lv : List (Nat × Value)} (h : lv_has A nL lv) (hn : ls.length = nL) (hm : ∀ j v, tb_get ls j = some v → (j, tb_tv α v) ∈ lv) : tb_loc α nL ls A :=
  ⟨hn, h.1, h.2.1, fun j v hj => h.2.2 _ (hm j v hj)⟩
theorem tb_put_spec {R : Type} : ∀ (ls : tbL) (i : Nat) (o : Option tbV) (k : tbL → Option R) (r : R), tb_put ls i o k = some r → ∃ ls', k ls' = some r ∧ ls'.length = ls.length ∧ i < ls.length ∧
    ∀ j v, tb_get ls' j = some v → (j = i ∧ o = some v) ∨ (j ≠ i ∧ tb_get ls j = some v ∧ (j + 1 = i → tb_long v = false))
  | [], _, _, _, _, h => by cases h
  | a :: l, 0, o, k, r, h => by
    refine ⟨o :: l, h, rfl, Nat.zero_lt_succ _, fun j v hj => ?_⟩
    cases j with
    | zero => exact Or.inl ⟨rfl, hj⟩
    | succ j => exact Or.inr ⟨Nat.succ_ne_zero j, hj, fun e => absurd e (Nat.succ_ne_zero _)⟩
  | a :: l, 1, o, k, r, h => by
    cases l with
    | nil => cases h
    | cons b l' =>
      have fin : ∀ a', (a' = a ∨ a' = none) → (∀ v, a' = some v → tb_long v = false) → k (a' :: o :: l') = some r → ∃ ls', k ls' = some r ∧ ls'.length = (a :: b :: l').length ∧ 1 < (a :: b :: l').length ∧
          ∀ j v, tb_get ls' j = some v → (j = 1 ∧ o = some v) ∨ (j ≠ 1 ∧ tb_get (a :: b :: l') j = some v ∧ (j + 1 = 1 → tb_long v = false)) := by
        intro a' ha hl hk
        refine ⟨a' :: o :: l', hk, rfl, Nat.succ_lt_succ (Nat.zero_lt_succ _), fun j v hj => ?_⟩
        match j, hj with
        | 0, hj =>
          have hj : a' = some v := hj
          refine Or.inr ⟨Nat.zero_ne_one, ?_, fun _ => hl v hj⟩
          rcases ha with ha | ha
          · rw [← hj, ha]; rfl
          · rw [ha] at hj; cases hj
        | 1, hj => exact Or.inl ⟨rfl, hj⟩
        | j + 2, hj => exact Or.inr ⟨by omega, hj, fun e => by omega⟩
      match a, h, fin with
      | none, h, fin => exact fin none (Or.inl rfl) (fun v e => by cases e) h
      | some (.inl x), h, fin => exact fin (some (.inl x)) (Or.inl rfl) (fun v e => by cases e; rfl) h
      | some (.inr (.inl x)), h, fin => exact fin none (Or.inr rfl) (fun v e => by cases e) h
      | some (.inr (.inr x)), h, fin => exact fin (some (.inr (.inr x))) (Or.inl rfl) (fun v e => by cases e; rfl) h
  | a :: l, n + 2, o, k, r, h => by
    obtain ⟨l', h1, h2, h3, h4⟩ := tb_put_spec l (n + 1) o (fun l' => k (a :: l')) r h
    refine ⟨a :: l', h1, by simp [h2], Nat.succ_lt_succ h3, fun j v hj => ?_⟩
    cases j with
    | zero => exact Or.inr ⟨by omega, hj, fun e => by omega⟩
    | succ j =>
      rcases h4 j v hj with ⟨e1, e2⟩ | ⟨e1, e2, e3⟩
      · exact Or.inl ⟨by omega, e2⟩
      · exact Or.inr ⟨by omega, e2, fun e => e3 (by omega)⟩
section TBR
variable {γ : tbG} {y : tbM} {d mc ms : Nat} {Q : tbO → tbS → Prop} {nc ns pc a b : Nat} {cs : List tbI} {ls : tbL} {st : List tbV} {s : tbS} {l : List Nat} {v : tbV}
theorem tb_null (k : Ex γ y d mc ms Q nc ns cs ls (v :: st) s) : Ex γ y d mc ms Q nc ns ((pc, .aconst_null, a, b, l, v) :: cs) ls st s := by
  intro p e u m args below meth c H locs A α Lv α0 C0 E O L K1 K2 R S X
  obtain ⟨hd, hp, hc, hf⟩ := tb_Ok.go (n := 0) O rfl rfl
  have hf : v = .inr (.inr none) := hf
  subst hf
  have h := k p e u m args below meth c H locs A α Lv α0 C0 E hc L K1 ⟨trivial, K2⟩ R S X
  rw [hp] at h
  exact lv_null E.1 E.2.1 hd h
theorem tb_iconst {n : Int} (k : Ex γ y d mc ms Q nc ns cs ls (v :: st) s) : Ex γ y d mc ms Q nc ns ((pc, .iconst n, a, b, l, v) :: cs) ls st s := by
  intro p e u m args below meth c H locs A α Lv α0 C0 E O L K1 K2 R S X
  obtain ⟨hd, hp, hc, hf⟩ := tb_Ok.go (n := 0) O rfl rfl
  obtain ⟨x, rfl, hx⟩ := hf
  have h := k p e u m args below meth c H locs A α Lv α0 C0 E hc L K1 ⟨trivial, K2⟩ R S X
  rw [hp] at h
  exact lv_iconst E.1 E.2.1 hd hx h
theorem tb_bipush {n : Int} (k : Ex γ y d mc ms Q nc ns cs ls (v :: st) s) : Ex γ y d mc ms Q nc ns ((pc, .bipush n, a, b, l, v) :: cs) ls st s := by
  intro p e u m args below meth c H locs A α Lv α0 C0 E O L K1 K2 R S X
  obtain ⟨hd, hp, hc, hf⟩ := tb_Ok.go (n := 1) O rfl rfl
  obtain ⟨x, rfl, hx⟩ := hf
  have h := k p e u m args below meth c H locs A α Lv α0 C0 E hc L K1 ⟨trivial, K2⟩ R S X
  rw [hp] at h
  exact lv_bipush E.1 E.2.1 hd hx h
theorem tb_sipush {n : Int} (k : Ex γ y d mc ms Q nc ns cs ls (v :: st) s) : Ex γ y d mc ms Q nc ns ((pc, .sipush n, a, b, l, v) :: cs) ls st s := by
  intro p e u m args below meth c H locs A α Lv α0 C0 E O L K1 K2 R S X
  obtain ⟨hd, hp, hc, hf⟩ := tb_Ok.go (n := 2) O rfl rfl
  obtain ⟨x, rfl, hx⟩ := hf
  have h := k p e u m args below meth c H locs A α Lv α0 C0 E hc L K1 ⟨trivial, K2⟩ R S X
  rw [hp] at h
  exact lv_sipush E.1 E.2.1 hd hx h
theorem tb_lconst {n : Fin 2} (k : Ex γ y d mc ms Q nc ns cs ls (v :: st) s) : Ex γ y d mc ms Q nc ns ((pc, .lconst n, a, b, l, v) :: cs) ls st s := by
  intro p e u m args below meth c H locs A α Lv α0 C0 E O L K1 K2 R S X
  obtain ⟨hd, hp, hc, hf⟩ := tb_Ok.go (n := 0) O rfl rfl
  obtain ⟨x, rfl, hx⟩ := hf
  have h := k p e u m args below meth c H locs A α Lv α0 C0 E hc L K1 ⟨trivial, K2⟩ R S X
  rw [hp] at h
  exact lv_lconst E.1 E.2.1 hd hx h
theorem tb_ldc2 {n : Nat} (k : Ex γ y d mc ms Q nc ns cs ls (v :: st) s) : Ex γ y d mc ms Q nc ns ((pc, .ldc2_w n, a, b, l, v) :: cs) ls st s := by
  intro p e u m args below meth c H locs A α Lv α0 C0 E O L K1 K2 R S X
  obtain ⟨hd, hp, hc, hf⟩ := tb_Ok.go (n := 2) O rfl rfl
  obtain ⟨x, rfl, hx⟩ := hf
  have h := k p e u m args below meth c H locs A α Lv α0 C0 E hc L K1 ⟨trivial, K2⟩ R S X
  rw [hp] at h
  exact lv_ldc2 E.1 E.2.1 E.2.2.2.2.1 (E.2.2.2.1 _ hx) hd h
theorem tb_ldcw {n : Nat} (hb : b = 0) (k : Ex γ y d mc ms Q nc ns cs ls (v :: st) s) : Ex γ y d mc ms Q nc ns ((pc, .ldc_w n, a, b, l, v) :: cs) ls st s := by
  intro p e u m args below meth c H locs A α Lv α0 C0 E O L K1 K2 R S X
  obtain ⟨hd, hp, hc, hf⟩ := tb_Ok.go (n := 2) O rfl rfl
  rcases hf with ⟨-, hf⟩ | ⟨hb1, -⟩
  · obtain ⟨x, rfl, hx⟩ := hf
    have h := k p e u m args below meth c H locs A α Lv α0 C0 E hc L K1 ⟨trivial, K2⟩ R S X
    rw [hp] at h
    exact lv_ldcw E.1 E.2.1 E.2.2.2.2.1 (E.2.2.2.1 _ hx) hd h
  · rw [hb] at hb1
    cases hb1
theorem tb_iload_n {n : Fin 4} {x : Int32} (hg : tb_get ls a = some (.inl x)) (k : Ex γ y d mc ms Q nc ns cs ls ((.inl x) :: st) s) : Ex γ y d mc ms Q nc ns ((pc, .iload_n n, a, b, l, v) :: cs) ls st s := by
  intro p e u m args below meth c H locs A α Lv α0 C0 E O L K1 K2 R S X
  obtain ⟨hd, hp, hc, hf⟩ := tb_Ok.go (n := 0) O rfl rfl
  have hf : (n : Nat) = a := hf
  have h := k p e u m args below meth c H locs A α Lv α0 C0 E hc L K1 ⟨K1 a _ hg, K2⟩ R S X
  rw [hp] at h
  have hl := L.2.2.2 a _ hg
  exact lv_iload_n E.1 E.2.1 hd hf hl h
theorem tb_iload {n : Nat} {x : Int32} (hg : tb_get ls a = some (.inl x)) (k : Ex γ y d mc ms Q nc ns cs ls ((.inl x) :: st) s) : Ex γ y d mc ms Q nc ns ((pc, .iload n, a, b, l, v) :: cs) ls st s := by
  intro p e u m args below meth c H locs A α Lv α0 C0 E O L K1 K2 R S X
  obtain ⟨hd, hp, hc, hf⟩ := tb_Ok.go (n := 1) O rfl rfl
  have hf : n = a := hf
  have h := k p e u m args below meth c H locs A α Lv α0 C0 E hc L K1 ⟨K1 a _ hg, K2⟩ R S X
  rw [hp] at h
  have hl := L.2.2.2 a _ hg
  exact lv_iload E.1 E.2.1 (hf ▸ hd) hl h
theorem tb_lload_n {n : Fin 4} {x : Int64} (hg : tb_get ls a = some (.inr (.inl x))) (k : Ex γ y d mc ms Q nc ns cs ls ((.inr (.inl x)) :: st) s) : Ex γ y d mc ms Q nc ns ((pc, .lload_n n, a, b, l, v) :: cs) ls st s := by
  intro p e u m args below meth c H locs A α Lv α0 C0 E O L K1 K2 R S X
  obtain ⟨hd, hp, hc, hf⟩ := tb_Ok.go (n := 0) O rfl rfl
  have hf : (n : Nat) = a := hf
  have h := k p e u m args below meth c H locs A α Lv α0 C0 E hc L K1 ⟨K1 a _ hg, K2⟩ R S X
  rw [hp] at h
  have hl := L.2.2.2 a _ hg
  exact lv_lload_n E.1 E.2.1 hd hf hl h
theorem tb_lload {n : Nat} {x : Int64} (hg : tb_get ls a = some (.inr (.inl x))) (k : Ex γ y d mc ms Q nc ns cs ls ((.inr (.inl x)) :: st) s) : Ex γ y d mc ms Q nc ns ((pc, .lload n, a, b, l, v) :: cs) ls st s := by
  intro p e u m args below meth c H locs A α Lv α0 C0 E O L K1 K2 R S X
  obtain ⟨hd, hp, hc, hf⟩ := tb_Ok.go (n := 1) O rfl rfl
  have hf : n = a := hf
  have h := k p e u m args below meth c H locs A α Lv α0 C0 E hc L K1 ⟨K1 a _ hg, K2⟩ R S X
  rw [hp] at h
  have hl := L.2.2.2 a _ hg
  exact lv_lload E.1 E.2.1 (hf ▸ hd) hl h
theorem tb_aload_n {n : Fin 4} {x : Option tbA} (hg : tb_get ls a = some (.inr (.inr x))) (k : Ex γ y d mc ms Q nc ns cs ls ((.inr (.inr x)) :: st) s) : Ex γ y d mc ms Q nc ns ((pc, .aload_n n, a, b, l, v) :: cs) ls st s := by
  intro p e u m args below meth c H locs A α Lv α0 C0 E O L K1 K2 R S X
  obtain ⟨hd, hp, hc, hf⟩ := tb_Ok.go (n := 0) O rfl rfl
  have hf : (n : Nat) = a := hf
  have h := k p e u m args below meth c H locs A α Lv α0 C0 E hc L K1 ⟨K1 a _ hg, K2⟩ R S X
  rw [hp] at h
  have hl := L.2.2.2 a _ hg
  cases x with
  | none => exact lv_aload_nN E.1 E.2.1 hd hf hl h
  | some x => exact lv_aload_n E.1 E.2.1 hd hf hl h
theorem tb_aload {n : Nat} {x : Option tbA} (hg : tb_get ls a = some (.inr (.inr x))) (k : Ex γ y d mc ms Q nc ns cs ls ((.inr (.inr x)) :: st) s) : Ex γ y d mc ms Q nc ns ((pc, .aload n, a, b, l, v) :: cs) ls st s := by
  intro p e u m args below meth c H locs A α Lv α0 C0 E O L K1 K2 R S X
  obtain ⟨hd, hp, hc, hf⟩ := tb_Ok.go (n := 1) O rfl rfl
  have hf : n = a := hf
  have h := k p e u m args below meth c H locs A α Lv α0 C0 E hc L K1 ⟨K1 a _ hg, K2⟩ R S X
  rw [hp] at h
  have hl := L.2.2.2 a _ hg
  cases x with
  | none => exact lv_aloadN E.1 E.2.1 (hf ▸ hd) hl h
  | some x => exact lv_aload E.1 E.2.1 (hf ▸ hd) hl h
theorem tb_store1 {α : tbA → Nat} {i : Nat} {w : tbV} {ls' : tbL} {A : Array Slot} {nL : Nat} (hw : tb_long w = false) (hn : ls'.length = nL)
    (h4 : ∀ j z, tb_get ls' j = some z → (j = i ∧ some w = some z) ∨ (j ≠ i ∧ tb_get ls j = some z ∧ (j + 1 = i → tb_long z = false)))
    (h : lv_has A nL ((i, tb_tv α w) :: (tb_lv α ls).filter (fun q => !(q.1 == i) && !(q.1 + 1 == i && q.2.category == 2)))) : tb_loc α nL ls' A := by
  refine tb_loc.of h hn fun j z hj => ?_
  rcases h4 j z hj with ⟨rfl, e⟩ | ⟨e1, e2, e3⟩
  · cases e
    exact List.mem_cons_self
  · refine List.mem_cons_of_mem _ (List.mem_filter.mpr ⟨tb_lv_mem e2, ?_⟩)
    by_cases hji : j + 1 = i
    · have := tb_cat α (e3 hji)
      simp [e1, hji, this]
    · simp [e1, hji]
theorem tb_okl_put {i : Nat} {o : Option tbV} {ls' : tbL} (K : tb_okl s ls) (hw : ∀ w, o = some w → tb_ok s w) (h4 : ∀ j z, tb_get ls' j = some z → (j = i ∧ o = some z) ∨ (j ≠ i ∧ tb_get ls j = some z ∧ (j + 1 = i → tb_long z = false))) : tb_okl s ls' := by
  intro j z hj
  rcases h4 j z hj with ⟨-, e⟩ | ⟨-, e, -⟩
  · exact hw z e
  · exact K j z e
theorem tb_istore_n {n : Fin 4} {x : Int32} {ls' : tbL} (h2 : ls'.length = ls.length) (h3 : a < ls.length) (h4 : ∀ j z, tb_get ls' j = some z → (j = a ∧ some (.inl x) = some z) ∨ (j ≠ a ∧ tb_get ls j = some z ∧ (j + 1 = a → tb_long z = false)))
    (k : Ex γ y d mc ms Q nc ns cs ls' st s) : Ex γ y d mc ms Q nc ns ((pc, .istore_n n, a, b, l, v) :: cs) ls ((.inl x) :: st) s := by
  intro p e u m args below meth c H locs A α Lv α0 C0 E O L K1 K2 R S X
  obtain ⟨hd, hp, hc, hf⟩ := tb_Ok.go (n := 0) O rfl rfl
  have hf : (n : Nat) = a := hf
  have hk1 : tb_okl s ls' := tb_okl_put K1 (fun w e => by cases e; exact K2.1) h4
  have hn : a < y.2.2.1 := by rw [← L.1]; exact h3
  · refine lv_istore_n E.1 E.2.1 hd hf L.has hn rfl fun A' hA => ?_
    have h := k p e u m args below meth c H locs A' α Lv α0 C0 E hc (tb_store1 rfl (h2.trans L.1) h4 hA) hk1 K2.2 R S X
    rw [hp] at h
    exact h
theorem tb_istore {n : Nat} {x : Int32} {ls' : tbL} (h2 : ls'.length = ls.length) (h3 : a < ls.length) (h4 : ∀ j z, tb_get ls' j = some z → (j = a ∧ some (.inl x) = some z) ∨ (j ≠ a ∧ tb_get ls j = some z ∧ (j + 1 = a → tb_long z = false)))
    (k : Ex γ y d mc ms Q nc ns cs ls' st s) : Ex γ y d mc ms Q nc ns ((pc, .istore n, a, b, l, v) :: cs) ls ((.inl x) :: st) s := by
  intro p e u m args below meth c H locs A α Lv α0 C0 E O L K1 K2 R S X
  obtain ⟨hd, hp, hc, hf⟩ := tb_Ok.go (n := 1) O rfl rfl
  have hf : n = a := hf
  have hk1 : tb_okl s ls' := tb_okl_put K1 (fun w e => by cases e; exact K2.1) h4
  have hn : a < y.2.2.1 := by rw [← L.1]; exact h3
  · refine lv_istore E.1 E.2.1 (hf ▸ hd) L.has hn rfl fun A' hA => ?_
    have h := k p e u m args below meth c H locs A' α Lv α0 C0 E hc (tb_store1 rfl (h2.trans L.1) h4 hA) hk1 K2.2 R S X
    rw [hp] at h
    exact h
theorem tb_astore_n {n : Fin 4} {x : Option tbA} {ls' : tbL} (h2 : ls'.length = ls.length) (h3 : a < ls.length) (h4 : ∀ j z, tb_get ls' j = some z → (j = a ∧ some (.inr (.inr x)) = some z) ∨ (j ≠ a ∧ tb_get ls j = some z ∧ (j + 1 = a → tb_long z = false)))
    (k : Ex γ y d mc ms Q nc ns cs ls' st s) : Ex γ y d mc ms Q nc ns ((pc, .astore_n n, a, b, l, v) :: cs) ls ((.inr (.inr x)) :: st) s := by
  intro p e u m args below meth c H locs A α Lv α0 C0 E O L K1 K2 R S X
  obtain ⟨hd, hp, hc, hf⟩ := tb_Ok.go (n := 0) O rfl rfl
  have hf : (n : Nat) = a := hf
  have hk1 : tb_okl s ls' := tb_okl_put K1 (fun w e => by cases e; exact K2.1) h4
  have hn : a < y.2.2.1 := by rw [← L.1]; exact h3
  cases x with
  | none =>
    refine lv_astore_nN E.1 E.2.1 hd hf L.has hn rfl fun A' hA => ?_
    have h := k p e u m args below meth c H locs A' α Lv α0 C0 E hc (tb_store1 rfl (h2.trans L.1) h4 hA) hk1 K2.2 R S X
    rw [hp] at h
    exact h
  | some x =>
    refine lv_astore_n E.1 E.2.1 hd hf L.has hn rfl fun A' hA => ?_
    have h := k p e u m args below meth c H locs A' α Lv α0 C0 E hc (tb_store1 rfl (h2.trans L.1) h4 hA) hk1 K2.2 R S X
    rw [hp] at h
    exact h
theorem tb_astore {n : Nat} {x : Option tbA} {ls' : tbL} (h2 : ls'.length = ls.length) (h3 : a < ls.length) (h4 : ∀ j z, tb_get ls' j = some z → (j = a ∧ some (.inr (.inr x)) = some z) ∨ (j ≠ a ∧ tb_get ls j = some z ∧ (j + 1 = a → tb_long z = false)))
    (k : Ex γ y d mc ms Q nc ns cs ls' st s) : Ex γ y d mc ms Q nc ns ((pc, .astore n, a, b, l, v) :: cs) ls ((.inr (.inr x)) :: st) s := by
  intro p e u m args below meth c H locs A α Lv α0 C0 E O L K1 K2 R S X
  obtain ⟨hd, hp, hc, hf⟩ := tb_Ok.go (n := 1) O rfl rfl
  have hf : n = a := hf
  have hk1 : tb_okl s ls' := tb_okl_put K1 (fun w e => by cases e; exact K2.1) h4
  have hn : a < y.2.2.1 := by rw [← L.1]; exact h3
  cases x with
  | none =>
    refine lv_astoreN E.1 E.2.1 (hf ▸ hd) L.has hn rfl fun A' hA => ?_
    have h := k p e u m args below meth c H locs A' α Lv α0 C0 E hc (tb_store1 rfl (h2.trans L.1) h4 hA) hk1 K2.2 R S X
    rw [hp] at h
    exact h
  | some x =>
    refine lv_astore E.1 E.2.1 (hf ▸ hd) L.has hn rfl fun A' hA => ?_
    have h := k p e u m args below meth c H locs A' α Lv α0 C0 E hc (tb_store1 rfl (h2.trans L.1) h4 hA) hk1 K2.2 R S X
    rw [hp] at h
    exact h
theorem tb_lstore_n {n : Fin 4} {x : Int64} {l1 ls' : tbL} (h2 : l1.length = ls.length) (h3 : a + 1 < ls.length) (h4 : ∀ j z, tb_get l1 j = some z → (j = a + 1 ∧ none = some z) ∨ (j ≠ a + 1 ∧ tb_get ls j = some z ∧ (j + 1 = a + 1 → tb_long z = false)))
    (g2 : ls'.length = l1.length) (g4 : ∀ j z, tb_get ls' j = some z → (j = a ∧ some (.inr (.inl x)) = some z) ∨ (j ≠ a ∧ tb_get l1 j = some z ∧ (j + 1 = a → tb_long z = false)))
    (k : Ex γ y d mc ms Q nc ns cs ls' st s) : Ex γ y d mc ms Q nc ns ((pc, .lstore_n n, a, b, l, v) :: cs) ls ((.inr (.inl x)) :: st) s := by
  intro p e u m args below meth c H locs A α Lv α0 C0 E O L K1 K2 R S X
  obtain ⟨hd, hp, hc, hf⟩ := tb_Ok.go (n := 0) O rfl rfl
  have hf : (n : Nat) = a := hf
  have hk0 : tb_okl s l1 := tb_okl_put K1 (fun w e => by cases e) h4
  have hk1 : tb_okl s ls' := tb_okl_put hk0 (fun w e => by cases e; exact K2.1) g4
  have hn : a + 1 < y.2.2.1 := by rw [← L.1]; exact h3
  refine lv_lstore_n E.1 E.2.1 hd hf L.has hn rfl fun A' hA => ?_
  have hL : tb_loc α y.2.2.1 ls' A' := by
    refine tb_loc.of hA ((g2.trans h2).trans L.1) fun j z hj => ?_
    rcases g4 j z hj with ⟨rfl, e⟩ | ⟨e1, e2, e3⟩
    · cases e
      exact List.mem_cons_self
    · rcases h4 j z e2 with ⟨-, e⟩ | ⟨f1, f2, f3⟩
      · cases e
      · refine List.mem_cons_of_mem _ (List.mem_filter.mpr ⟨tb_lv_mem f2, ?_⟩)
        by_cases hji : j + 1 = a
        · have := tb_cat α (e3 hji)
          simp [e1, f1, hji, this]
        · simp [e1, f1, hji]
  have h := k p e u m args below meth c H locs A' α Lv α0 C0 E hc hL hk1 K2.2 R S X
  rw [hp] at h
  exact h
theorem tb_lstore {n : Nat} {x : Int64} {l1 ls' : tbL} (h2 : l1.length = ls.length) (h3 : a + 1 < ls.length) (h4 : ∀ j z, tb_get l1 j = some z → (j = a + 1 ∧ none = some z) ∨ (j ≠ a + 1 ∧ tb_get ls j = some z ∧ (j + 1 = a + 1 → tb_long z = false)))
    (g2 : ls'.length = l1.length) (g4 : ∀ j z, tb_get ls' j = some z → (j = a ∧ some (.inr (.inl x)) = some z) ∨ (j ≠ a ∧ tb_get l1 j = some z ∧ (j + 1 = a → tb_long z = false)))
    (k : Ex γ y d mc ms Q nc ns cs ls' st s) : Ex γ y d mc ms Q nc ns ((pc, .lstore n, a, b, l, v) :: cs) ls ((.inr (.inl x)) :: st) s := by
  intro p e u m args below meth c H locs A α Lv α0 C0 E O L K1 K2 R S X
  obtain ⟨hd, hp, hc, hf⟩ := tb_Ok.go (n := 1) O rfl rfl
  have hf : n = a := hf
  have hk0 : tb_okl s l1 := tb_okl_put K1 (fun w e => by cases e) h4
  have hk1 : tb_okl s ls' := tb_okl_put hk0 (fun w e => by cases e; exact K2.1) g4
  have hn : a + 1 < y.2.2.1 := by rw [← L.1]; exact h3
  refine lv_lstore E.1 E.2.1 (hf ▸ hd) L.has hn rfl fun A' hA => ?_
  have hL : tb_loc α y.2.2.1 ls' A' := by
    refine tb_loc.of hA ((g2.trans h2).trans L.1) fun j z hj => ?_
    rcases g4 j z hj with ⟨rfl, e⟩ | ⟨e1, e2, e3⟩
    · cases e
      exact List.mem_cons_self
    · rcases h4 j z e2 with ⟨-, e⟩ | ⟨f1, f2, f3⟩
      · cases e
      · refine List.mem_cons_of_mem _ (List.mem_filter.mpr ⟨tb_lv_mem f2, ?_⟩)
        by_cases hji : j + 1 = a
        · have := tb_cat α (e3 hji)
          simp [e1, f1, hji, this]
        · simp [e1, f1, hji]
  have h := k p e u m args below meth c H locs A' α Lv α0 C0 E hc hL hk1 K2.2 R S X
  rw [hp] at h
  exact h
theorem tb_iinc {n : Nat} {q : Int} {x z : Int32} {ls' : tbL} (hg : tb_get ls a = some (.inl x)) (hv : v = .inl z) (h2 : ls'.length = ls.length) (h3 : a < ls.length) (h4 : ∀ j w, tb_get ls' j = some w → (j = a ∧ some (.inl (x + z)) = some w) ∨ (j ≠ a ∧ tb_get ls j = some w ∧ (j + 1 = a → tb_long w = false)))
    (k : Ex γ y d mc ms Q nc ns cs ls' st s) : Ex γ y d mc ms Q nc ns ((pc, .iinc n q, a, b, l, v) :: cs) ls st s := by
  intro p e u m args below meth c H locs A α Lv α0 C0 E O L K1 K2 R S X
  obtain ⟨hd, hp, hc, hf⟩ := tb_Ok.go (n := 2) O rfl rfl
  obtain ⟨rfl, z', hz, hq⟩ := hf
  rw [hv] at hz
  cases hz
  have hk1 : tb_okl s ls' := tb_okl_put K1 (fun w e => by cases e; exact trivial) h4
  have hn : n < y.2.2.1 := by rw [← L.1]; exact h3
  obtain ⟨i, hi⟩ := List.getElem?_of_mem (tb_lv_mem (α := α) hg)
  refine lv_iinc (v := x + z) E.1 E.2.1 hd L.has hi (by rw [hq]) hn rfl fun A' hA => ?_
  have h := k p e u m args below meth c H locs A' α Lv α0 C0 E hc (tb_store1 (w := .inl (x + z)) rfl (h2.trans L.1) h4 hA) hk1 K2 R S X
  rw [hp] at h
  exact h
theorem tb_iadd {x1 x2 : Int32} (k : Ex γ y d mc ms Q nc ns cs ls (.inl (x1 + x2) :: st) s) : Ex γ y d mc ms Q nc ns ((pc, .iadd, a, b, l, v) :: cs) ls (.inl x2 :: .inl x1 :: st) s := by
  intro p e u m args below meth c H locs A α Lv α0 C0 E O L K1 K2 R S X
  obtain ⟨hd, hp, hc, hf⟩ := tb_Ok.go (n := 0) O rfl rfl
  have h := k p e u m args below meth c H locs A α Lv α0 C0 E hc L K1 ⟨trivial, K2.2.2⟩ R S X
  rw [hp] at h
  exact lv_iadd E.1 E.2.1 hd h
theorem tb_isub {x1 x2 : Int32} (k : Ex γ y d mc ms Q nc ns cs ls (.inl (x1 - x2) :: st) s) : Ex γ y d mc ms Q nc ns ((pc, .isub, a, b, l, v) :: cs) ls (.inl x2 :: .inl x1 :: st) s := by
  intro p e u m args below meth c H locs A α Lv α0 C0 E O L K1 K2 R S X
  obtain ⟨hd, hp, hc, hf⟩ := tb_Ok.go (n := 0) O rfl rfl
  have h := k p e u m args below meth c H locs A α Lv α0 C0 E hc L K1 ⟨trivial, K2.2.2⟩ R S X
  rw [hp] at h
  exact lv_isub E.1 E.2.1 hd h
theorem tb_imul {x1 x2 : Int32} (k : Ex γ y d mc ms Q nc ns cs ls (.inl (x1 * x2) :: st) s) : Ex γ y d mc ms Q nc ns ((pc, .imul, a, b, l, v) :: cs) ls (.inl x2 :: .inl x1 :: st) s := by
  intro p e u m args below meth c H locs A α Lv α0 C0 E O L K1 K2 R S X
  obtain ⟨hd, hp, hc, hf⟩ := tb_Ok.go (n := 0) O rfl rfl
  have h := k p e u m args below meth c H locs A α Lv α0 C0 E hc L K1 ⟨trivial, K2.2.2⟩ R S X
  rw [hp] at h
  exact lv_imul E.1 E.2.1 hd h
theorem tb_iand {x1 x2 : Int32} (k : Ex γ y d mc ms Q nc ns cs ls (.inl (x1 &&& x2) :: st) s) : Ex γ y d mc ms Q nc ns ((pc, .iand, a, b, l, v) :: cs) ls (.inl x2 :: .inl x1 :: st) s := by
  intro p e u m args below meth c H locs A α Lv α0 C0 E O L K1 K2 R S X
  obtain ⟨hd, hp, hc, hf⟩ := tb_Ok.go (n := 0) O rfl rfl
  have h := k p e u m args below meth c H locs A α Lv α0 C0 E hc L K1 ⟨trivial, K2.2.2⟩ R S X
  rw [hp] at h
  exact lv_iand E.1 E.2.1 hd h
theorem tb_ior {x1 x2 : Int32} (k : Ex γ y d mc ms Q nc ns cs ls (.inl (x1 ||| x2) :: st) s) : Ex γ y d mc ms Q nc ns ((pc, .ior, a, b, l, v) :: cs) ls (.inl x2 :: .inl x1 :: st) s := by
  intro p e u m args below meth c H locs A α Lv α0 C0 E O L K1 K2 R S X
  obtain ⟨hd, hp, hc, hf⟩ := tb_Ok.go (n := 0) O rfl rfl
  have h := k p e u m args below meth c H locs A α Lv α0 C0 E hc L K1 ⟨trivial, K2.2.2⟩ R S X
  rw [hp] at h
  exact lv_ior E.1 E.2.1 hd h
theorem tb_ixor {x1 x2 : Int32} (k : Ex γ y d mc ms Q nc ns cs ls (.inl (x1 ^^^ x2) :: st) s) : Ex γ y d mc ms Q nc ns ((pc, .ixor, a, b, l, v) :: cs) ls (.inl x2 :: .inl x1 :: st) s := by
  intro p e u m args below meth c H locs A α Lv α0 C0 E O L K1 K2 R S X
  obtain ⟨hd, hp, hc, hf⟩ := tb_Ok.go (n := 0) O rfl rfl
  have h := k p e u m args below meth c H locs A α Lv α0 C0 E hc L K1 ⟨trivial, K2.2.2⟩ R S X
  rw [hp] at h
  exact lv_ixor E.1 E.2.1 hd h
theorem tb_ishl {x1 x2 : Int32} (k : Ex γ y d mc ms Q nc ns cs ls (.inl (x1 <<< (x2 &&& 31)) :: st) s) : Ex γ y d mc ms Q nc ns ((pc, .ishl, a, b, l, v) :: cs) ls (.inl x2 :: .inl x1 :: st) s := by
  intro p e u m args below meth c H locs A α Lv α0 C0 E O L K1 K2 R S X
  obtain ⟨hd, hp, hc, hf⟩ := tb_Ok.go (n := 0) O rfl rfl
  have h := k p e u m args below meth c H locs A α Lv α0 C0 E hc L K1 ⟨trivial, K2.2.2⟩ R S X
  rw [hp] at h
  exact lv_ishl E.1 E.2.1 hd h
theorem tb_ishr {x1 x2 : Int32} (k : Ex γ y d mc ms Q nc ns cs ls (.inl (x1 >>> (x2 &&& 31)) :: st) s) : Ex γ y d mc ms Q nc ns ((pc, .ishr, a, b, l, v) :: cs) ls (.inl x2 :: .inl x1 :: st) s := by
  intro p e u m args below meth c H locs A α Lv α0 C0 E O L K1 K2 R S X
  obtain ⟨hd, hp, hc, hf⟩ := tb_Ok.go (n := 0) O rfl rfl
  have h := k p e u m args below meth c H locs A α Lv α0 C0 E hc L K1 ⟨trivial, K2.2.2⟩ R S X
  rw [hp] at h
  exact lv_ishr E.1 E.2.1 hd h
theorem tb_iushr {x1 x2 : Int32} (k : Ex γ y d mc ms Q nc ns cs ls (.inl ((x1.toUInt32 >>> (x2.toUInt32 &&& Int32.toUInt32 31)).toInt32) :: st) s) : Ex γ y d mc ms Q nc ns ((pc, .iushr, a, b, l, v) :: cs) ls (.inl x2 :: .inl x1 :: st) s := by
  intro p e u m args below meth c H locs A α Lv α0 C0 E O L K1 K2 R S X
  obtain ⟨hd, hp, hc, hf⟩ := tb_Ok.go (n := 0) O rfl rfl
  have h := k p e u m args below meth c H locs A α Lv α0 C0 E hc L K1 ⟨trivial, K2.2.2⟩ R S X
  rw [hp] at h
  exact lv_iushr E.1 E.2.1 hd rfl h
theorem tb_ineg {x1 : Int32} (k : Ex γ y d mc ms Q nc ns cs ls (.inl (-x1) :: st) s) : Ex γ y d mc ms Q nc ns ((pc, .ineg, a, b, l, v) :: cs) ls (.inl x1 :: st) s := by
  intro p e u m args below meth c H locs A α Lv α0 C0 E O L K1 K2 R S X
  obtain ⟨hd, hp, hc, hf⟩ := tb_Ok.go (n := 0) O rfl rfl
  have h := k p e u m args below meth c H locs A α Lv α0 C0 E hc L K1 ⟨trivial, K2.2⟩ R S X
  rw [hp] at h
  exact lv_ineg E.1 E.2.1 hd h
theorem tb_ladd {x1 x2 : Int64} (k : Ex γ y d mc ms Q nc ns cs ls (.inr (.inl (x1 + x2)) :: st) s) : Ex γ y d mc ms Q nc ns ((pc, .ladd, a, b, l, v) :: cs) ls (.inr (.inl x2) :: .inr (.inl x1) :: st) s := by
  intro p e u m args below meth c H locs A α Lv α0 C0 E O L K1 K2 R S X
  obtain ⟨hd, hp, hc, hf⟩ := tb_Ok.go (n := 0) O rfl rfl
  have h := k p e u m args below meth c H locs A α Lv α0 C0 E hc L K1 ⟨trivial, K2.2.2⟩ R S X
  rw [hp] at h
  exact lv_ladd E.1 E.2.1 hd h
theorem tb_lsub {x1 x2 : Int64} (k : Ex γ y d mc ms Q nc ns cs ls (.inr (.inl (x1 - x2)) :: st) s) : Ex γ y d mc ms Q nc ns ((pc, .lsub, a, b, l, v) :: cs) ls (.inr (.inl x2) :: .inr (.inl x1) :: st) s := by
  intro p e u m args below meth c H locs A α Lv α0 C0 E O L K1 K2 R S X
  obtain ⟨hd, hp, hc, hf⟩ := tb_Ok.go (n := 0) O rfl rfl
  have h := k p e u m args below meth c H locs A α Lv α0 C0 E hc L K1 ⟨trivial, K2.2.2⟩ R S X
  rw [hp] at h
  exact lv_lsub E.1 E.2.1 hd h
theorem tb_lmul {x1 x2 : Int64} (k : Ex γ y d mc ms Q nc ns cs ls (.inr (.inl (x1 * x2)) :: st) s) : Ex γ y d mc ms Q nc ns ((pc, .lmul, a, b, l, v) :: cs) ls (.inr (.inl x2) :: .inr (.inl x1) :: st) s := by
  intro p e u m args below meth c H locs A α Lv α0 C0 E O L K1 K2 R S X
  obtain ⟨hd, hp, hc, hf⟩ := tb_Ok.go (n := 0) O rfl rfl
  have h := k p e u m args below meth c H locs A α Lv α0 C0 E hc L K1 ⟨trivial, K2.2.2⟩ R S X
  rw [hp] at h
  exact lv_lmul E.1 E.2.1 hd h
theorem tb_lcmp {x1 x2 : Int64} (k : Ex γ y d mc ms Q nc ns cs ls (.inl (lg_cmp x1 x2) :: st) s) : Ex γ y d mc ms Q nc ns ((pc, .lcmp, a, b, l, v) :: cs) ls (.inr (.inl x2) :: .inr (.inl x1) :: st) s := by
  intro p e u m args below meth c H locs A α Lv α0 C0 E O L K1 K2 R S X
  obtain ⟨hd, hp, hc, hf⟩ := tb_Ok.go (n := 0) O rfl rfl
  have h := k p e u m args below meth c H locs A α Lv α0 C0 E hc L K1 ⟨trivial, K2.2.2⟩ R S X
  rw [hp] at h
  exact W.lcmp E.1 E.2.1 hd h
theorem tb_i2l {x1 : Int32} (k : Ex γ y d mc ms Q nc ns cs ls (.inr (.inl x1.toInt64) :: st) s) : Ex γ y d mc ms Q nc ns ((pc, .i2l, a, b, l, v) :: cs) ls (.inl x1 :: st) s := by
  intro p e u m args below meth c H locs A α Lv α0 C0 E O L K1 K2 R S X
  obtain ⟨hd, hp, hc, hf⟩ := tb_Ok.go (n := 0) O rfl rfl
  have h := k p e u m args below meth c H locs A α Lv α0 C0 E hc L K1 ⟨trivial, K2.2⟩ R S X
  rw [hp] at h
  exact lv_i2l E.1 E.2.1 hd rfl h
theorem tb_i2b {x1 : Int32} (k : Ex γ y d mc ms Q nc ns cs ls (.inl x1.toInt8.toInt32 :: st) s) : Ex γ y d mc ms Q nc ns ((pc, .i2b, a, b, l, v) :: cs) ls (.inl x1 :: st) s := by
  intro p e u m args below meth c H locs A α Lv α0 C0 E O L K1 K2 R S X
  obtain ⟨hd, hp, hc, hf⟩ := tb_Ok.go (n := 0) O rfl rfl
  have h := k p e u m args below meth c H locs A α Lv α0 C0 E hc L K1 ⟨trivial, K2.2⟩ R S X
  rw [hp] at h
  exact lv_i2b E.1 E.2.1 hd rfl h
theorem tb_i2s {x1 : Int32} (k : Ex γ y d mc ms Q nc ns cs ls (.inl x1.toInt16.toInt32 :: st) s) : Ex γ y d mc ms Q nc ns ((pc, .i2s, a, b, l, v) :: cs) ls (.inl x1 :: st) s := by
  intro p e u m args below meth c H locs A α Lv α0 C0 E O L K1 K2 R S X
  obtain ⟨hd, hp, hc, hf⟩ := tb_Ok.go (n := 0) O rfl rfl
  have h := k p e u m args below meth c H locs A α Lv α0 C0 E hc L K1 ⟨trivial, K2.2⟩ R S X
  rw [hp] at h
  exact lv_i2s E.1 E.2.1 hd rfl h
theorem tb_i2c {x1 : Int32} (k : Ex γ y d mc ms Q nc ns cs ls (.inl (x1.toUInt32 % 65536).toInt32 :: st) s) : Ex γ y d mc ms Q nc ns ((pc, .i2c, a, b, l, v) :: cs) ls (.inl x1 :: st) s := by
  intro p e u m args below meth c H locs A α Lv α0 C0 E O L K1 K2 R S X
  obtain ⟨hd, hp, hc, hf⟩ := tb_Ok.go (n := 0) O rfl rfl
  have h := k p e u m args below meth c H locs A α Lv α0 C0 E hc L K1 ⟨trivial, K2.2⟩ R S X
  rw [hp] at h
  exact lv_i2c E.1 E.2.1 hd rfl h
theorem tb_dup {w : tbV} (hw : tb_long w = false) (k : Ex γ y d mc ms Q nc ns cs ls (w :: w :: st) s) : Ex γ y d mc ms Q nc ns ((pc, .dup, a, b, l, v) :: cs) ls (w :: st) s := by
  intro p e u m args below meth c H locs A α Lv α0 C0 E O L K1 K2 R S X
  obtain ⟨hd, hp, hc, hf⟩ := tb_Ok.go (n := 0) O rfl rfl
  have h := k p e u m args below meth c H locs A α Lv α0 C0 E hc L K1 ⟨K2.1, K2⟩ R S X
  rw [hp] at h
  exact lv_dup E.1 E.2.1 hd (tb_cat α hw) h
theorem tb_pop {w : tbV} (hw : tb_long w = false) (k : Ex γ y d mc ms Q nc ns cs ls (st) s) : Ex γ y d mc ms Q nc ns ((pc, .pop, a, b, l, v) :: cs) ls (w :: st) s := by
  intro p e u m args below meth c H locs A α Lv α0 C0 E O L K1 K2 R S X
  obtain ⟨hd, hp, hc, hf⟩ := tb_Ok.go (n := 0) O rfl rfl
  have h := k p e u m args below meth c H locs A α Lv α0 C0 E hc L K1 K2.2 R S X
  rw [hp] at h
  exact lv_pop E.1 E.2.1 hd (tb_cat α hw) h
theorem tb_dup2 {w z : tbV} (hw : tb_long w = false) (hz : tb_long z = false) (k : Ex γ y d mc ms Q nc ns cs ls (w :: z :: w :: z :: st) s) : Ex γ y d mc ms Q nc ns ((pc, .dup2, a, b, l, v) :: cs) ls (w :: z :: st) s := by
  intro p e u m args below meth c H locs A α Lv α0 C0 E O L K1 K2 R S X
  obtain ⟨hd, hp, hc, hf⟩ := tb_Ok.go (n := 0) O rfl rfl
  have h := k p e u m args below meth c H locs A α Lv α0 C0 E hc L K1 ⟨K2.1, K2.2.1, K2⟩ R S X
  rw [hp] at h
  exact lv_dup2_11 E.1 E.2.1 hd (tb_cat α hw) (tb_cat α hz) h
theorem tb_dup_x1 {w z : tbV} (hw : tb_long w = false) (hz : tb_long z = false) (k : Ex γ y d mc ms Q nc ns cs ls (w :: z :: w :: st) s) : Ex γ y d mc ms Q nc ns ((pc, .dup_x1, a, b, l, v) :: cs) ls (w :: z :: st) s := by
  intro p e u m args below meth c H locs A α Lv α0 C0 E O L K1 K2 R S X
  obtain ⟨hd, hp, hc, hf⟩ := tb_Ok.go (n := 0) O rfl rfl
  have h := k p e u m args below meth c H locs A α Lv α0 C0 E hc L K1 ⟨K2.1, K2.2.1, K2.1, K2.2.2⟩ R S X
  rw [hp] at h
  exact lv_dup_x1 E.1 E.2.1 hd (tb_cat α hw) (tb_cat α hz) h
theorem tb_ldcS {n : Nat} (hv : tb_ok s v) (k : Ex γ y d mc ms Q nc ns cs ls (v :: st) s) : Ex γ y d mc ms Q nc ns ((pc, .ldc n, a, b, l, v) :: cs) ls st s := by
  intro p e u m args below meth c H locs A α Lv α0 C0 E O L K1 K2 R S X
  obtain ⟨hd, hp, hc, hf⟩ := tb_Ok.go (n := 1) O rfl rfl
  obtain ⟨q, i, h1, h2, h3, rfl⟩ := hf
  have h := k p e u m args below meth c H locs A α Lv α0 C0 E hc L K1 ⟨hv, K2⟩ R S X
  rw [hp] at h
  have hz := E.2.2.2.2.2.2.2.2.2.1.2.2.1.2.2.2.2.1 i q h1
  rw [h2, h3] at hz
  refine va_ldcS E.1 E.2.1 E.2.2.2.2.1 hz hd ?_
  have ha : α (77, i) = γ.2.2.2.2.1 77 i := R.2.2.2.2 77 i (by decide) (by decide)
  rw [← ha]
  exact h
theorem tb_jmp (k : Ex γ y d mc ms Q nc ns (y.2.2.2.2.2.2 a) ls st s) : Ex γ y d mc ms Q nc ns ((pc, .nop, a, b, l, v) :: cs) ls st s := by
  intro p e u m args below meth c H locs A α Lv α0 C0 E O L K1 K2 R S X
  obtain ⟨-, hf, -⟩ := O
  have h := k p e u m args below meth c H locs A α Lv α0 C0 E (E.2.2.2.2.2.2.2.2.2.2 a hf.1) L K1 K2 R S X
  rw [hf.2] at h
  exact h
theorem tb_goto {o : Int} (k : Ex γ y d mc ms Q nc ns (y.2.2.2.2.2.2 a) ls st s) : Ex γ y d mc ms Q nc ns ((pc, .goto o, a, b, l, v) :: cs) ls st s := by
  intro p e u m args below meth c H locs A α Lv α0 C0 E O L K1 K2 R S X
  obtain ⟨hd, hf⟩ := tb_Ok.at (n := 2) O (by intro h; cases h) rfl
  exact lv_goto E.1 E.2.1 hd hf.2 (k p e u m args below meth c H locs A α Lv α0 C0 E (E.2.2.2.2.2.2.2.2.2.2 a hf.1) L K1 K2 R S X)
theorem tb_icmp_eq {o : Int} {x1 x2 : Int32} (kt : (x1 = x2) → Ex γ y d mc ms Q nc ns (y.2.2.2.2.2.2 a) ls st s) (kf : ¬ (x1 = x2) → Ex γ y d mc ms Q nc ns cs ls st s) : Ex γ y d mc ms Q nc ns ((pc, .if_icmp .eq o, a, b, l, v) :: cs) ls (.inl x2 :: .inl x1 :: st) s := by
  intro p e u m args below meth c H locs A α Lv α0 C0 E O L K1 K2 R S X
  obtain ⟨hd, hp, hc, hf⟩ := tb_Ok.go (n := 2) O rfl rfl
  refine lv_icmp_eq E.1 E.2.1 hd hf.2 (fun hP => kt hP p e u m args below meth c H locs A α Lv α0 C0 E (E.2.2.2.2.2.2.2.2.2.2 a hf.1) L K1 K2.2.2 R S X) (fun hP => ?_)
  have h := kf hP p e u m args below meth c H locs A α Lv α0 C0 E hc L K1 K2.2.2 R S X
  rw [hp] at h
  exact h
theorem tb_if_eq {o : Int} {x1 : Int32} (kt : (x1 = 0) → Ex γ y d mc ms Q nc ns (y.2.2.2.2.2.2 a) ls st s) (kf : ¬ (x1 = 0) → Ex γ y d mc ms Q nc ns cs ls st s) : Ex γ y d mc ms Q nc ns ((pc, .ifCond .eq o, a, b, l, v) :: cs) ls (.inl x1 :: st) s := by
  intro p e u m args below meth c H locs A α Lv α0 C0 E O L K1 K2 R S X
  obtain ⟨hd, hp, hc, hf⟩ := tb_Ok.go (n := 2) O rfl rfl
  refine lv_if_eq E.1 E.2.1 hd hf.2 (fun hP => kt hP p e u m args below meth c H locs A α Lv α0 C0 E (E.2.2.2.2.2.2.2.2.2.2 a hf.1) L K1 K2.2 R S X) (fun hP => ?_)
  have h := kf hP p e u m args below meth c H locs A α Lv α0 C0 E hc L K1 K2.2 R S X
  rw [hp] at h
  exact h
theorem tb_icmp_ne {o : Int} {x1 x2 : Int32} (kt : (¬ x1 = x2) → Ex γ y d mc ms Q nc ns (y.2.2.2.2.2.2 a) ls st s) (kf :  x1 = x2 → Ex γ y d mc ms Q nc ns cs ls st s) : Ex γ y d mc ms Q nc ns ((pc, .if_icmp .ne o, a, b, l, v) :: cs) ls (.inl x2 :: .inl x1 :: st) s := by
  intro p e u m args below meth c H locs A α Lv α0 C0 E O L K1 K2 R S X
  obtain ⟨hd, hp, hc, hf⟩ := tb_Ok.go (n := 2) O rfl rfl
  refine lv_icmp_ne E.1 E.2.1 hd hf.2 (fun hP => kt hP p e u m args below meth c H locs A α Lv α0 C0 E (E.2.2.2.2.2.2.2.2.2.2 a hf.1) L K1 K2.2.2 R S X) (fun hP => ?_)
  have h := kf hP p e u m args below meth c H locs A α Lv α0 C0 E hc L K1 K2.2.2 R S X
  rw [hp] at h
  exact h
theorem tb_if_ne {o : Int} {x1 : Int32} (kt : (¬ x1 = 0) → Ex γ y d mc ms Q nc ns (y.2.2.2.2.2.2 a) ls st s) (kf :  x1 = 0 → Ex γ y d mc ms Q nc ns cs ls st s) : Ex γ y d mc ms Q nc ns ((pc, .ifCond .ne o, a, b, l, v) :: cs) ls (.inl x1 :: st) s := by
  intro p e u m args below meth c H locs A α Lv α0 C0 E O L K1 K2 R S X
  obtain ⟨hd, hp, hc, hf⟩ := tb_Ok.go (n := 2) O rfl rfl
  refine lv_if_ne E.1 E.2.1 hd hf.2 (fun hP => kt hP p e u m args below meth c H locs A α Lv α0 C0 E (E.2.2.2.2.2.2.2.2.2.2 a hf.1) L K1 K2.2 R S X) (fun hP => ?_)
  have h := kf hP p e u m args below meth c H locs A α Lv α0 C0 E hc L K1 K2.2 R S X
  rw [hp] at h
  exact h
theorem tb_icmp_lt {o : Int} {x1 x2 : Int32} (kt : (x1 < x2) → Ex γ y d mc ms Q nc ns (y.2.2.2.2.2.2 a) ls st s) (kf : ¬ (x1 < x2) → Ex γ y d mc ms Q nc ns cs ls st s) : Ex γ y d mc ms Q nc ns ((pc, .if_icmp .lt o, a, b, l, v) :: cs) ls (.inl x2 :: .inl x1 :: st) s := by
  intro p e u m args below meth c H locs A α Lv α0 C0 E O L K1 K2 R S X
  obtain ⟨hd, hp, hc, hf⟩ := tb_Ok.go (n := 2) O rfl rfl
  refine lv_icmp_lt E.1 E.2.1 hd hf.2 (fun hP => kt hP p e u m args below meth c H locs A α Lv α0 C0 E (E.2.2.2.2.2.2.2.2.2.2 a hf.1) L K1 K2.2.2 R S X) (fun hP => ?_)
  have h := kf hP p e u m args below meth c H locs A α Lv α0 C0 E hc L K1 K2.2.2 R S X
  rw [hp] at h
  exact h
theorem tb_if_lt {o : Int} {x1 : Int32} (kt : (x1 < 0) → Ex γ y d mc ms Q nc ns (y.2.2.2.2.2.2 a) ls st s) (kf : ¬ (x1 < 0) → Ex γ y d mc ms Q nc ns cs ls st s) : Ex γ y d mc ms Q nc ns ((pc, .ifCond .lt o, a, b, l, v) :: cs) ls (.inl x1 :: st) s := by
  intro p e u m args below meth c H locs A α Lv α0 C0 E O L K1 K2 R S X
  obtain ⟨hd, hp, hc, hf⟩ := tb_Ok.go (n := 2) O rfl rfl
  refine lv_if_lt E.1 E.2.1 hd hf.2 (fun hP => kt hP p e u m args below meth c H locs A α Lv α0 C0 E (E.2.2.2.2.2.2.2.2.2.2 a hf.1) L K1 K2.2 R S X) (fun hP => ?_)
  have h := kf hP p e u m args below meth c H locs A α Lv α0 C0 E hc L K1 K2.2 R S X
  rw [hp] at h
  exact h
theorem tb_icmp_ge {o : Int} {x1 x2 : Int32} (kt : (x2 ≤ x1) → Ex γ y d mc ms Q nc ns (y.2.2.2.2.2.2 a) ls st s) (kf : ¬ (x2 ≤ x1) → Ex γ y d mc ms Q nc ns cs ls st s) : Ex γ y d mc ms Q nc ns ((pc, .if_icmp .ge o, a, b, l, v) :: cs) ls (.inl x2 :: .inl x1 :: st) s := by
  intro p e u m args below meth c H locs A α Lv α0 C0 E O L K1 K2 R S X
  obtain ⟨hd, hp, hc, hf⟩ := tb_Ok.go (n := 2) O rfl rfl
  refine lv_icmp_ge E.1 E.2.1 hd hf.2 (fun hP => kt hP p e u m args below meth c H locs A α Lv α0 C0 E (E.2.2.2.2.2.2.2.2.2.2 a hf.1) L K1 K2.2.2 R S X) (fun hP => ?_)
  have h := kf hP p e u m args below meth c H locs A α Lv α0 C0 E hc L K1 K2.2.2 R S X
  rw [hp] at h
  exact h
theorem tb_if_ge {o : Int} {x1 : Int32} (kt : (0 ≤ x1) → Ex γ y d mc ms Q nc ns (y.2.2.2.2.2.2 a) ls st s) (kf : ¬ (0 ≤ x1) → Ex γ y d mc ms Q nc ns cs ls st s) : Ex γ y d mc ms Q nc ns ((pc, .ifCond .ge o, a, b, l, v) :: cs) ls (.inl x1 :: st) s := by
  intro p e u m args below meth c H locs A α Lv α0 C0 E O L K1 K2 R S X
  obtain ⟨hd, hp, hc, hf⟩ := tb_Ok.go (n := 2) O rfl rfl
  refine lv_if_ge E.1 E.2.1 hd hf.2 (fun hP => kt hP p e u m args below meth c H locs A α Lv α0 C0 E (E.2.2.2.2.2.2.2.2.2.2 a hf.1) L K1 K2.2 R S X) (fun hP => ?_)
  have h := kf hP p e u m args below meth c H locs A α Lv α0 C0 E hc L K1 K2.2 R S X
  rw [hp] at h
  exact h
theorem tb_icmp_gt {o : Int} {x1 x2 : Int32} (kt : (x2 < x1) → Ex γ y d mc ms Q nc ns (y.2.2.2.2.2.2 a) ls st s) (kf : ¬ (x2 < x1) → Ex γ y d mc ms Q nc ns cs ls st s) : Ex γ y d mc ms Q nc ns ((pc, .if_icmp .gt o, a, b, l, v) :: cs) ls (.inl x2 :: .inl x1 :: st) s := by
  intro p e u m args below meth c H locs A α Lv α0 C0 E O L K1 K2 R S X
  obtain ⟨hd, hp, hc, hf⟩ := tb_Ok.go (n := 2) O rfl rfl
  refine lv_icmp_gt E.1 E.2.1 hd hf.2 (fun hP => kt hP p e u m args below meth c H locs A α Lv α0 C0 E (E.2.2.2.2.2.2.2.2.2.2 a hf.1) L K1 K2.2.2 R S X) (fun hP => ?_)
  have h := kf hP p e u m args below meth c H locs A α Lv α0 C0 E hc L K1 K2.2.2 R S X
  rw [hp] at h
  exact h
theorem tb_if_gt {o : Int} {x1 : Int32} (kt : (0 < x1) → Ex γ y d mc ms Q nc ns (y.2.2.2.2.2.2 a) ls st s) (kf : ¬ (0 < x1) → Ex γ y d mc ms Q nc ns cs ls st s) : Ex γ y d mc ms Q nc ns ((pc, .ifCond .gt o, a, b, l, v) :: cs) ls (.inl x1 :: st) s := by
  intro p e u m args below meth c H locs A α Lv α0 C0 E O L K1 K2 R S X
  obtain ⟨hd, hp, hc, hf⟩ := tb_Ok.go (n := 2) O rfl rfl
  refine lv_if_gt E.1 E.2.1 hd hf.2 (fun hP => kt hP p e u m args below meth c H locs A α Lv α0 C0 E (E.2.2.2.2.2.2.2.2.2.2 a hf.1) L K1 K2.2 R S X) (fun hP => ?_)
  have h := kf hP p e u m args below meth c H locs A α Lv α0 C0 E hc L K1 K2.2 R S X
  rw [hp] at h
  exact h
theorem tb_icmp_le {o : Int} {x1 x2 : Int32} (kt : (x1 ≤ x2) → Ex γ y d mc ms Q nc ns (y.2.2.2.2.2.2 a) ls st s) (kf : ¬ (x1 ≤ x2) → Ex γ y d mc ms Q nc ns cs ls st s) : Ex γ y d mc ms Q nc ns ((pc, .if_icmp .le o, a, b, l, v) :: cs) ls (.inl x2 :: .inl x1 :: st) s := by
  intro p e u m args below meth c H locs A α Lv α0 C0 E O L K1 K2 R S X
  obtain ⟨hd, hp, hc, hf⟩ := tb_Ok.go (n := 2) O rfl rfl
  refine lv_icmp_le E.1 E.2.1 hd hf.2 (fun hP => kt hP p e u m args below meth c H locs A α Lv α0 C0 E (E.2.2.2.2.2.2.2.2.2.2 a hf.1) L K1 K2.2.2 R S X) (fun hP => ?_)
  have h := kf hP p e u m args below meth c H locs A α Lv α0 C0 E hc L K1 K2.2.2 R S X
  rw [hp] at h
  exact h
theorem tb_if_le {o : Int} {x1 : Int32} (kt : (x1 ≤ 0) → Ex γ y d mc ms Q nc ns (y.2.2.2.2.2.2 a) ls st s) (kf : ¬ (x1 ≤ 0) → Ex γ y d mc ms Q nc ns cs ls st s) : Ex γ y d mc ms Q nc ns ((pc, .ifCond .le o, a, b, l, v) :: cs) ls (.inl x1 :: st) s := by
  intro p e u m args below meth c H locs A α Lv α0 C0 E O L K1 K2 R S X
  obtain ⟨hd, hp, hc, hf⟩ := tb_Ok.go (n := 2) O rfl rfl
  refine lv_if_le E.1 E.2.1 hd hf.2 (fun hP => kt hP p e u m args below meth c H locs A α Lv α0 C0 E (E.2.2.2.2.2.2.2.2.2.2 a hf.1) L K1 K2.2 R S X) (fun hP => ?_)
  have h := kf hP p e u m args below meth c H locs A α Lv α0 C0 E hc L K1 K2.2 R S X
  rw [hp] at h
  exact h
theorem tb_ifnull {o : Int} {x : Option tbA} (kt : x = none → Ex γ y d mc ms Q nc ns (y.2.2.2.2.2.2 a) ls st s) (kf : ¬ x = none → Ex γ y d mc ms Q nc ns cs ls st s) : Ex γ y d mc ms Q nc ns ((pc, .ifnull o, a, b, l, v) :: cs) ls (.inr (.inr x) :: st) s := by
  intro p e u m args below meth c H locs A α Lv α0 C0 E O L K1 K2 R S X
  obtain ⟨hd, hp, hc, hf⟩ := tb_Ok.go (n := 2) O rfl rfl
  cases x with
  | none => exact lv_ifnullN E.1 E.2.1 hd hf.2 (kt rfl p e u m args below meth c H locs A α Lv α0 C0 E (E.2.2.2.2.2.2.2.2.2.2 a hf.1) L K1 K2.2 R S X)
  | some x =>
    have h := kf (fun z => by cases z) p e u m args below meth c H locs A α Lv α0 C0 E hc L K1 K2.2 R S X
    rw [hp] at h
    exact lv_ifnull E.1 E.2.1 hd h
theorem tb_ifnonnull {o : Int} {x : Option tbA} (kt : ¬ x = none → Ex γ y d mc ms Q nc ns (y.2.2.2.2.2.2 a) ls st s) (kf : x = none → Ex γ y d mc ms Q nc ns cs ls st s) : Ex γ y d mc ms Q nc ns ((pc, .ifnonnull o, a, b, l, v) :: cs) ls (.inr (.inr x) :: st) s := by
  intro p e u m args below meth c H locs A α Lv α0 C0 E O L K1 K2 R S X
  obtain ⟨hd, hp, hc, hf⟩ := tb_Ok.go (n := 2) O rfl rfl
  cases x with
  | some x => exact lv_ifnonnull E.1 E.2.1 hd hf.2 (kt (fun z => by cases z) p e u m args below meth c H locs A α Lv α0 C0 E (E.2.2.2.2.2.2.2.2.2.2 a hf.1) L K1 K2.2 R S X)
  | none =>
    have h := kf rfl p e u m args below meth c H locs A α Lv α0 C0 E hc L K1 K2.2 R S X
    rw [hp] at h
    exact lv_ifnonnullN E.1 E.2.1 hd h
theorem tb_idiv {x1 x2 : Int32} (hne : ¬ x2 = 0) (k : Ex γ y d mc ms Q nc ns cs ls (.inl (x1 / x2) :: st) s) : Ex γ y d mc ms Q nc ns ((pc, .idiv, a, b, l, v) :: cs) ls (.inl x2 :: .inl x1 :: st) s := by
  intro p e u m args below meth c H locs A α Lv α0 C0 E O L K1 K2 R S X
  obtain ⟨hd, hp, hc, hf⟩ := tb_Ok.go (n := 0) O rfl rfl
  have h := k p e u m args below meth c H locs A α Lv α0 C0 E hc L K1 ⟨trivial, K2.2.2⟩ R S X
  rw [hp] at h
  exact lv_idiv E.1 E.2.1 hd hne h
theorem tb_irem {x1 x2 : Int32} (hne : ¬ x2 = 0) (k : Ex γ y d mc ms Q nc ns cs ls (.inl (x1 - x1 / x2 * x2) :: st) s) : Ex γ y d mc ms Q nc ns ((pc, .irem, a, b, l, v) :: cs) ls (.inl x2 :: .inl x1 :: st) s := by
  intro p e u m args below meth c H locs A α Lv α0 C0 E O L K1 K2 R S X
  obtain ⟨hd, hp, hc, hf⟩ := tb_Ok.go (n := 0) O rfl rfl
  have h := k p e u m args below meth c H locs A α Lv α0 C0 E hc L K1 ⟨trivial, K2.2.2⟩ R S X
  rw [hp] at h
  exact lv_irem E.1 E.2.1 hd hne h
theorem tb_ldiv {x1 x2 : Int64} (hne : ¬ x2 = 0) (k : Ex γ y d mc ms Q nc ns cs ls (.inr (.inl (x1 / x2)) :: st) s) : Ex γ y d mc ms Q nc ns ((pc, .ldiv, a, b, l, v) :: cs) ls (.inr (.inl x2) :: .inr (.inl x1) :: st) s := by
  intro p e u m args below meth c H locs A α Lv α0 C0 E O L K1 K2 R S X
  obtain ⟨hd, hp, hc, hf⟩ := tb_Ok.go (n := 0) O rfl rfl
  have h := k p e u m args below meth c H locs A α Lv α0 C0 E hc L K1 ⟨trivial, K2.2.2⟩ R S X
  rw [hp] at h
  exact lv_ldiv E.1 E.2.1 hd hne h
theorem tb_lrem {x1 x2 : Int64} (hne : ¬ x2 = 0) (k : Ex γ y d mc ms Q nc ns cs ls (.inr (.inl (x1 - x1 / x2 * x2)) :: st) s) : Ex γ y d mc ms Q nc ns ((pc, .lrem, a, b, l, v) :: cs) ls (.inr (.inl x2) :: .inr (.inl x1) :: st) s := by
  intro p e u m args below meth c H locs A α Lv α0 C0 E O L K1 K2 R S X
  obtain ⟨hd, hp, hc, hf⟩ := tb_Ok.go (n := 0) O rfl rfl
  have h := k p e u m args below meth c H locs A α Lv α0 C0 E hc L K1 ⟨trivial, K2.2.2⟩ R S X
  rw [hp] at h
  exact lv_lrem E.1 E.2.1 hd hne h
end TBR
