/-! ENDS, BEGINNINGS, CALLS, EXCEPTIONS -/
set_option maxRecDepth 100000
theorem tb_K.moved {γ : tbG} {u U : State} (h : tb_K γ u) (hW : u.WarmedH U.vm) (h1 : γ.2.2.2.1.size ≤ U.heap.size) (h2 : ∀ q : Nat, q < γ.2.2.2.1.size → U.heap[q]? = γ.2.2.2.1[q]?) : tb_K γ U := by
  obtain ⟨k1, k2, ⟨x1, x2, x3, x4, x5, x6, x7, x8⟩, -, -, k6⟩ := h
  exact ⟨va_K.moved hW.alike k1, tb_nest_moved hW k2, ⟨x1.moved hW.alike, x2, x3.moved hW.alike, x4.moved hW.alike, fun i q hq => (x5 i q hq).warm hW, va_Z.moved hW.alike x6, vx_Zq.moved hW.alike x7, vx_Zq.moved hW.alike x8⟩, h1, h2, k6⟩
theorem tb_K.heap {γ : tbG} {u : State} {H : Heap} {locs : List Loc} (h : tb_K γ u) (S : va_S (tb_Ab γ) u.heap H locs) : γ.2.2.2.1.size ≤ H.size ∧ ∀ q : Nat, q < γ.2.2.2.1.size → H[q]? = γ.2.2.2.1[q]? :=
  ⟨Nat.le_trans h.2.2.2.1 S.1, fun q hq => (S.2.1 q (Nat.lt_of_lt_of_le hq h.2.2.2.1) (fun z => absurd hq (Nat.not_lt.mpr z))).trans (h.2.2.2.2.1 q hq)⟩
theorem tb_blind {γ : tbG} {α : tbA → Nat} {Lv : List tbA} {s : tbS} {As : List tbV} : FrameBlind (va_Pc (As.map (tb_tv α)) (fun U => tb_K γ U ∧ tb_Rep γ α Lv s U.heap ∧ tb_oks s As)) := by
  intro a U g mk h
  obtain ⟨h1, h2, h3⟩ := h
  exact ⟨h1, h2.moved (State.WarmedH.refl U) h2.2.2.2.1 h2.2.2.2.2.1, h3⟩
/-- the locals at the start -/
def tb_sl : List tbV → tbL
  | [] => []
  | .inr (.inl x) :: l => some (.inr (.inl x)) :: none :: tb_sl l
  | v :: l => some v :: tb_sl l
def tb_ent (n : Nat) (as : List tbV) : tbL := tb_sl as ++ List.replicate (n - (tb_sl as).length) none
theorem tb_get_none : ∀ {n j : Nat}, tb_get (List.replicate n none) j = none
  | 0, _ => rfl
  | _ + 1, 0 => rfl
  | n + 1, j + 1 => tb_get_none (n := n) (j := j)
theorem tb_sl_get {α : tbA → Nat} {m : Nat} : ∀ (as : List tbV) (i j : Nat) (v : tbV), tb_get (tb_sl as ++ List.replicate m none) j = some v → (i + j, tb_tv α v) ∈ lv_args i (as.map (tb_tv α))
  | [], _, _, _, h => by
    have h : tb_get (List.replicate m none) _ = some _ := h
    rw [tb_get_none] at h
    cases h
  | .inl x :: l, i, 0, v, h => by
    cases h
    exact List.mem_cons_self
  | .inl x :: l, i, j + 1, v, h => by
    have h2 := tb_sl_get (α := α) l (i + 1) j v h
    refine List.mem_cons_of_mem _ ?_
    rw [if_neg (by show ¬ (1 : Nat) = 2; decide)]
    rw [show i + (j + 1) = i + 1 + j by omega]
    exact h2
  | .inr (.inl x) :: l, i, 0, v, h => by
    cases h
    exact List.mem_cons_self
  | .inr (.inl x) :: l, i, 1, v, h => by cases h
  | .inr (.inl x) :: l, i, j + 2, v, h => by
    have h2 := tb_sl_get (α := α) l (i + 2) j v h
    refine List.mem_cons_of_mem _ ?_
    rw [if_pos (by rfl)]
    rw [show i + (j + 2) = i + 2 + j by omega]
    exact h2
  | .inr (.inr x) :: l, i, 0, v, h => by
    cases h
    exact List.mem_cons_self
  | .inr (.inr x) :: l, i, j + 1, v, h => by
    have h2 := tb_sl_get (α := α) l (i + 1) j v h
    refine List.mem_cons_of_mem _ ?_
    rw [if_neg (by have : (tb_tv α (.inr (.inr x))).category = 1 := tb_catR α x; omega)]
    rw [show i + (j + 1) = i + 1 + j by omega]
    exact h2
theorem tb_sl_len {α : tbA → Nat} : ∀ (as : List tbV), (lg_sl (as.map (tb_tv α))).length = (tb_sl as).length
  | [] => rfl
  | .inl x :: l => by
    show (List.flatMap _ (_ :: _)).length = _
    rw [List.flatMap_cons, List.length_append]
    have := tb_sl_len (α := α) l
    unfold lg_sl at this
    rw [this]
    show 1 + _ = _ + 1
    omega
  | .inr (.inl x) :: l => by
    show (List.flatMap _ (_ :: _)).length = _
    rw [List.flatMap_cons, List.length_append]
    have := tb_sl_len (α := α) l
    unfold lg_sl at this
    rw [this]
    show 2 + _ = _ + 1 + 1
    omega
  | .inr (.inr x) :: l => by
    show (List.flatMap _ (_ :: _)).length = _
    rw [List.flatMap_cons, List.length_append]
    have := tb_sl_len (α := α) l
    unfold lg_sl at this
    rw [this]
    have hc : (tb_tv α (.inr (.inr x))).category = 1 := tb_catR α x
    rw [if_neg (by omega)]
    show 1 + _ = _ + 1
    omega
theorem tb_okl_ent {s : tbS} {m : Nat} : ∀ (as : List tbV), tb_oks s as → tb_okl s (tb_sl as ++ List.replicate m none)
  | [], _ => fun i v h => by
    have h : tb_get (List.replicate m none) i = some v := h
    rw [tb_get_none] at h
    cases h
  | .inl x :: l, k => fun i v h => by
    cases i with
    | zero => cases h; trivial
    | succ i => exact tb_okl_ent l k.2 i v h
  | .inr (.inl x) :: l, k => fun i v h => by
    match i, h with
    | 0, h => cases h; trivial
    | 1, h => cases h
    | i + 2, h => exact tb_okl_ent l k.2 i v h
  | .inr (.inr x) :: l, k => fun i v h => by
    cases i with
    | zero => cases h; exact k.1
    | succ i => exact tb_okl_ent l k.2 i v h
theorem tb_ent_loc {α : tbA → Nat} {as : List tbV} {n : Nat} (h : (tb_sl as).length ≤ n) : tb_loc α n (tb_ent n as) ((lg_sl (as.map (tb_tv α)) ++ List.replicate (n - (lg_sl (as.map (tb_tv α))).length) Slot.unset).toArray) := by
  refine tb_loc.of (lv_entry (as.map (tb_tv α)) (by rw [tb_sl_len]; exact h)) (by unfold tb_ent; rw [List.length_append, List.length_replicate]; omega) fun j v hj => ?_
  have := tb_sl_get (α := α) as 0 j v hj
  rwa [Nat.zero_add] at this
section TBC
variable {γ : tbG} {y : tbM} {d mc ms : Nat} {Q : tbO → tbS → Prop} {nc ns pc a b : Nat} {cs : List tbI} {ls : tbL} {st : List tbV} {s : tbS} {l : List Nat} {v : tbV}
theorem MX.intro {as : List tbV} (hy : plainName y.1.cls = true) (hh : y.2.2.2.2.1 = []) (hall : tb_All y) (hn : (tb_sl as).length ≤ y.2.2.1) (hb : 0 < y.2.2.2.2.2.1) (h0 : tb_pc (y.2.2.2.2.2.2 0) = 0)
    (k : Ex γ y d mc ms Q 0 0 (y.2.2.2.2.2.2 0) (tb_ent y.2.2.1 as) [] s) : MX γ d mc ms y as s Q := by
  intro α Lv
  unfold tb_words
  rw [hh]
  refine vx_ofW (cc := y.2.1) (maxL := y.2.2.1) (ret := y.2.2.2.1) hy rfl ?_
  intro p e u m args below meth c s₁ B hml ht hv
  obtain ⟨rfl, hK, hR, hok⟩ := hv
  have hts := atoms_spec (ws := ws_ y.1 y.2.1 y.2.2.1 y.2.2.2.1) B.pre
  have hts : ∀ w ∈ lw_all, w.before _ u = true := fun w h => hts w (List.mem_cons_of_mem _ h)
  have hE : tb_Env γ y p u m _ meth c := ⟨B.exec, B.bytes, B.returns, hts, findClass_of_methodNamed B.named, B.notSynchronized, hml, (name_of_methodNamed B.named B.method).1, by
    rw [hh]
    exact List.eq_nil_iff_forall_not_mem.mpr ht, hK, hall⟩
  have h := k p e u m _ below meth c u.heap [] _ α Lv α s.2.2.2.2 hE (hall 0 hb) (tb_ent_loc hn) (tb_okl_ent as hok) trivial hR va_S.rf (fun c => ⟨Nat.le_refl _, fun _ _ => rfl⟩)
  rw [h0] at h
  rw [lg_entry_eq]
  exact h
theorem MX.introH {as : List tbV} {q : Nat × Nat × Nat × Nat} {hs : List (Nat × Nat × Nat × Nat)} (hy : plainName y.1.cls = true) (hh : y.2.2.2.2.1 = q :: hs) (hall : tb_All y) (hn : (tb_sl as).length ≤ y.2.2.1) (hb : 0 < y.2.2.2.2.2.1) (h0 : tb_pc (y.2.2.2.2.2.2 0) = 0)
    (k : Ex γ y d mc ms Q 0 0 (y.2.2.2.2.2.2 0) (tb_ent y.2.2.1 as) [] s) : MX γ d mc ms y as s Q := by
  intro α Lv
  unfold tb_words
  rw [hh]
  refine vx_ofWH (cc := y.2.1) (maxL := y.2.2.1) (ret := y.2.2.2.1) (hh := q :: hs) hy rfl ?_
  intro p e u m args below meth c s₁ B hml hv
  obtain ⟨rfl, hK, hR, hok⟩ := hv
  have hts0 := atoms_spec (ws := wsW_ y.1 y.2.1 y.2.2.1 y.2.2.2.1 (q :: hs)) B.pre
  have hts : ∀ w ∈ lw_all, w.before _ u = true := fun w h => hts0 w (List.mem_cons_of_mem _ h)
  have hE : tb_Env γ y p u m _ meth c := ⟨B.exec, B.bytes, B.returns, hts, findClass_of_methodNamed B.named, B.notSynchronized, hml, (name_of_methodNamed B.named B.method).1, by
    rw [hh]
    exact vx_table (x := y.1) B (hts0 _ List.mem_cons_self), hK, hall⟩
  have h := k p e u m _ below meth c u.heap [] _ α Lv α s.2.2.2.2 hE (hall 0 hb) (tb_ent_loc hn) (tb_okl_ent as hok) trivial hR va_S.rf (fun c => ⟨Nat.le_refl _, fun _ _ => rfl⟩)
  rw [h0] at h
  rw [lg_entry_eq]
  exact h
/-- ends -/
theorem tb_qc {p : Program} {e : Env} {u : State} {m : MethodId} {args : Array Value} {meth : Method} {c : Code} {H : Heap} {locs : List Loc} {α : tbA → Nat} {Lv : List tbA} {α0 : tbA → Nat} {C0 : Nat → Nat} {w : Option tbV} (hq : Q (.inl w) s) (hw : ∀ z, w = some z → tb_ok s z) (R : tb_Rep γ α Lv s H) (S : va_S (tb_Ab γ) u.heap H locs) (X : tb_Ext α0 C0 α s.2.2.2.2) :
    ∀ t : State, t.heap = H → u.WarmedH t.vm → tb_Qc γ Q α0 C0 args u (.returned (w.map (tb_tv α))) t :=
  fun t ht _ => ⟨⟨w, s, α, Lv, hq, rfl, X, hw, by rw [ht]; exact R⟩, S.F ht⟩
theorem tb_ireturn {x : Int32} {ty : FieldType} (hr : y.2.2.2.1 = some ty) (hn : narrow ty (.int x) = .int x) (h1 : nc ≤ mc) (h2 : ns ≤ ms) (hq : Q (.inl (some (.inl x))) s) : Ex γ y d mc ms Q nc ns ((pc, .ireturn, a, b, l, v) :: cs) ls [.inl x] s := by
  intro p e u m args below meth c0 H locs A α Lv α0 C0 E O L K1 K2 R S X
  obtain ⟨hd, hf⟩ := tb_Ok.at (n := 0) O (by intro h; cases h) rfl
  refine W.widen h1 h2 (vx_ret ?_)
  exact W.zret (v := x) E.1 E.2.1 (E.2.2.1.trans hr) hn (tb_qc (p := p) (e := e) (m := m) (meth := meth) (c := c0) (w := some (.inl x)) hq (fun z hz => by cases hz; trivial) R S X) S.2.2 hd E.2.2.2.2.2.1
theorem tb_lreturn {x : Int64} (hr : y.2.2.2.1 = some .long) (h1 : nc ≤ mc) (h2 : ns ≤ ms) (hq : Q (.inl (some (.inr (.inl x)))) s) : Ex γ y d mc ms Q nc ns ((pc, .lreturn, a, b, l, v) :: cs) ls [.inr (.inl x)] s := by
  intro p e u m args below meth c0 H locs A α Lv α0 C0 E O L K1 K2 R S X
  obtain ⟨hd, hf⟩ := tb_Ok.at (n := 0) O (by intro h; cases h) rfl
  refine W.widen h1 h2 (vx_ret ?_)
  exact W.lret (v := x) E.1 E.2.1 (E.2.2.1.trans hr) (tb_qc (p := p) (e := e) (m := m) (meth := meth) (c := c0) (w := some (.inr (.inl x))) hq (fun z hz => by cases hz; trivial) R S X) S.2.2 hd E.2.2.2.2.2.1
theorem tb_areturn {x : Option tbA} {rt : FieldType} (hr : y.2.2.2.1 = some rt) (hrt : (∃ n, rt = .object n) ∨ ∃ t, rt = .array t) (h1 : nc ≤ mc) (h2 : ns ≤ ms) (hq : Q (.inl (some (.inr (.inr x)))) s) : Ex γ y d mc ms Q nc ns ((pc, .areturn, a, b, l, v) :: cs) ls [.inr (.inr x)] s := by
  intro p e u m args below meth c0 H locs A α Lv α0 C0 E O L K1 K2 R S X
  obtain ⟨hd, hf⟩ := tb_Ok.at (n := 0) O (by intro h; cases h) rfl
  refine W.widen h1 h2 (vx_ret ?_)
  exact W.aret (v := va_rf (x.map α)) E.1 E.2.1 (E.2.2.1.trans hr) hrt (tb_rf_or α x) (tb_qc (p := p) (e := e) (m := m) (meth := meth) (c := c0) (w := some (.inr (.inr x))) hq (fun z hz => by cases hz; exact K2.1) R S X) S.2.2 hd E.2.2.2.2.2.1
theorem tb_return (hr : y.2.2.2.1 = none) (h1 : nc ≤ mc) (h2 : ns ≤ ms) (hq : Q (.inl none) s) : Ex γ y d mc ms Q nc ns ((pc, .return_, a, b, l, v) :: cs) ls [] s := by
  intro p e u m args below meth c0 H locs A α Lv α0 C0 E O L K1 K2 R S X
  obtain ⟨hd, hf⟩ := tb_Ok.at (n := 0) O (by intro h; cases h) rfl
  refine W.widen h1 h2 (vx_ret ?_)
  exact W.vret E.1 E.2.1 (E.2.2.1.trans hr) (tb_qc (p := p) (e := e) (m := m) (meth := meth) (c := c0) (w := none) hq (fun z hz => by cases hz) R S X) S.2.2 hd E.2.2.2.2.2.1
/-- exceptions: thrown, out of the method, caught -/
theorem tb_athrow {c k : Nat} {C : String} {T : u_T} {N : Nat} (hr : (tb_role c).1 = 0) (hcl : tb_cl[(tb_role c).2.1]? = some (C, T, N)) (kk : ExX γ y d mc ms Q nc ns pc ls C (c, k) s) : Ex γ y d mc ms Q nc ns ((pc, .athrow, a, b, l, v) :: cs) ls (.inr (.inr (some (c, k))) :: st) s := by
  intro p e u m args below meth c0 H locs A α Lv α0 C0 E O L K1 K2 R S X
  obtain ⟨hd, hf⟩ := tb_Ok.at (n := 0) O (by intro h; cases h) rfl
  have hm : (c, k) ∈ Lv := (R.2.2.1 c k).mpr ⟨by rw [hr]; decide, K2.1⟩
  obtain ⟨q0, -, hw⟩ := tb_at_w (γ := γ) (α := α) (s := s) hm
  rw [tb_cel_obj hr] at hw
  obtain ⟨r, z1, cell, q1, q2, q3, q4⟩ := R.1 q0 _ hw
  cases Option.some.inj (z1.symm.trans hcl)
  have hK : va_K γ.2.1 tb_cl (tb_tyl γ) u := E.2.2.2.2.2.2.2.2.2.1.1
  obtain ⟨hS, hfc, kC, hkC, hkind⟩ := hK.1 _ _ hcl
  refine vx_athrow E.1 E.2.1 hd ?_
  exact kk p e u m args below meth c0 H locs A α Lv α0 C0 cell _ E L K1 K2.1 R S X q1 q3 (by rw [q2]; exact hfc)
theorem ExX.out {E0 : String} {x : tbA} (hcov : ∀ z ∈ tableOf y.2.2.2.2.1, covers z pc = false) (h1 : nc ≤ mc) (h2 : ns ≤ ms) (hq : Q (.inr (E0, x)) s) : ExX γ y d mc ms Q nc ns pc ls E0 x s := by
  intro p e u m args below meth c0 H locs A α Lv α0 C0 ce rest E L K1 hx R S X g1 g2 g3
  refine vx_out (by rw [E.2.2.2.2.2.2.2.2.1]; exact hcov) E.2.2.2.2.2.1 g1 g2 g3 (fun t ht _ => ?_) S.2.2 h1 h2
  exact ⟨⟨x, s, α, Lv, hq, rfl, X, hx, by rw [ht]; exact R⟩, S.F ht⟩
theorem ExX.catch {E0 nm : String} {x : tbA} {h : Nat × Nat × Nat × Nat} {hs : List (Nat × Nat × Nat × Nat)} {z : ExceptionTableEntry} {zs : List ExceptionTableEntry} (n : Nat) (hh : tableOf y.2.2.2.2.1 = z :: zs) (hcov : covers z pc = true) (h0 : z.catchType ≠ 0)
    (hl : Jvm.Cond.classLink y.1.cls z.catchType nm ∈ lw_all) (hc : Jvm.Cond.castable E0 nm ∈ tb_nest) (hb : n < y.2.2.2.2.2.1) (hp : tb_pc (y.2.2.2.2.2.2 n) = z.handlerPc)
    (kk : Ex γ y d mc ms Q nc ns (y.2.2.2.2.2.2 n) ls [.inr (.inr (some x))] s) : ExX γ y d mc ms Q nc ns pc ls E0 x s := by
  intro p e u m args below meth c0 H locs A α Lv α0 C0 ce rest E L K1 hx R S X g1 g2 g3
  have h := kk p e u m args below meth c0 H locs A α Lv α0 C0 E (E.2.2.2.2.2.2.2.2.2.2 n hb) L K1 ⟨hx, trivial⟩ R S X
  rw [hp] at h
  refine vx_catch E.2.2.2.2.1 [] z zs (by rw [E.2.2.2.2.2.2.2.2.1]; exact hh) (fun _ h => absurd h List.not_mem_nil) hcov h0 (E.2.2.2.1 _ hl) (va_Nw.use rfl (E.2.2.2.2.2.2.2.2.2.1.2.1 _ hc)) g1 g2 g3 h
end TBC
/-- A CALL that the tables allow: from the code of class own, this instruction comes to the method tgt (its receiver of class Cr), with n arguments -/
def tb_Call (own : String) (ins : Instr) (tgt : tbM) (Cr : Option String) (n : Nat) : Prop :=
  ∀ (γ : tbG) (y : tbM) (d mc ms d' mc' ms' : Nat) (p : Program) (e : Env) (u : State) (m : MethodId) (args : Array Value) (below : List Frame) (meth : Method) (c : Code) (H : Heap) (locs : List Loc) (nc ns pc : Nat) (A : Array Slot) (As rest : List Value)
    (Pc : Array Value → State → Prop) (Qc : Array Value → State → Outcome → State → Prop) (XC : String → Addr → State → State → Prop),
    tb_Env γ y p u m args meth c → y.1.cls = own → decode y.2.1 pc = .ok (ins, 3) → A.size = y.2.2.1 → As.length = n → (rest.map fun v => v.category).sum ≤ 8 → d' + 1 ≤ d → nc + mc' ≤ mc → ns + ms' ≤ ms →
    vx_Met γ.1 tgt.1 (tb_words tgt) (tb_rm d' mc' ms') Pc Qc XC mc' ms' (tb_Ab γ) → FrameBlind Pc → (∀ U : State, U.heap = H → u.WarmedH U.vm → Pc As.toArray U) →
    (∀ C, Cr = some C → ∃ (b : Addr) (As' : List Value), As = .ref b :: As' ∧ ∃ cellB : Cell, H[b]? = some cellB ∧ cellB.vm.isStatics = false ∧ u.vm.findClass C = some cellB.cls) →
    vx_Run p γ.1 e (tb_rm d mc ms) u m args below meth c H locs nc ns mc' ms' (F0 m pc A (As.reverse ++ rest)) rest (Qc As.toArray) XC (tb_Ab γ)
def tb_notMH (s : String) : Prop := s ≠ "java/lang/invoke/MethodHandle" ∧ s ≠ "java/lang/invoke/VarHandle"
theorem tb_roomOk {d d' mc ms mc' ms' mL : Nat} (h : d' + 1 ≤ d) (hL : mL ≤ 45) : (tb_rm d' mc' ms').frames + 1 ≤ (tb_rm d mc ms).frames ∧ 8 + (mL + 11) + (tb_rm d' mc' ms').locals ≤ (tb_rm d mc ms).locals := by
  refine ⟨h, ?_⟩
  show 8 + (mL + 11) + (64 * d' + 64) ≤ 64 * d + 64
  omega
theorem tb_callV {own : String} {idx n : Nat} {tgt : tbM} (hh : tgt.2.2.2.2.1 = []) (hL : tgt.2.2.1 ≤ 45) (hy : tb_notMH tgt.1.cls) (hp : (parseMethodDescriptor tgt.1.desc).map (fun d => d.parameters.length) = some n)
    (h1 : Jvm.Cond.methodLink own idx tgt.1 ∈ lw_all) (h2 : Jvm.Cond.instanceMethod tgt.1 ∈ lw_all) (h3 : Jvm.Cond.selects tgt.1.cls tgt.1 tgt.1 ∈ lw_all) (h4 : Jvm.Cond.initialized tgt.1.cls ∈ lw_all) (h5 : Jvm.Cond.code tgt.1 tgt.2.1 tgt.2.2.1 tgt.2.2.2.1 ∈ lw_all) :
    tb_Call own (.invokevirtual idx) tgt (some tgt.1.cls) (n + 1) := by
  intro γ y d mc ms d' mc' ms' p e u m args below meth c H locs nc ns pc A As rest Pc Qc XC E ho hd hA hAs hW hdd hnc hns hM hbl hPc hrec
  obtain ⟨b, As', rfl, hcell⟩ := hrec _ rfl
  unfold tb_words at hM
  rw [hh] at hM
  have hst : (Value.ref b :: As').reverse ++ rest = As'.reverse ++ .ref b :: rest := by simp
  rw [hst]
  exact vx_runV (C := tgt.1.cls) (g := F0 m pc A (As'.reverse ++ .ref b :: rest)) (Ts := lw_all) (own := own) ⟨E.1, E.2.1, E.2.2.2.2.2.2.1, ho ▸ E.2.2.2.2.1, E.2.2.2.1⟩ hM (cwV n E.2.2.2.1 (lw_V h1 h2 h3 h4 h5) rfl rfl rfl ⟨rfl, hy.1, hy.2, hp⟩ (tb_roomOk hdd hL)) ⟨hbl, hcell, hPc⟩ rfl (by simpa using hAs) hA rfl (by show 2 * 0 + _ ≤ 8; omega) hd ⟨hnc, hns⟩
theorem tb_callVH {own : String} {idx n : Nat} {tgt : tbM} {q : Nat × Nat × Nat × Nat} {hs : List (Nat × Nat × Nat × Nat)} (hh : tgt.2.2.2.2.1 = q :: hs) (hL : tgt.2.2.1 ≤ 45) (hy : tb_notMH tgt.1.cls) (hp : (parseMethodDescriptor tgt.1.desc).map (fun d => d.parameters.length) = some n)
    (h1 : Jvm.Cond.methodLink own idx tgt.1 ∈ lw_all) (h2 : Jvm.Cond.instanceMethod tgt.1 ∈ lw_all) (h3 : Jvm.Cond.selects tgt.1.cls tgt.1 tgt.1 ∈ lw_all) (h4 : Jvm.Cond.initialized tgt.1.cls ∈ lw_all) (h5 : Jvm.Cond.codeWith tgt.1 tgt.2.1 tgt.2.2.1 tgt.2.2.2.1 (q :: hs) ∈ lw_all) :
    tb_Call own (.invokevirtual idx) tgt (some tgt.1.cls) (n + 1) := by
  intro γ y d mc ms d' mc' ms' p e u m args below meth c H locs nc ns pc A As rest Pc Qc XC E ho hd hA hAs hW hdd hnc hns hM hbl hPc hrec
  obtain ⟨b, As', rfl, hcell⟩ := hrec _ rfl
  unfold tb_words at hM
  rw [hh] at hM
  have hst : (Value.ref b :: As').reverse ++ rest = As'.reverse ++ .ref b :: rest := by simp
  rw [hst]
  exact vx_runVX (C := tgt.1.cls) (g := F0 m pc A (As'.reverse ++ .ref b :: rest)) (Ts := lw_all) (own := own) ⟨E.1, E.2.1, E.2.2.2.2.2.2.1, ho ▸ E.2.2.2.2.1, E.2.2.2.1⟩ hM (vx_cwVW n E.2.2.2.1 (lw_VW h1 h2 h3 h4 h5) rfl rfl rfl ⟨rfl, hy.1, hy.2, hp⟩ (tb_roomOk hdd hL)) ⟨hbl, hcell, hPc⟩ rfl (by simpa using hAs) hA rfl (by show 2 * 0 + _ ≤ 8; omega) hd ⟨hnc, hns⟩
theorem tb_callS {own : String} {idx n : Nat} {tgt : tbM} (hh : tgt.2.2.2.2.1 = []) (hL : tgt.2.2.1 ≤ 45) (hy : tb_notMH tgt.1.cls) (hp : (parseMethodDescriptor tgt.1.desc).map (fun d => d.parameters.length) = some n)
    (h1 : Jvm.Cond.methodLink own idx tgt.1 ∈ lw_all) (h2 : Jvm.Cond.static tgt.1 ∈ lw_all) (h4 : Jvm.Cond.initialized tgt.1.cls ∈ lw_all) (h5 : Jvm.Cond.code tgt.1 tgt.2.1 tgt.2.2.1 tgt.2.2.2.1 ∈ lw_all) :
    tb_Call own (.invokestatic idx) tgt none n := by
  intro γ y d mc ms d' mc' ms' p e u m args below meth c H locs nc ns pc A As rest Pc Qc XC E ho hd hA hAs hW hdd hnc hns hM hbl hPc hrec
  unfold tb_words at hM
  rw [hh] at hM
  exact vx_runS (g := F0 m pc A (As.reverse ++ rest)) (Ts := lw_all) (own := own) ⟨E.1, E.2.1, E.2.2.2.2.2.2.1, ho ▸ E.2.2.2.2.1, E.2.2.2.1⟩ hM (va_cwS n E.2.2.2.1 (lw_S h1 h2 h4 h5) rfl rfl rfl ⟨hy.1, hy.2, hp⟩ (tb_roomOk hdd hL)) ⟨hbl, hPc⟩ rfl hAs hA rfl (by show 2 * 0 + _ ≤ 8; omega) hd ⟨hnc, hns⟩
theorem tb_callSH {own : String} {idx n : Nat} {tgt : tbM} {q : Nat × Nat × Nat × Nat} {hs : List (Nat × Nat × Nat × Nat)} (hh : tgt.2.2.2.2.1 = q :: hs) (hL : tgt.2.2.1 ≤ 45) (hy : tb_notMH tgt.1.cls) (hp : (parseMethodDescriptor tgt.1.desc).map (fun d => d.parameters.length) = some n)
    (h1 : Jvm.Cond.methodLink own idx tgt.1 ∈ lw_all) (h2 : Jvm.Cond.static tgt.1 ∈ lw_all) (h4 : Jvm.Cond.initialized tgt.1.cls ∈ lw_all) (h5 : Jvm.Cond.codeWith tgt.1 tgt.2.1 tgt.2.2.1 tgt.2.2.2.1 (q :: hs) ∈ lw_all) :
    tb_Call own (.invokestatic idx) tgt none n := by
  intro γ y d mc ms d' mc' ms' p e u m args below meth c H locs nc ns pc A As rest Pc Qc XC E ho hd hA hAs hW hdd hnc hns hM hbl hPc hrec
  unfold tb_words at hM
  rw [hh] at hM
  exact vx_runSX (g := F0 m pc A (As.reverse ++ rest)) (Ts := lw_all) (own := own) ⟨E.1, E.2.1, E.2.2.2.2.2.2.1, ho ▸ E.2.2.2.2.1, E.2.2.2.1⟩ hM (vx_cwSW n E.2.2.2.1 (lw_SW h1 h2 h4 h5) rfl rfl rfl ⟨hy.1, hy.2, hp⟩ (tb_roomOk hdd hL)) ⟨hbl, hPc⟩ rfl hAs hA rfl (by show 2 * 0 + _ ≤ 8; omega) hd ⟨hnc, hns⟩
theorem tb_callI {own C : String} {idx n : Nat} {tgt : tbM} (hh : tgt.2.2.2.2.1 = []) (hL : tgt.2.2.1 ≤ 45) (hy : tb_notMH tgt.1.cls) (hp : (parseMethodDescriptor tgt.1.desc).map (fun d => d.parameters.length) = some n) (hi : tgt.1.name = "<init>") (hr : tgt.2.2.2.1 = none)
    (h1 : Jvm.Cond.methodLink own idx tgt.1 ∈ lw_all) (h2 : Jvm.Cond.instanceMethod tgt.1 ∈ lw_all) (h4 : Jvm.Cond.initialized tgt.1.cls ∈ lw_all) (h5 : Jvm.Cond.code tgt.1 tgt.2.1 tgt.2.2.1 tgt.2.2.2.1 ∈ lw_all) :
    tb_Call own (.invokespecial idx) tgt (some C) (n + 1) := by
  intro γ y d mc ms d' mc' ms' p e u m args below meth c H locs nc ns pc A As rest Pc Qc XC E ho hd hA hAs hW hdd hnc hns hM hbl hPc hrec
  obtain ⟨b, As', rfl, hcell⟩ := hrec _ rfl
  unfold tb_words at hM
  rw [hh] at hM
  rw [hr] at hM h5
  have hst : (Value.ref b :: As').reverse ++ rest = As'.reverse ++ .ref b :: rest := by simp
  rw [hst]
  exact vx_runI (g := F0 m pc A (As'.reverse ++ .ref b :: rest)) (Ts := lw_all) (own := own) ⟨E.1, E.2.1, E.2.2.2.2.2.2.1, ho ▸ E.2.2.2.2.1, E.2.2.2.1⟩ hM (cwI n E.2.2.2.1 (lw_meth h5) rfl rfl rfl (E.2.2.2.1 _ h4) (E.2.2.2.1 _ h1) (E.2.2.2.1 _ h2) hi ⟨hy.1, hy.2, hp⟩ (tb_roomOk hdd hL)) ⟨hbl, hPc⟩ rfl (by simpa using hAs) hA rfl (by show 2 * 0 + _ ≤ 8; omega) hd ⟨hnc, hns⟩
theorem tb_callIN {own C host : String} {idx n : Nat} {tgt : tbM} (hh : tgt.2.2.2.2.1 = []) (hL : tgt.2.2.1 ≤ 45) (hy : tb_notMH tgt.1.cls) (hp : (parseMethodDescriptor tgt.1.desc).map (fun d => d.parameters.length) = some n) (hi : tgt.1.name = "<init>") (hr : tgt.2.2.2.1 = none)
    (h1 : Jvm.Cond.methodLinkNest own idx tgt.1 host ∈ tb_nest) (h2 : Jvm.Cond.instanceMethod tgt.1 ∈ lw_all) (h4 : Jvm.Cond.initialized tgt.1.cls ∈ lw_all) (h5 : Jvm.Cond.code tgt.1 tgt.2.1 tgt.2.2.1 tgt.2.2.2.1 ∈ lw_all) :
    tb_Call own (.invokespecial idx) tgt (some C) (n + 1) := by
  intro γ y d mc ms d' mc' ms' p e u m args below meth c H locs nc ns pc A As rest Pc Qc XC E ho hd hA hAs hW hdd hnc hns hM hbl hPc hrec
  obtain ⟨b, As', rfl, hcell⟩ := hrec _ rfl
  unfold tb_words at hM
  rw [hh] at hM
  rw [hr] at hM h5
  have hst : (Value.ref b :: As').reverse ++ rest = As'.reverse ++ .ref b :: rest := by simp
  rw [hst]
  exact vx_runIN (g := F0 m pc A (As'.reverse ++ .ref b :: rest)) (Ts := lw_all) (own := own) ⟨E.1, E.2.1, E.2.2.2.2.2.2.1, ho ▸ E.2.2.2.2.1, E.2.2.2.1⟩ hM ⟨va_cnB n E.2.2.2.1 (lw_meth h5) rfl rfl rfl (E.2.2.2.2.2.2.2.2.2.1.2.1 _ h1) (E.2.2.2.1 _ h4) ⟨hy.1, hy.2, hp⟩ (tb_roomOk hdd hL), hi, E.2.2.2.1 _ h2⟩ ⟨hbl, hPc⟩ rfl (by simpa using hAs) hA rfl (by show 2 * 0 + _ ≤ 8; omega) hd ⟨hnc, hns⟩
theorem tb_callVN {own host : String} {idx n : Nat} {tgt : tbM} (hh : tgt.2.2.2.2.1 = []) (hL : tgt.2.2.1 ≤ 45) (hy : tb_notMH tgt.1.cls) (hp : (parseMethodDescriptor tgt.1.desc).map (fun d => d.parameters.length) = some n)
    (h1 : Jvm.Cond.methodLinkNest own idx tgt.1 host ∈ tb_nest) (h2 : Jvm.Cond.instanceMethod tgt.1 ∈ lw_all) (h3 : Jvm.Cond.selects tgt.1.cls tgt.1 tgt.1 ∈ lw_all) (h4 : Jvm.Cond.initialized tgt.1.cls ∈ lw_all) (h5 : Jvm.Cond.code tgt.1 tgt.2.1 tgt.2.2.1 tgt.2.2.2.1 ∈ lw_all) :
    tb_Call own (.invokevirtual idx) tgt (some tgt.1.cls) (n + 1) := by
  intro γ y d mc ms d' mc' ms' p e u m args below meth c H locs nc ns pc A As rest Pc Qc XC E ho hd hA hAs hW hdd hnc hns hM hbl hPc hrec
  obtain ⟨b, As', rfl, hcell⟩ := hrec _ rfl
  unfold tb_words at hM
  rw [hh] at hM
  have hst : (Value.ref b :: As').reverse ++ rest = As'.reverse ++ .ref b :: rest := by simp
  rw [hst]
  exact vx_runVN (C := tgt.1.cls) (g := F0 m pc A (As'.reverse ++ .ref b :: rest)) (Ts := lw_all) (own := own) ⟨E.1, E.2.1, E.2.2.2.2.2.2.1, ho ▸ E.2.2.2.2.1, E.2.2.2.1⟩ hM ⟨va_cnB n E.2.2.2.1 (lw_meth h5) rfl rfl rfl (E.2.2.2.2.2.2.2.2.2.1.2.1 _ h1) (E.2.2.2.1 _ h4) ⟨hy.1, hy.2, hp⟩ (tb_roomOk hdd hL), E.2.2.2.1 _ h2, E.2.2.2.1 _ h3⟩ ⟨hbl, hcell, hPc⟩ rfl (by simpa using hAs) hA rfl (by show 2 * 0 + _ ≤ 8; omega) hd ⟨hnc, hns⟩
theorem tb_callSN {own host : String} {idx n : Nat} {tgt : tbM} (hh : tgt.2.2.2.2.1 = []) (hL : tgt.2.2.1 ≤ 45) (hy : tb_notMH tgt.1.cls) (hp : (parseMethodDescriptor tgt.1.desc).map (fun d => d.parameters.length) = some n)
    (h1 : Jvm.Cond.methodLinkNest own idx tgt.1 host ∈ tb_nest) (h2 : Jvm.Cond.static tgt.1 ∈ lw_all) (h4 : Jvm.Cond.initialized tgt.1.cls ∈ lw_all) (h5 : Jvm.Cond.code tgt.1 tgt.2.1 tgt.2.2.1 tgt.2.2.2.1 ∈ lw_all) :
    tb_Call own (.invokestatic idx) tgt none n := by
  intro γ y d mc ms d' mc' ms' p e u m args below meth c H locs nc ns pc A As rest Pc Qc XC E ho hd hA hAs hW hdd hnc hns hM hbl hPc hrec
  unfold tb_words at hM
  rw [hh] at hM
  exact vx_runSN (g := F0 m pc A (As.reverse ++ rest)) (Ts := lw_all) (own := own) ⟨E.1, E.2.1, E.2.2.2.2.2.2.1, ho ▸ E.2.2.2.2.1, E.2.2.2.1⟩ hM ⟨va_cnB n E.2.2.2.1 (lw_meth h5) rfl rfl rfl (E.2.2.2.2.2.2.2.2.2.1.2.1 _ h1) (E.2.2.2.1 _ h4) ⟨hy.1, hy.2, hp⟩ (tb_roomOk hdd hL), E.2.2.2.1 _ h2, trivial⟩ ⟨hbl, hPc⟩ rfl hAs hA rfl (by show 2 * 0 + _ ≤ 8; omega) hd ⟨hnc, hns⟩
/-- a call of an inherited or overriding method: named x, declared by owner, selected y -/
theorem tb_callU {own C owner : String} {x : MethodName} {idx n : Nat} {tgt : tbM} (hh : tgt.2.2.2.2.1 = []) (hL : tgt.2.2.1 ≤ 45) (hy : tb_notMH owner) (hp : (parseMethodDescriptor x.desc).map (fun d => d.parameters.length) = some n)
    (h1 : Jvm.Cond.methodLink own idx x ∈ lw_all) (h2 : Jvm.Cond.sameMethod x.cls owner x.name x.desc ∈ lw_all) (h3 : Jvm.Cond.selects C x tgt.1 ∈ lw_all) (h6 : Jvm.Cond.instanceMethod tgt.1 ∈ lw_all) (h4 : Jvm.Cond.initialized tgt.1.cls ∈ lw_all) (h5 : Jvm.Cond.code tgt.1 tgt.2.1 tgt.2.2.1 tgt.2.2.2.1 ∈ lw_all) (h7 : Jvm.Cond.declares ⟨owner, x.name, x.desc⟩ ∈ tb_nest) :
    tb_Call own (.invokevirtual idx) tgt (some C) (n + 1) := by
  intro γ y d mc ms d' mc' ms' p e u m args below meth c H locs nc ns pc A As rest Pc Qc XC E ho hd hA hAs hW hdd hnc hns hM hbl hPc hrec
  obtain ⟨b, As', rfl, hcell⟩ := hrec _ rfl
  unfold tb_words at hM
  rw [hh] at hM
  have hst : (Value.ref b :: As').reverse ++ rest = As'.reverse ++ .ref b :: rest := by simp
  rw [hst]
  have hr := tb_roomOk (mc := mc) (ms := ms) (mc' := mc') (ms' := ms') hdd hL
  have hlen : ∀ sig, parseMethodDescriptor x.desc = some sig → n = sig.parameters.length := by
    intro sig hs
    rw [hs] at hp
    exact (Option.some.inj hp).symm
  exact vx_runU (C := C) (owner := owner) (x := x) (g := F0 m pc A (As'.reverse ++ .ref b :: rest)) (Ts := lw_all) (own := own) ⟨E.1, E.2.1, E.2.2.2.2.2.2.1, ho ▸ E.2.2.2.2.1, E.2.2.2.1⟩ hM
    ⟨⟨rfl, rfl, hr.1, hr.2, pay_in E.2.2.2.1 (lw_meth h5), List.mem_cons_self⟩, E.2.2.2.1 _ h5, E.2.2.2.1 _ h4, hy, hlen, E.2.2.2.1 _ h1, E.2.2.2.1 _ h2, va_Decl.abs (E.2.2.2.2.2.2.2.2.2.1.2.1 _ h7), E.2.2.2.1 _ h3, E.2.2.2.1 _ h6⟩ ⟨hbl, hcell, hPc⟩ rfl (by simpa using hAs) hA rfl (by show 2 * 0 + _ ≤ 8; omega) hd ⟨hnc, hns⟩
def tb_pops : Nat → List tbV → List tbV → Option (List tbV × List tbV)
  | 0, st, acc => some (acc, st)
  | n + 1, v :: st, acc => tb_pops n st (v :: acc)
  | _ + 1, [], _ => none
theorem tb_pops_spec : ∀ (n : Nat) (st acc As rest : List tbV), tb_pops n st acc = some (As, rest) → As.length = acc.length + n ∧ As.reverse ++ rest = acc.reverse ++ st
  | 0, st, acc, As, rest, h => by cases h; exact ⟨rfl, rfl⟩
  | n + 1, v :: st, acc, As, rest, h => by
    obtain ⟨h1, h2⟩ := tb_pops_spec n st (v :: acc) As rest h
    refine ⟨by rw [h1]; simp; omega, by rw [h2]; simp⟩
  | n + 1, [], acc, As, rest, h => by cases h
def tb_sum : List tbV → Nat
  | [] => 0
  | .inr (.inl _) :: l => 2 + tb_sum l
  | _ :: l => 1 + tb_sum l
theorem tb_sum_eq (α : tbA → Nat) : ∀ (l : List tbV), ((l.map (tb_tv α)).map fun v => v.category).sum = tb_sum l
  | [] => rfl
  | .inl x :: l => by
    rw [List.map_cons, List.map_cons, List.sum_cons, tb_sum_eq α l]; rfl
  | .inr (.inl x) :: l => by
    rw [List.map_cons, List.map_cons, List.sum_cons, tb_sum_eq α l]; rfl
  | .inr (.inr x) :: l => by
    rw [List.map_cons, List.map_cons, List.sum_cons, tb_sum_eq α l, tb_catR]; rfl
/-- the receiver is of the class that the call asks -/
def tb_recv : Option String → List tbV → Prop
  | none, _ => True
  | some C, .inr (.inr (some a)) :: _ => (tb_role a.1).1 = 0 ∧ ∃ T N, tb_cl[(tb_role a.1).2.1]? = some (C, T, N)
  | _, _ => False
theorem tb_oks_app {s : tbS} : ∀ {l1 l2 : List tbV}, tb_oks s (l1 ++ l2) → tb_oks s l1 ∧ tb_oks s l2
  | [], _, h => ⟨trivial, h⟩
  | _ :: _, _, h => ⟨⟨h.1, (tb_oks_app h.2).1⟩, (tb_oks_app h.2).2⟩
theorem tb_oks_rev {s : tbS} : ∀ {l acc : List tbV}, tb_oks s l → tb_oks s acc → tb_oks s (l.reverseAux acc)
  | [], _, _, h => h
  | x :: l, acc, h, h2 => tb_oks_rev (l := l) (acc := x :: acc) h.2 ⟨h.1, h2⟩
section TBD
variable {γ : tbG} {y : tbM} {d mc ms : Nat} {Q : tbO → tbS → Prop} {nc ns pc a b : Nat} {cs : List tbI} {ls : tbL} {st : List tbV} {s : tbS} {l : List Nat} {v : tbV}
/-- A CALL, by the callee's contract -/
theorem Ex.call {ins : Instr} {tgt : tbM} {Cr : Option String} {n d' mc' ms' : Nat} {As rest : List tbV} {P : tbO → tbS → Prop} (hc : tb_Call y.1.cls ins tgt Cr n) (hM : MX γ d' mc' ms' tgt As s P) (he : tb_end ins = false) (hi : tb_ilen ins = 3) (hst : tb_pops n st [] = some (As, rest)) (hrec : tb_recv Cr As) (hsum : tb_sum rest ≤ 8)
    (hd : d' + 1 ≤ d) (h1 : nc + mc' ≤ mc) (h2 : ns + ms' ≤ ms) (kr : ∀ (w : Option tbV) (s' : tbS), P (.inl w) s' → (∀ c, s.2.2.2.2 c ≤ s'.2.2.2.2 c) → Ex γ y d mc ms Q (nc + mc') (ns + ms') cs ls (w.toList ++ rest) s')
    (kx : ∀ (E : String) (x : tbA) (s' : tbS), P (.inr (E, x)) s' → (∀ c, s.2.2.2.2 c ≤ s'.2.2.2.2 c) → ExX γ y d mc ms Q (nc + mc') (ns + ms') pc ls E x s') : Ex γ y d mc ms Q nc ns ((pc, ins, a, b, l, v) :: cs) ls st s := by
  intro p e u m args below meth c0 H locs A α Lv α0 C0 E O L K1 K2 R S X
  obtain ⟨hdc, hp, hcs, hf⟩ := tb_Ok.go (n := 2) O he hi
  obtain ⟨hl, hst⟩ := tb_pops_spec n st [] As rest hst
  have hst : st = As.reverse ++ rest := hst.symm
  subst hst
  obtain ⟨k1, k2⟩ := tb_oks_app K2
  have k1 : tb_oks s As := by
    have := tb_oks_rev (acc := []) k1 trivial
    rwa [show As.reverse.reverseAux [] = As by rw [List.reverseAux_eq]; simp] at this
  have hKu := E.2.2.2.2.2.2.2.2.2.1
  have hrun := hc γ y d mc ms d' mc' ms' p e u m args below meth c0 H locs nc ns pc A (As.map (tb_tv α)) (rest.map (tb_tv α)) _ _ _ E rfl hdc L.2.1 (by rw [List.length_map, hl]; simp) (by rw [tb_sum_eq]; exact hsum) hd h1 h2 (hM α Lv) tb_blind
    (fun U hU hW => ⟨rfl, hKu.moved hW (by rw [hU]; exact (hKu.heap S).1) (by rw [hU]; exact (hKu.heap S).2), by rw [hU]; exact R, k1⟩)
    (by
      intro C hC
      subst hC
      match As, hrec with
      | .inr (.inr (some x)) :: As', hrec =>
        obtain ⟨hr0, T, N, hcl⟩ := hrec
        have hm : x ∈ Lv := (R.2.2.1 x.1 x.2).mpr ⟨by rw [hr0]; decide, k1.1⟩
        obtain ⟨q0, -, hw⟩ := tb_at_w (γ := γ) (α := α) (s := s) hm
        rw [show x = (x.1, x.2) from rfl, tb_cel_obj hr0] at hw
        exact ⟨α x, As'.map (tb_tv α), rfl, va_recv hKu.1 R.1 hcl hw⟩)
  rw [List.map_append, List.map_reverse]
  intro T hT Xs
  rcases hrun T hT Xs with ⟨w, st₀, t, T', L', h0, X', hL, e1, e2, ⟨⟨w', s', α', Lv', hP, hv, hE, hok, hR⟩, hF⟩, hgo⟩ | ⟨q, st₀, t, T', L', E', ce, h0, X', hL, e1, e2, ⟨⟨x, s', α', Lv', hP, hv, hE, hok, hR⟩, hF⟩, hce, hcv, hcl, hgo⟩
  · obtain ⟨g1, g2, g3⟩ := vx_keep h0 e1 S (fun q _ h => h) (fun q h => h) hL hF
    cases hv
    have h := Ex.grown (e := e) (below := below) (kr w' s' hP (fun c => (hE c).1)) E hcs L K1 k2 X hE (by rw [e1]; exact hR) g3 (by
      cases w' with
      | none => trivial
      | some z => exact ⟨hok z rfl, trivial⟩)
    obtain ⟨t2, a1, b1⟩ := h T' rfl X'
    refine ⟨t2, hgo t2 ?_, b1⟩
    rw [hp] at a1
    cases w' <;> exact a1
  · obtain ⟨g1, g2, g3⟩ := vx_keep h0 e1 S (fun q _ h => h) (fun q h => h) hL hF
    subst hv
    have hα : ∀ a : tbA, a.2 < s.2.2.2.2 a.1 → α' a = α a := fun a ha => (hE a.1).2 a.2 ha
    have h := kx E' x s' hP (fun c => (hE c).1) p e u m args below meth c0 T'.heap (locs ++ L') A α' Lv' α0 C0 ce (rest.map (tb_tv α)) E (tb_loc_ext hα K1 L) (tb_okl_mono (fun c => (hE c).1) K1) hok (by rw [e1]; exact hR) g3 (X.tr hE) (by rw [e1]; exact hce) hcv hcl
    obtain ⟨t2, a1, b1⟩ := h T' rfl X'
    exact ⟨t2, hgo.trans a1, b1⟩
/-- .. of a callee that answers w and leaves s' -/
theorem Ex.call1 {ins : Instr} {tgt : tbM} {Cr : Option String} {n d' mc' ms' : Nat} {As rest : List tbV} {w : tbV} {s' : tbS} (hc : tb_Call y.1.cls ins tgt Cr n) (hM : MX γ d' mc' ms' tgt As s (fun o s2 => o = .inl (some w) ∧ s2 = s')) (he : tb_end ins = false) (hi : tb_ilen ins = 3) (hst : tb_pops n st [] = some (As, rest)) (hrec : tb_recv Cr As) (hsum : tb_sum rest ≤ 8)
    (hd : d' + 1 ≤ d) (h1 : nc + mc' ≤ mc) (h2 : ns + ms' ≤ ms) (kr : Ex γ y d mc ms Q (nc + mc') (ns + ms') cs ls (w :: rest) s') : Ex γ y d mc ms Q nc ns ((pc, ins, a, b, l, v) :: cs) ls st s :=
  Ex.call hc hM he hi hst hrec hsum hd h1 h2 (fun w2 s2 h _ => by obtain ⟨e1, rfl⟩ := h; cases e1; exact kr) (fun E x s2 h _ => by cases h.1)
theorem Ex.call0 {ins : Instr} {tgt : tbM} {Cr : Option String} {n d' mc' ms' : Nat} {As rest : List tbV} {s' : tbS} (hc : tb_Call y.1.cls ins tgt Cr n) (hM : MX γ d' mc' ms' tgt As s (fun o s2 => o = .inl none ∧ s2 = s')) (he : tb_end ins = false) (hi : tb_ilen ins = 3) (hst : tb_pops n st [] = some (As, rest)) (hrec : tb_recv Cr As) (hsum : tb_sum rest ≤ 8)
    (hd : d' + 1 ≤ d) (h1 : nc + mc' ≤ mc) (h2 : ns + ms' ≤ ms) (kr : Ex γ y d mc ms Q (nc + mc') (ns + ms') cs ls rest s') : Ex γ y d mc ms Q nc ns ((pc, ins, a, b, l, v) :: cs) ls st s :=
  Ex.call hc hM he hi hst hrec hsum hd h1 h2 (fun w2 s2 h _ => by obtain ⟨e1, rfl⟩ := h; cases e1; exact kr) (fun E x s2 h _ => by cases h.1)
end TBD
/-- contracts: weaker ends, more room -/
theorem MX.post {γ : tbG} {d mc ms : Nat} {y : tbM} {as : List tbV} {s : tbS} {P P' : tbO → tbS → Prop} (h : MX γ d mc ms y as s P) (hP : ∀ o s', P o s' → P' o s') : MX γ d mc ms y as s P' := by
  intro α Lv
  have hq : ∀ a st o t, vx_Q (tb_Qc γ P α s.2.2.2.2) (tb_XC γ P α s.2.2.2.2) mc ms (tb_Ab γ) a st o t → vx_Q (tb_Qc γ P' α s.2.2.2.2) (tb_XC γ P' α s.2.2.2.2) mc ms (tb_Ab γ) a st o t := by
    intro a st o t h
    rcases h with ⟨⟨⟨w, s', α', Lv', h1, h2⟩, h3⟩, h4⟩ | ⟨q, rfl, E, ce, L, ⟨⟨x, s', α', Lv', h1, h2⟩, h3⟩, h4⟩
    · exact Or.inl ⟨⟨⟨w, s', α', Lv', hP _ _ h1, h2⟩, h3⟩, h4⟩
    · exact Or.inr ⟨q, rfl, E, ce, L, ⟨⟨x, s', α', Lv', hP _ _ h1, h2⟩, h3⟩, h4⟩
  have h0 := h α Lv
  unfold vx_Met MetFree at h0 ⊢
  intro p e h1 h2 h3 u m args below h4 h5 h6 h7
  obtain ⟨t, o, g1, g2, g3, g4⟩ := h0 p e h1 h2 h3 u m args below h4 h5 h6 h7
  exact ⟨t, o, g1, g2, g3, hq _ _ _ _ g4⟩
