/-! THE PICTURE OF THE HEAP: how reads and writes of the memory go with it -/
set_option maxRecDepth 100000
theorem tb_at_w {γ : tbG} {α : tbA → Nat} {s : tbS} {Lv : List tbA} {a : tbA} (h : a ∈ Lv) : ∃ q0 : Nat, Lv[q0]? = some a ∧ (tb_w γ α s Lv)[q0]? = some (α a, tb_cel γ α s a) := by
  obtain ⟨q0, hq⟩ := List.getElem?_of_mem h
  exact ⟨q0, hq, by unfold tb_w; rw [List.getElem?_map, hq]; rfl⟩
theorem tb_inj {γ : tbG} {α : tbA → Nat} {s : tbS} {Lv : List tbA} {A : Nat → Prop} (hD : va_D A (tb_w γ α s Lv)) {i j : Nat} {a b : tbA} (hi : Lv[i]? = some a) (hj : Lv[j]? = some b) (h : α a = α b) : i = j := by
  refine hD.1 i j (α a, tb_cel γ α s a) (α b, tb_cel γ α s b) ?_ ?_ h
  · unfold tb_w; rw [List.getElem?_map, hi]; rfl
  · unfold tb_w; rw [List.getElem?_map, hj]; rfl
theorem tb_cel_congr {γ : tbG} {α : tbA → Nat} {s s' : tbS} {x : tbA} (h1 : s'.1 x.1 x.2 = s.1 x.1 x.2) (h2 : s'.2.1 x.1 x.2 = s.2.1 x.1 x.2) (h3 : s'.2.2.1 x.1 x.2 = s.2.2.1 x.1 x.2) (h4 : s'.2.2.2.1 x.1 x.2 = s.2.2.2.1 x.1 x.2) : tb_cel γ α s' x = tb_cel γ α s x := by
  unfold tb_cel
  have e1 : tb_fv α s' x.1 x.2 = tb_fv α s x.1 x.2 := by
    funext ci j
    unfold tb_fv
    rw [h1, h2, h3]
  have e2 : tb_len s' x.1 x.2 = tb_len s x.1 x.2 := by
    unfold tb_len
    rw [h4]
  have e3 : tb_dat α s' x.1 x.2 = tb_dat α s x.1 x.2 := by
    funext t
    unfold tb_dat
    rw [h1, h2, h3]
  rw [e1, e2, e3]
theorem tb_w_set {γ : tbG} {α : tbA → Nat} {s s' : tbS} {Lv : List tbA} {a : tbA} {q0 : Nat} {A : Nat → Prop} (hD : va_D A (tb_w γ α s Lv)) (hq : Lv[q0]? = some a) (ho : ∀ x, x ≠ a → tb_cel γ α s' x = tb_cel γ α s x) {e : va_E} (he : tb_cel γ α s' a = e) :
    (tb_w γ α s Lv).set q0 (α a, e) = tb_w γ α s' Lv := by
  subst he
  apply List.ext_getElem?
  intro i
  have hl : q0 < (tb_w γ α s Lv).length := by
    unfold tb_w
    rw [List.length_map]
    exact (List.getElem?_eq_some_iff.mp hq).1
  by_cases hi : i = q0
  · subst hi
    rw [List.getElem?_set_self hl]
    unfold tb_w
    rw [List.getElem?_map, hq]
    rfl
  · rw [List.getElem?_set_ne (Ne.symm hi)]
    unfold tb_w
    rw [List.getElem?_map, List.getElem?_map]
    cases hx : Lv[i]? with
    | none => rfl
    | some x =>
      have hne : x ≠ a := by
        intro h
        subst h
        exact hi (tb_inj hD hx hq rfl)
      show some (α x, tb_cel γ α s x) = some (α x, tb_cel γ α s' x)
      rw [ho x hne]
theorem tb_sI_at {s : tbS} {c k j : Nat} {v : Int32} {c' k' : Nat} (h : ¬ (c' = c ∧ k' = k)) : (tb_sI s c k j v).1 c' k' = s.1 c' k' := by
  funext j'
  show (if c' = c ∧ k' = k ∧ j' = j then v else s.1 c' k' j') = _
  rw [if_neg fun q => h ⟨q.1, q.2.1⟩]
theorem tb_sL_at {s : tbS} {c k j : Nat} {v : Int64} {c' k' : Nat} (h : ¬ (c' = c ∧ k' = k)) : (tb_sL s c k j v).2.1 c' k' = s.2.1 c' k' := by
  funext j'
  show (if c' = c ∧ k' = k ∧ j' = j then v else s.2.1 c' k' j') = _
  rw [if_neg fun q => h ⟨q.1, q.2.1⟩]
theorem tb_sR_at {s : tbS} {c k j : Nat} {v : Option tbA} {c' k' : Nat} (h : ¬ (c' = c ∧ k' = k)) : (tb_sR s c k j v).2.2.1 c' k' = s.2.2.1 c' k' := by
  funext j'
  show (if c' = c ∧ k' = k ∧ j' = j then v else s.2.2.1 c' k' j') = _
  rw [if_neg fun q => h ⟨q.1, q.2.1⟩]
theorem tb_sI_self {s : tbS} {c k j : Nat} {v : Int32} : (tb_sI s c k j v).1 c k = upd (s.1 c k) j v := by
  funext j'
  show (if c = c ∧ k = k ∧ j' = j then v else s.1 c k j') = if j' = j then v else s.1 c k j'
  simp
theorem tb_sL_self {s : tbS} {c k j : Nat} {v : Int64} : (tb_sL s c k j v).2.1 c k = vp_updL (s.2.1 c k) j v := by
  funext j'
  show (if c = c ∧ k = k ∧ j' = j then v else s.2.1 c k j') = if j' = j then v else s.2.1 c k j'
  simp
theorem tb_sR_self {s : tbS} {c k j : Nat} {v : Option tbA} (j' : Nat) : (tb_sR s c k j v).2.2.1 c k j' = if j' = j then v else s.2.2.1 c k j' := by
  show (if c = c ∧ k = k ∧ j' = j then v else s.2.2.1 c k j') = _
  simp
theorem tb_fs_set {n j : Nat} {f g : Nat → Value} {v : Value} (hg : ∀ i, g i = if i = j then v else f i) : ((List.range n).map f).set j v = (List.range n).map g := by
  apply List.ext_getElem?
  intro i
  by_cases hi : i < n
  · by_cases hij : i = j
    · subst hij
      rw [List.getElem?_set_self (by simpa using hi)]
      simp [hi, hg]
    · rw [List.getElem?_set_ne (Ne.symm hij)]
      simp [hi, hg, hij]
  · have h1 : (((List.range n).map f).set j v)[i]? = none := List.getElem?_eq_none (by simpa using Nat.le_of_not_lt hi)
    have h2 : ((List.range n).map g)[i]? = none := List.getElem?_eq_none (by simpa using Nat.le_of_not_lt hi)
    rw [h1, h2]
theorem tb_role_cl {c : Nat} (h : (tb_role c).1 = 0) {q : vw_C} (hq : tb_cl[(tb_role c).2.1]? = some q) : q.2.2 = (tb_role c).2.2 := by
  have key : ∀ c, c < 76 → (tb_role c).1 = 0 → (tb_cl.map fun q => q.2.2)[(tb_role c).2.1]? = some (tb_role c).2.2 := by decide +kernel
  have big : ∀ (l : List (Nat × Nat × Nat)) (n : Nat) (d : Nat × Nat × Nat), l.length ≤ n → tb_nth l n d = d := by
    intro l
    induction l with
    | nil => intro n d _; rfl
    | cons a l ih =>
      intro n d hn
      cases n with
      | zero => simp at hn
      | succ n => exact ih n d (by simpa using hn)
  by_cases hc : c < 76
  · have h2 := key c hc h
    rw [List.getElem?_map, hq] at h2
    exact Option.some.inj h2
  · have h3 : tb_role c = (2, 0, 0) := big tb_roles c (2, 0, 0) (by show 76 ≤ c; omega)
    rw [h3] at h
    cases h
def tb_val (s : tbS) (c k j t : Nat) : tbV := match t with
  | 0 => .inl (s.1 c k j)
  | 1 => .inr (.inl (s.2.1 c k j))
  | _ => .inr (.inr (s.2.2.1 c k j))
theorem tb_val_tv (α : tbA → Nat) (s : tbS) (c k ci j : Nat) : tb_tv α (tb_val s c k j (tb_fty ci j)) = tb_fv α s c k ci j := by
  unfold tb_val tb_fv
  generalize tb_fty ci j = t
  rcases t with _ | _ | t <;> rfl
theorem tb_val_ok {s : tbS} {c k j t : Nat} (hc : ∀ c k j a, k < s.2.2.2.2 c → s.2.2.1 c k j = some a → a.2 < s.2.2.2.2 a.1) (hk : k < s.2.2.2.2 c) : tb_ok s (tb_val s c k j t) := by
  unfold tb_val
  split
  · trivial
  · trivial
  · cases h : s.2.2.1 c k j with
    | none => trivial
    | some a => exact hc c k j a hk h
theorem tb_cel_obj {γ : tbG} {α : tbA → Nat} {s : tbS} {c k : Nat} (h : (tb_role c).1 = 0) : tb_cel γ α s (c, k) = .inr ((tb_role c).2.1, (List.range (tb_role c).2.2).map (tb_fv α s c k (tb_role c).2.1)) := by
  unfold tb_cel
  rw [if_pos h]
theorem tb_cel_arr {γ : tbG} {α : tbA → Nat} {s : tbS} {c k ti z : Nat} (h : tb_role c = (1, ti, z)) : tb_cel γ α s (c, k) = .inl (γ.2.2.1 ti, tb_len s c k, tb_dat α s c k ti) := by
  unfold tb_cel
  rw [h]
  rfl
theorem tb_rf_or (α : tbA → Nat) (r : Option tbA) : va_rf (r.map α) = .null ∨ ∃ a, va_rf (r.map α) = .ref a := by
  cases r with
  | none => exact Or.inl rfl
  | some a => exact Or.inr ⟨_, rfl⟩
theorem tb_fits {ty : FieldType} (h : tb_tag ty = 2) {v : Value} (hv : v = .null ∨ ∃ a, v = .ref a) : narrow ty v = v ∧ fits ty v = true := by
  cases ty <;> first | (cases h; done) | (rcases hv with rfl | ⟨a, rfl⟩ <;> exact ⟨rfl, rfl⟩)
section TBH
variable {γ : tbG} {y : tbM} {d mc ms : Nat} {Q : tbO → tbS → Prop} {nc ns pc a b : Nat} {cs : List tbI} {ls : tbL} {st : List tbV} {s : tbS} {l : List Nat} {v : tbV}
/-- a write of one place: the picture of the new memory -/
theorem tb_Rep.wr {α : tbA → Nat} {Lv : List tbA} {s' : tbS} {H H1 : Heap} {x : tbA} {q0 : Nat} {e : va_E} (R : tb_Rep γ α Lv s H) (hq : Lv[q0]? = some x) (hP : va_P γ.2.1 tb_cl ((tb_w γ α s Lv).set q0 (α x, e)) H1) (hD : va_D (tb_Ab γ) ((tb_w γ α s Lv).set q0 (α x, e)))
    (he : tb_cel γ α s' x = e) (ho : ∀ z, z ≠ x → tb_cel γ α s' z = tb_cel γ α s z) (hC : s'.2.2.2.2 = s.2.2.2.2) (hcl : ∀ c k j a, k < s.2.2.2.2 c → s'.2.2.1 c k j = some a → a.2 < s.2.2.2.2 a.1) : tb_Rep γ α Lv s' H1 := by
  have hw := tb_w_set (s' := s') R.2.1 hq ho he
  rw [hw] at hP hD
  exact ⟨hP, hD, by rw [hC]; exact R.2.2.1, by rw [hC]; exact hcl, R.2.2.2.2⟩
theorem tb_oks_C {s s' : tbS} (h : s'.2.2.2.2 = s.2.2.2.2) {v : tbV} (hv : tb_ok s v) : tb_ok s' v := by
  rcases v with x | x | x | x
  · trivial
  · trivial
  · trivial
  · show x.2 < s'.2.2.2.2 x.1
    rw [h]; exact hv
theorem tb_oksC {s s' : tbS} (h : s'.2.2.2.2 = s.2.2.2.2) : ∀ {l : List tbV}, tb_oks s l → tb_oks s' l
  | [], _ => trivial
  | _ :: _, hv => ⟨tb_oks_C h hv.1, tb_oksC h hv.2⟩
theorem tb_oklC {s s' : tbS} (h : s'.2.2.2.2 = s.2.2.2.2) {ls : tbL} (K : tb_okl s ls) : tb_okl s' ls := fun i v hv => tb_oks_C h (K i v hv)
/-- getfield -/
theorem tb_getf {n c k : Nat} (h1 : (tb_role c).1 = 0) (h2 : (tb_role c).2.1 ∈ l) (kk : Ex γ y d mc ms Q nc ns cs ls (tb_val s c k a b :: st) s) : Ex γ y d mc ms Q nc ns ((pc, .getfield n, a, b, l, v) :: cs) ls (.inr (.inr (some (c, k))) :: st) s := by
  intro p e u m args below meth c0 H locs A α Lv α0 C0 E O L K1 K2 R S X
  obtain ⟨hd, hp, hc, hf⟩ := tb_Ok.go (n := 2) O rfl rfl
  obtain ⟨C, T, N, g1, g2, g3, g4⟩ := hf _ h2
  have hk : k < s.2.2.2.2 c := K2.1
  have hm : (c, k) ∈ Lv := (R.2.2.1 c k).mpr ⟨by rw [h1]; decide, hk⟩
  obtain ⟨q0, -, hw⟩ := tb_at_w (γ := γ) (α := α) (s := s) hm
  rw [tb_cel_obj h1] at hw
  have hN : N = (tb_role c).2.2 := tb_role_cl h1 g1
  have h := kk p e u m args below meth c0 H locs A α Lv α0 C0 E hc L K1 ⟨tb_val_ok R.2.2.2.1 hk, K2.2⟩ R S X
  rw [hp, List.map_cons, ← g3, tb_val_tv α s c k (tb_role c).2.1 a] at h
  have hv : ((List.range (tb_role c).2.2).map (tb_fv α s c k (tb_role c).2.1))[a]? = some (tb_fv α s c k (tb_role c).2.1 a) := by
    rw [List.getElem?_map, List.getElem?_range (by rw [← hN]; exact g2)]
    rfl
  have hK : va_K γ.2.1 tb_cl (tb_tyl γ) u := E.2.2.2.2.2.2.2.2.2.1.1
  rcases g4 with ⟨ref, g5, g6⟩ | ⟨host, g5⟩
  · refine va_get E.1 E.2.1 E.2.2.2.1 (tb_cls _ _ g1).1 E.2.2.2.2.1 hK R.1 q0 hw g1 a g2 (E.2.2.2.1 _ g5) ?_ hv hd h
    rcases g6 with rfl | g6
    · exact fun x hx => hx
    · exact u_same (E.2.2.2.1 _ g6)
  · exact va_getN E.1 E.2.1 E.2.2.2.1 (tb_cls _ _ g1).1 E.2.2.2.2.1 hK R.1 q0 hw g1 a g2 (va_Nw.use rfl (E.2.2.2.2.2.2.2.2.2.1.2.1 _ g5)) (fun x hx => hx) hv hd h
/-- fields of one class lie apart, by owner or name -/
theorem tb_apart {p : Program} {e : Env} {u : State} {m : MethodId} {args : Array Value} {C : String} {T : u_T} {N ci : Nat} (hts : ∀ w ∈ lw_all, w.before args u = true) (hK : va_K γ.2.1 tb_cl (tb_tyl γ) u) (g1 : tb_cl[ci]? = some (C, T, N)) : ∀ x y, x < N → y < N → x ≠ y → (γ.2.1.2 ci) x ≠ (γ.2.1.2 ci) y := by
  intro x z hx hz hne
  obtain ⟨hin, ⟨ty, hty, -⟩, hnm⟩ := tb_cls _ _ g1
  obtain ⟨hS, -⟩ := hK.1 ci _ g1
  obtain ⟨cx, kx, ix, fx, hix, ex⟩ := hS x hx
  obtain ⟨cz, kz, iz, fz, hiz, ez⟩ := hS z hz
  have own : ∀ (k : Nat), k < N → ∀ (cf : ClassId) (kf : Class) (i : Nat) (f : Field), u.fieldFound? (T k).1 (T k).2.1 (T k).2.2.1 = some (cf, kf, i, f) → ∃ a d, u.vm.findClass C = some a ∧ Jmm.declares? u.vm f.slot (a + 1) a = some d ∧ ((T k).2.2.2 = true → d.1.name = (T k).1) ∧ d.2.name = (T k).2.1 := by
    intro k hk cf kf i f hi
    have hn := (State.fieldFound?_type hi (hty k hk)).1
    have hlay := hts _ (hin _ (u_in_lay hk))
    unfold u_lay at hlay
    by_cases hfin : (T k).2.2.2 = true
    · rw [if_pos hfin] at hlay
      obtain ⟨c1, k1, c2, k2, i2, f2, q1, q2, q3, -, -, -, q4, -, dd, q5, q6, q7, -⟩ := Cond.laysFinal_spec hlay
      cases hi.symm.trans q3
      obtain ⟨k3, e1, e2⟩ := Vm.findClass_spec q4
      have e3 := State.fieldFound?_class hi
      cases Option.some.inj (e1.symm.trans e3)
      exact ⟨_, dd, q1, q5, fun _ => q6.trans e2, q7.trans hn⟩
    · rw [if_neg hfin] at hlay
      obtain ⟨c1, k1, c2, k2, i2, f2, q1, q2, q3, -, -, -, -, dd, q5, q6, q7, -⟩ := Cond.lays_spec hlay
      cases hi.symm.trans q3
      exact ⟨_, dd, q1, q5, fun h => absurd h hfin, q7.trans hn⟩
  rw [← ex, ← ez]
  intro hs
  obtain ⟨a1, d1, r1, r2, r3, r4⟩ := own x hx _ _ _ _ hix
  obtain ⟨a2, d2, t1, t2, t3, t4⟩ := own z hz _ _ _ _ hiz
  cases r1.symm.trans t1
  rw [hs] at r2
  cases r2.symm.trans t2
  rcases hnm x hx z hz hne with ⟨h, f1, f2⟩ | h
  · exact h ((r3 f1).symm.trans (t3 f2))
  · exact h (r4.symm.trans t4)
/-- putfield, of any kind -/
theorem tb_putf {n c k : Nat} {w : tbV} {s' : tbS} (h1 : (tb_role c).1 = 0) (h2 : (tb_role c).2.1 ∈ l)
    (ht : ∀ (α : tbA → Nat) (ty : FieldType), tb_tag ty = tb_fty (tb_role c).2.1 a → tb_fty (tb_role c).2.1 a = b → narrow ty (tb_tv α w) = tb_tv α w ∧ fits ty (tb_tv α w) = true)
    (hs : ∀ (α : tbA → Nat), tb_fty (tb_role c).2.1 a = b → ∀ i, tb_fv α s' c k (tb_role c).2.1 i = if i = a then tb_tv α w else tb_fv α s c k (tb_role c).2.1 i)
    (ho : ∀ c' k', ¬ (c' = c ∧ k' = k) → s'.1 c' k' = s.1 c' k' ∧ s'.2.1 c' k' = s.2.1 c' k' ∧ s'.2.2.1 c' k' = s.2.2.1 c' k') (hN : s'.2.2.2 = s.2.2.2)
    (hcl : tb_ok s w → (∀ c k j a, k < s.2.2.2.2 c → s.2.2.1 c k j = some a → a.2 < s.2.2.2.2 a.1) → ∀ c k j a, k < s.2.2.2.2 c → s'.2.2.1 c k j = some a → a.2 < s.2.2.2.2 a.1)
    (kk : Ex γ y d mc ms Q nc ns cs ls st s') : Ex γ y d mc ms Q nc ns ((pc, .putfield n, a, b, l, v) :: cs) ls (w :: .inr (.inr (some (c, k))) :: st) s := by
  intro p e u m args below meth c0 H locs A α Lv α0 C0 E O L K1 K2 R S X
  obtain ⟨hd, hp, hc, hf⟩ := tb_Ok.go (n := 2) O rfl rfl
  obtain ⟨C, T, N, ref, g1, g2, g3, g4, g5, g6⟩ := hf _ h2
  have hk : k < s.2.2.2.2 c := K2.2.1
  have hm : (c, k) ∈ Lv := (R.2.2.1 c k).mpr ⟨by rw [h1]; decide, hk⟩
  obtain ⟨q0, hq, hw⟩ := tb_at_w (γ := γ) (α := α) (s := s) hm
  rw [tb_cel_obj h1] at hw
  have hN2 : N = (tb_role c).2.2 := tb_role_cl h1 g1
  have hK : va_K γ.2.1 tb_cl (tb_tyl γ) u := E.2.2.2.2.2.2.2.2.2.1.1
  have hap := tb_apart (γ := γ) (p := p) (e := e) (m := m) E.2.2.2.1 hK g1
  obtain ⟨hin, ⟨ty, hty, htag⟩, -⟩ := tb_cls _ _ g1
  have hC : s'.2.2.2.2 = s.2.2.2.2 := by rw [hN]
  obtain ⟨hn, hfit⟩ := ht α (ty a) (htag a g2).1 g3
  have hsame : ∀ x, u.fieldFound? (T a).1 (T a).2.1 (T a).2.2.1 = some x → u.fieldFound? ref (T a).2.1 (T a).2.2.1 = some x := by
    rcases g5 with rfl | g5
    · exact fun x hx => hx
    · exact u_same (E.2.2.2.1 _ g5)
  obtain ⟨r, z1, cell, q1, q2, q3, q4⟩ := R.1 q0 _ hw
  cases Option.some.inj (z1.symm.trans g1)
  obtain ⟨hS, hfc, kC, hkC, hkind⟩ := hK.1 _ _ g1
  obtain ⟨cf, kf, fi, f, hi, hsl⟩ := hS a g2
  have hst := (u_facts hfc hkC (u_lays E.2.2.2.1 hin g2) hi).1
  have hlen : a < ((List.range (tb_role c).2.2).map (tb_fv α s c k (tb_role c).2.1)).length := by
    rw [List.length_map, List.length_range, ← hN2]; exact g2
  have fin : ∀ H' : Heap, H'[α (c, k)]? = some (cell.setSlot (γ.2.1.2 (tb_role c).2.1 a) (tb_tv α w)) → H'.size = H.size → (∀ q, q ≠ α (c, k) → H'[q]? = H[q]?) →
      W p γ.1 e (tb_rm d mc ms) u m args below meth c0 H' (locs ++ [⟨α (c, k), γ.2.1.2 (tb_role c).2.1 a⟩]) nc ns (vx_MQ below (tb_Qc γ Q α0 C0) (tb_XC γ Q α0 C0) args u mc ms (tb_Ab γ)) (F0 m (pc + 3) A (st.map (tb_tv α))) := by
    intro H' e1 e2 e3
    have hP' : va_P γ.2.1 tb_cl ((tb_w γ α s Lv).set q0 (α (c, k), .inr ((tb_role c).2.1, ((List.range (tb_role c).2.2).map (tb_fv α s c k (tb_role c).2.1)).set a (tb_tv α w)))) H' :=
      R.1.set R.2.1 hw ⟨_, g1, t_OB.to (V := updV (vp_V _) a (tb_tv α w)) ⟨_, e1, q2, q3, t_set q4 hap g2 _⟩ (fun j _ => vp_updV_set hlen _ j)⟩ e3
    have hR : tb_Rep γ α Lv s' H' := by
      refine R.wr (s' := s') hq hP' (R.2.1.set hw) ?_ ?_ hC (hcl K2.1 R.2.2.2.1)
      · rw [tb_cel_obj h1]
        congr 2
        exact (tb_fs_set (hs α g3)).symm
      · intro z hz
        have hz' : ¬ (z.1 = c ∧ z.2 = k) := fun q => hz (Prod.ext q.1 q.2)
        obtain ⟨o1, o2, o3⟩ := ho z.1 z.2 hz'
        exact tb_cel_congr o1 o2 o3 (by rw [hN])
    have h := kk p e u m args below meth c0 H' (locs ++ [⟨α (c, k), γ.2.1.2 (tb_role c).2.1 a⟩]) A α Lv α0 C0 E hc L (tb_oklC hC K1) (tb_oksC hC K2.2.2) hR (S.put e2 e3 (R.2.1.2 q0 _ hw)) (by rw [hC]; exact X)
    rw [hp] at h
    exact h
  rcases g6 with g6 | ⟨g6, g7, g8⟩
  · have hlay := E.2.2.2.1 _ (hin _ (u_in_lay g2))
    unfold u_lay at hlay
    rw [if_neg (by rw [g6]; decide)] at hlay
    have h6 := u_store hfc hkC hkind hlay hi (hty a g2) hn hfit
    refine W.putK E.1 E.2.1 (f := f) ⟨E.2.2.2.2.1, E.2.2.2.1 _ g4, ⟨_, _, _, hsame _ hi⟩, hst⟩ (by rw [q2]; exact h6) q1 q3 (by rw [hsl]; exact k2_hasslot (q4 a g2)) rfl rfl hd fun H' e1 e2 e3 => ?_
    rw [hsl] at e1 ⊢
    exact fin H' e1 e2 e3
  · have hlay := E.2.2.2.1 _ (hin _ (u_in_lay g2))
    unfold u_lay at hlay
    rw [if_pos g6] at hlay
    have hcf : m.cls = cf := by
      obtain ⟨_, _, c', _, _, _, -, -, hf', -, -, -, hown2, -⟩ := Cond.laysFinal_spec hlay
      have e1 : c' = cf := by have := hi.symm.trans hf'; simp at this; exact this.1.symm
      rw [g8] at hown2
      rw [← e1]; exact Option.some.inj (E.2.2.2.2.1.symm.trans hown2)
    have h6 := u_fits hfc hkC hkind (Or.inr hlay) hi (hty a g2) hn hfit
    refine W.putFinK E.1 E.2.1 E.2.2.2.2.1 (E.2.2.2.1 _ g4) (hsame _ hi) hst hcf (by rw [E.2.2.2.2.2.2.2.1]; exact g7) (by rw [q2]; exact h6) q1 q3 (by rw [hsl]; exact k2_hasslot (q4 a g2)) rfl rfl hd fun H' e1 e2 e3 => ?_
    rw [hsl] at e1 ⊢
    exact fin H' e1 e2 e3
/-- putfield of an int, of a reference -/
theorem tb_putI {n c k : Nat} {x : Int32} (h1 : (tb_role c).1 = 0) (h2 : (tb_role c).2.1 ∈ l) (h3 : b = 0) (kk : Ex γ y d mc ms Q nc ns cs ls st (tb_sI s c k a x)) : Ex γ y d mc ms Q nc ns ((pc, .putfield n, a, b, l, v) :: cs) ls (.inl x :: .inr (.inr (some (c, k))) :: st) s := by
  subst h3
  refine tb_putf (s' := tb_sI s c k a x) h1 h2 (fun α ty e1 e2 => ?_) (fun α e i => ?_) (fun c' k' h => ⟨tb_sI_at h, rfl, rfl⟩) rfl (fun _ h => h) kk
  · rw [e2] at e1
    cases ty <;> first | (cases e1; done) | exact ⟨rfl, rfl⟩
  · by_cases hi : i = a
    · subst hi
      rw [if_pos rfl]
      unfold tb_fv
      rw [e]
      show Value.int ((tb_sI s c k i x).1 c k i) = Value.int x
      rw [tb_sI_self]
      simp [upd]
    · rw [if_neg hi]
      unfold tb_fv
      rw [tb_sI_self]
      have : upd (s.1 c k) a x i = s.1 c k i := if_neg hi
      rw [this]
      rfl
theorem tb_putR {n c k : Nat} {x : Option tbA} (h1 : (tb_role c).1 = 0) (h2 : (tb_role c).2.1 ∈ l) (h3 : b = 2) (kk : Ex γ y d mc ms Q nc ns cs ls st (tb_sR s c k a x)) : Ex γ y d mc ms Q nc ns ((pc, .putfield n, a, b, l, v) :: cs) ls (.inr (.inr x) :: .inr (.inr (some (c, k))) :: st) s := by
  subst h3
  refine tb_putf (s' := tb_sR s c k a x) h1 h2 (fun α ty e1 e2 => ?_) (fun α e i => ?_) (fun c' k' h => ⟨rfl, rfl, tb_sR_at (s := s) (j := a) (v := x) h⟩) rfl (fun hw hcl c' k' j a' hk' hj => ?_) kk
  · rw [e2] at e1
    exact tb_fits e1 (tb_rf_or α x)
  · by_cases hi : i = a
    · subst hi
      rw [if_pos rfl]
      unfold tb_fv
      rw [e]
      have hz : (tb_sR s c k i x).2.2.1 c k i = x := by rw [tb_sR_self, if_pos rfl]
      rw [hz]
      rfl
    · rw [if_neg hi]
      unfold tb_fv
      rw [tb_sR_self, if_neg hi]
      rfl
  · by_cases hz : c' = c ∧ k' = k
    · obtain ⟨rfl, rfl⟩ := hz
      rw [tb_sR_self] at hj
      by_cases hja : j = a
      · rw [if_pos hja] at hj
        subst hj
        exact hw
      · rw [if_neg hja] at hj
        exact hcl _ _ _ _ hk' hj
    · rw [tb_sR_at hz] at hj
      exact hcl _ _ _ _ hk' hj
end TBH
