/-! ARRAYS AND NEW THINGS (printed by tools/gen_arr.py) -/
set_option maxRecDepth 100000
theorem tb_tyl_at (γ : tbG) {t : Nat} (h : t < 9) : (tb_tyl γ)[t]? = some (γ.2.2.1 t, tb_at t) := by
  unfold tb_tyl
  rw [List.getElem?_map, List.getElem?_range h]
  rfl
theorem tb_tv_ext {s : tbS} {α α' : tbA → Nat} (h : ∀ a : tbA, a.2 < s.2.2.2.2 a.1 → α' a = α a) : ∀ {v : tbV}, tb_ok s v → tb_tv α' v = tb_tv α v
  | .inl _, _ => rfl
  | .inr (.inl _), _ => rfl
  | .inr (.inr none), _ => rfl
  | .inr (.inr (some a)), k => by
    show Value.ref (α' a) = Value.ref (α a)
    rw [h a k]
theorem tb_tvs_ext {s : tbS} {α α' : tbA → Nat} (h : ∀ a : tbA, a.2 < s.2.2.2.2 a.1 → α' a = α a) : ∀ {l : List tbV}, tb_oks s l → l.map (tb_tv α') = l.map (tb_tv α)
  | [], _ => rfl
  | v :: l, k => by
    rw [List.map_cons, List.map_cons, tb_tv_ext h k.1, tb_tvs_ext h k.2]
theorem tb_ok_mono {s s' : tbS} (h : ∀ c, s.2.2.2.2 c ≤ s'.2.2.2.2 c) : ∀ {v : tbV}, tb_ok s v → tb_ok s' v
  | .inl _, _ => trivial
  | .inr (.inl _), _ => trivial
  | .inr (.inr none), _ => trivial
  | .inr (.inr (some a)), k => Nat.lt_of_lt_of_le k (h a.1)
theorem tb_oks_mono {s s' : tbS} (h : ∀ c, s.2.2.2.2 c ≤ s'.2.2.2.2 c) : ∀ {l : List tbV}, tb_oks s l → tb_oks s' l
  | [], _ => trivial
  | _ :: _, k => ⟨tb_ok_mono h k.1, tb_oks_mono h k.2⟩
theorem tb_okl_mono {s s' : tbS} (h : ∀ c, s.2.2.2.2 c ≤ s'.2.2.2.2 c) {ls : tbL} (K : tb_okl s ls) : tb_okl s' ls := fun i v hv => tb_ok_mono h (K i v hv)
theorem tb_loc_ext {s : tbS} {α α' : tbA → Nat} {nL : Nat} {ls : tbL} {A : Array Slot} (h : ∀ a : tbA, a.2 < s.2.2.2.2 a.1 → α' a = α a) (K : tb_okl s ls) (L : tb_loc α nL ls A) : tb_loc α' nL ls A :=
  ⟨L.1, L.2.1, L.2.2.1, fun i v hv => by rw [tb_tv_ext h (K i v hv)]; exact L.2.2.2 i v hv⟩
theorem tb_Ext.tr {α0 α α' : tbA → Nat} {C0 C C' : Nat → Nat} (h : tb_Ext α0 C0 α C) (h' : tb_Ext α C α' C') : tb_Ext α0 C0 α' C' :=
  fun c => ⟨Nat.le_trans (h c).1 (h' c).1, fun k hk => ((h' c).2 k (Nat.lt_of_lt_of_le hk (h c).1)).trans ((h c).2 k hk)⟩
theorem tb_role_lt {c : Nat} (h : (tb_role c).1 < 2) : c < 76 := by
  by_cases hc : c < 76
  · exact hc
  · have big : ∀ (l : List (Nat × Nat × Nat)) (n : Nat) (d : Nat × Nat × Nat), l.length ≤ n → tb_nth l n d = d := by
      intro l
      induction l with
      | nil => intro n d _; rfl
      | cons a l ih =>
        intro n d hn
        cases n with
        | zero => simp at hn
        | succ n => exact ih n d (by simpa using hn)
    have h3 : tb_role c = (2, 0, 0) := big tb_roles c (2, 0, 0) (by show 76 ≤ c; omega)
    rw [h3] at h
    exact absurd h (by decide)
/-- the memory with a new thing at the address q -/
theorem tb_Rep.grow {γ : tbG} {α : tbA → Nat} {Lv : List tbA} {s : tbS} {H H1 : Heap} {c n q : Nat} {e : va_E} (R : tb_Rep γ α Lv s H) (hc : (tb_role c).1 < 2)
    (hP : va_P γ.2.1 tb_cl (tb_w γ α s Lv ++ [(q, e)]) H1) (hD : va_D (tb_Ab γ) (tb_w γ α s Lv ++ [(q, e)])) (he : tb_cel γ (fun x => if x = (c, s.2.2.2.2 c) then q else α x) (tb_new s c n) (c, s.2.2.2.2 c) = e) :
    tb_Rep γ (fun x => if x = (c, s.2.2.2.2 c) then q else α x) (Lv ++ [(c, s.2.2.2.2 c)]) (tb_new s c n) H1 ∧ tb_Ext α s.2.2.2.2 (fun x => if x = (c, s.2.2.2.2 c) then q else α x) (tb_new s c n).2.2.2.2 := by
  have hα : ∀ a : tbA, a.2 < s.2.2.2.2 a.1 → (fun x => if x = (c, s.2.2.2.2 c) then q else α x) a = α a := by
    intro a ha
    refine if_neg fun h => ?_
    subst h
    exact Nat.lt_irrefl _ ha
  have hmap : ∀ x : tbA, x.2 < s.2.2.2.2 x.1 → tb_cel γ (fun x => if x = (c, s.2.2.2.2 c) then q else α x) (tb_new s c n) x = tb_cel γ α s x := by
    intro x hx
    have hz : ¬ (x.1 = c ∧ x.2 = s.2.2.2.2 c) := by
      rintro ⟨h1, h2⟩
      rw [h2, h1] at hx
      exact Nat.lt_irrefl _ hx
    have e1 : (tb_new s c n).1 x.1 x.2 = s.1 x.1 x.2 := by
      funext j
      show (if x.1 = c ∧ x.2 = s.2.2.2.2 c then 0 else s.1 x.1 x.2 j) = _
      rw [if_neg hz]
    have e2 : (tb_new s c n).2.1 x.1 x.2 = s.2.1 x.1 x.2 := by
      funext j
      show (if x.1 = c ∧ x.2 = s.2.2.2.2 c then 0 else s.2.1 x.1 x.2 j) = _
      rw [if_neg hz]
    have e3 : (tb_new s c n).2.2.1 x.1 x.2 = s.2.2.1 x.1 x.2 := by
      funext j
      show (if x.1 = c ∧ x.2 = s.2.2.2.2 c then none else s.2.2.1 x.1 x.2 j) = _
      rw [if_neg hz]
    have e4 : (tb_new s c n).2.2.2.1 x.1 x.2 = s.2.2.2.1 x.1 x.2 := by
      show (if x.1 = c ∧ x.2 = s.2.2.2.2 c then n else s.2.2.2.1 x.1 x.2) = _
      rw [if_neg hz]
    rw [tb_cel_congr e1 e2 e3 e4]
    have em : ∀ j, (s.2.2.1 x.1 x.2 j).map (fun x => if x = (c, s.2.2.2.2 c) then q else α x) = (s.2.2.1 x.1 x.2 j).map α := by
      intro j
      cases h : s.2.2.1 x.1 x.2 j with
      | none => rfl
      | some a => exact congrArg some (hα a (R.2.2.2.1 _ _ _ _ hx h))
    unfold tb_cel
    have f1 : tb_fv (fun x => if x = (c, s.2.2.2.2 c) then q else α x) s x.1 x.2 = tb_fv α s x.1 x.2 := by
      funext ci j
      unfold tb_fv
      rw [em j]
    have f2 : tb_dat (fun x => if x = (c, s.2.2.2.2 c) then q else α x) s x.1 x.2 = tb_dat α s x.1 x.2 := by
      funext t
      unfold tb_dat
      simp only [em]
    rw [f1, f2]
  have hw : tb_w γ (fun x => if x = (c, s.2.2.2.2 c) then q else α x) (tb_new s c n) (Lv ++ [(c, s.2.2.2.2 c)]) = tb_w γ α s Lv ++ [(q, e)] := by
    unfold tb_w
    rw [List.map_append]
    congr 1
    · refine List.map_congr_left fun x hx => ?_
      have hl : x.2 < s.2.2.2.2 x.1 := ((R.2.2.1 x.1 x.2).mp hx).2
      rw [hmap x hl, hα x hl]
    · show [(_, _)] = [(q, e)]
      rw [he]
      exact congrArg (fun z => [(z, e)]) (if_pos rfl)
  have hle : ∀ c', s.2.2.2.2 c' ≤ (tb_new s c n).2.2.2.2 c' := by
    intro c'
    show _ ≤ if c' = c then s.2.2.2.2 c + 1 else s.2.2.2.2 c'
    by_cases h : c' = c
    · rw [if_pos h, h]; exact Nat.le_succ _
    · rw [if_neg h]; exact Nat.le_refl _
  refine ⟨⟨by rw [hw]; exact hP, by rw [hw]; exact hD, fun c' k' => ?_, fun c' k' j a hk hj => ?_, fun c' k' h1 h2 => ?_⟩, fun c' => ⟨hle c', fun k' hk' => hα (c', k') hk'⟩⟩
  · show _ ↔ _ ∧ k' < if c' = c then s.2.2.2.2 c + 1 else s.2.2.2.2 c'
    rw [List.mem_append, R.2.2.1 c' k', List.mem_singleton]
    by_cases h : c' = c
    · subst h
      rw [if_pos rfl]
      constructor
      · rintro (⟨h1, h2⟩ | h1)
        · exact ⟨h1, by omega⟩
        · cases h1
          exact ⟨hc, Nat.lt_succ_self _⟩
      · rintro ⟨h1, h2⟩
        by_cases h3 : k' = s.2.2.2.2 c'
        · exact Or.inr (by rw [h3])
        · exact Or.inl ⟨h1, by omega⟩
    · rw [if_neg h]
      constructor
      · rintro (h1 | h1)
        · exact h1
        · cases h1
          exact absurd rfl h
      · exact Or.inl
  · have hk : k' < if c' = c then s.2.2.2.2 c + 1 else s.2.2.2.2 c' := hk
    have hj : (if c' = c ∧ k' = s.2.2.2.2 c then none else s.2.2.1 c' k' j) = some a := hj
    by_cases h : c' = c ∧ k' = s.2.2.2.2 c
    · rw [if_pos h] at hj
      cases hj
    · rw [if_neg h] at hj
      refine Nat.lt_of_lt_of_le (R.2.2.2.1 c' k' j a ?_ hj) (hle a.1)
      by_cases h3 : c' = c
      · subst h3
        rw [if_pos rfl] at hk
        have : ¬ k' = s.2.2.2.2 c' := fun z => h ⟨rfl, z⟩
        omega
      · rw [if_neg h3] at hk
        exact hk
  · refine (if_neg fun z => ?_).trans (R.2.2.2.2 c' k' h1 h2)
    cases z
    exact absurd (tb_role_lt hc) (by omega)
section TBQ
variable {γ : tbG} {y : tbM} {d mc ms : Nat} {Q : tbO → tbS → Prop} {nc ns pc a b : Nat} {cs : List tbI} {ls : tbL} {st : List tbV} {s : tbS} {l : List Nat} {v : tbV}
/-- to go on at a greater memory -/
theorem Ex.grown {p : Program} {e : Env} {u : State} {m : MethodId} {args : Array Value} {below : List Frame} {meth : Method} {c0 : Code} {H : Heap} {locs : List Loc} {A : Array Slot} {α α' : tbA → Nat} {Lv' : List tbA} {α0 : tbA → Nat} {C0 : Nat → Nat} {s' : tbS} {st' : List tbV} {nc' ns' : Nat}
    (kk : Ex γ y d mc ms Q nc' ns' cs ls (st' ++ st) s') (E : tb_Env γ y p u m args meth c0) (hc : tb_Ok y cs) (L : tb_loc α y.2.2.1 ls A) (K1 : tb_okl s ls) (K2 : tb_oks s st) (X : tb_Ext α0 C0 α s.2.2.2.2) (hE : tb_Ext α s.2.2.2.2 α' s'.2.2.2.2)
    (R : tb_Rep γ α' Lv' s' H) (S : va_S (tb_Ab γ) u.heap H locs) (K3 : tb_oks s' st') :
    W p γ.1 e (tb_rm d mc ms) u m args below meth c0 H locs nc' ns' (vx_MQ below (tb_Qc γ Q α0 C0) (tb_XC γ Q α0 C0) args u mc ms (tb_Ab γ)) (F0 m (tb_pc cs) A (st'.map (tb_tv α') ++ st.map (tb_tv α))) := by
  have hα : ∀ a : tbA, a.2 < s.2.2.2.2 a.1 → α' a = α a := fun a ha => (hE a.1).2 a.2 ha
  have hle : ∀ c, s.2.2.2.2 c ≤ s'.2.2.2.2 c := fun c => (hE c).1
  have app : ∀ {l1 l2 : List tbV}, tb_oks s' l1 → tb_oks s' l2 → tb_oks s' (l1 ++ l2) := by
    intro l1
    induction l1 with
    | nil => exact fun _ h => h
    | cons x l ih => exact fun h1 h2 => ⟨h1.1, ih h1.2 h2⟩
  have h := kk p e u m args below meth c0 H locs A α' Lv' α0 C0 E hc (tb_loc_ext hα K1 L) (tb_okl_mono hle K1) (app K3 (tb_oks_mono hle K2)) R S (X.tr hE)
  rw [List.map_append, tb_tvs_ext hα K2] at h
  exact h
theorem tb_iald {c k z : Nat} {i : Int32} (hr : tb_role c = (1, 0, z)) (hin : vp_in i (tb_len s c k)) (kk : Ex γ y d mc ms Q nc ns cs ls (.inl (s.1 c k i.toNatClampNeg) :: st) s) : Ex γ y d mc ms Q nc ns ((pc, .iaload, a, b, l, v) :: cs) ls (.inl i :: .inr (.inr (some (c, k))) :: st) s := by
  intro p e u m args below meth c0 H locs A α Lv α0 C0 E O L K1 K2 R S X
  obtain ⟨hd, hp, hc, hf⟩ := tb_Ok.go (n := 0) O rfl rfl
  have hk : k < s.2.2.2.2 c := K2.2.1
  have hm : (c, k) ∈ Lv := (R.2.2.1 c k).mpr ⟨by rw [hr]; exact Nat.lt_succ_self 1, hk⟩
  obtain ⟨q0, -, hw⟩ := tb_at_w (γ := γ) (α := α) (s := s) hm
  rw [tb_cel_arr hr] at hw
  have h := kk p e u m args below meth c0 H locs A α Lv α0 C0 E hc L K1 ⟨trivial, K2.2.2⟩ R S X
  rw [hp] at h
  have hK : va_K γ.2.1 tb_cl (tb_tyl γ) u := E.2.2.2.2.2.2.2.2.2.1.1
  exact va_iald E.1 E.2.1 hK R.1 q0 0 hw (tb_tyl_at γ (t := 0) (by decide)) hin hd h
theorem tb_bald {c k z : Nat} {i : Int32} (hr : tb_role c = (1, 1, z)) (hin : vp_in i (tb_len s c k)) (kk : Ex γ y d mc ms Q nc ns cs ls (.inl (s.1 c k i.toNatClampNeg) :: st) s) : Ex γ y d mc ms Q nc ns ((pc, .baload, a, b, l, v) :: cs) ls (.inl i :: .inr (.inr (some (c, k))) :: st) s := by
  intro p e u m args below meth c0 H locs A α Lv α0 C0 E O L K1 K2 R S X
  obtain ⟨hd, hp, hc, hf⟩ := tb_Ok.go (n := 0) O rfl rfl
  have hk : k < s.2.2.2.2 c := K2.2.1
  have hm : (c, k) ∈ Lv := (R.2.2.1 c k).mpr ⟨by rw [hr]; exact Nat.lt_succ_self 1, hk⟩
  obtain ⟨q0, -, hw⟩ := tb_at_w (γ := γ) (α := α) (s := s) hm
  rw [tb_cel_arr hr] at hw
  have h := kk p e u m args below meth c0 H locs A α Lv α0 C0 E hc L K1 ⟨trivial, K2.2.2⟩ R S X
  rw [hp] at h
  have hK : va_K γ.2.1 tb_cl (tb_tyl γ) u := E.2.2.2.2.2.2.2.2.2.1.1
  exact va_bald E.1 E.2.1 hK R.1 q0 1 hw (tb_tyl_at γ (t := 1) (by decide)) hin hd h
theorem tb_zald {c k z : Nat} {i : Int32} (hr : tb_role c = (1, 5, z)) (hin : vp_in i (tb_len s c k)) (kk : Ex γ y d mc ms Q nc ns cs ls (.inl (s.1 c k i.toNatClampNeg) :: st) s) : Ex γ y d mc ms Q nc ns ((pc, .baload, a, b, l, v) :: cs) ls (.inl i :: .inr (.inr (some (c, k))) :: st) s := by
  intro p e u m args below meth c0 H locs A α Lv α0 C0 E O L K1 K2 R S X
  obtain ⟨hd, hp, hc, hf⟩ := tb_Ok.go (n := 0) O rfl rfl
  have hk : k < s.2.2.2.2 c := K2.2.1
  have hm : (c, k) ∈ Lv := (R.2.2.1 c k).mpr ⟨by rw [hr]; exact Nat.lt_succ_self 1, hk⟩
  obtain ⟨q0, -, hw⟩ := tb_at_w (γ := γ) (α := α) (s := s) hm
  rw [tb_cel_arr hr] at hw
  have h := kk p e u m args below meth c0 H locs A α Lv α0 C0 E hc L K1 ⟨trivial, K2.2.2⟩ R S X
  rw [hp] at h
  have hK : va_K γ.2.1 tb_cl (tb_tyl γ) u := E.2.2.2.2.2.2.2.2.2.1.1
  exact va_zald E.1 E.2.1 hK R.1 q0 5 hw (tb_tyl_at γ (t := 5) (by decide)) hin hd h
theorem tb_cald {c k z : Nat} {i : Int32} (hr : tb_role c = (1, 4, z)) (hin : vp_in i (tb_len s c k)) (kk : Ex γ y d mc ms Q nc ns cs ls (.inl (s.1 c k i.toNatClampNeg) :: st) s) : Ex γ y d mc ms Q nc ns ((pc, .caload, a, b, l, v) :: cs) ls (.inl i :: .inr (.inr (some (c, k))) :: st) s := by
  intro p e u m args below meth c0 H locs A α Lv α0 C0 E O L K1 K2 R S X
  obtain ⟨hd, hp, hc, hf⟩ := tb_Ok.go (n := 0) O rfl rfl
  have hk : k < s.2.2.2.2 c := K2.2.1
  have hm : (c, k) ∈ Lv := (R.2.2.1 c k).mpr ⟨by rw [hr]; exact Nat.lt_succ_self 1, hk⟩
  obtain ⟨q0, -, hw⟩ := tb_at_w (γ := γ) (α := α) (s := s) hm
  rw [tb_cel_arr hr] at hw
  have h := kk p e u m args below meth c0 H locs A α Lv α0 C0 E hc L K1 ⟨trivial, K2.2.2⟩ R S X
  rw [hp] at h
  have hK : va_K γ.2.1 tb_cl (tb_tyl γ) u := E.2.2.2.2.2.2.2.2.2.1.1
  exact va_cald E.1 E.2.1 hK R.1 q0 4 hw (tb_tyl_at γ (t := 4) (by decide)) hin hd h
theorem tb_sald {c k z : Nat} {i : Int32} (hr : tb_role c = (1, 3, z)) (hin : vp_in i (tb_len s c k)) (kk : Ex γ y d mc ms Q nc ns cs ls (.inl (s.1 c k i.toNatClampNeg) :: st) s) : Ex γ y d mc ms Q nc ns ((pc, .saload, a, b, l, v) :: cs) ls (.inl i :: .inr (.inr (some (c, k))) :: st) s := by
  intro p e u m args below meth c0 H locs A α Lv α0 C0 E O L K1 K2 R S X
  obtain ⟨hd, hp, hc, hf⟩ := tb_Ok.go (n := 0) O rfl rfl
  have hk : k < s.2.2.2.2 c := K2.2.1
  have hm : (c, k) ∈ Lv := (R.2.2.1 c k).mpr ⟨by rw [hr]; exact Nat.lt_succ_self 1, hk⟩
  obtain ⟨q0, -, hw⟩ := tb_at_w (γ := γ) (α := α) (s := s) hm
  rw [tb_cel_arr hr] at hw
  have h := kk p e u m args below meth c0 H locs A α Lv α0 C0 E hc L K1 ⟨trivial, K2.2.2⟩ R S X
  rw [hp] at h
  have hK : va_K γ.2.1 tb_cl (tb_tyl γ) u := E.2.2.2.2.2.2.2.2.2.1.1
  exact va_sald E.1 E.2.1 hK R.1 q0 3 hw (tb_tyl_at γ (t := 3) (by decide)) hin hd h
theorem tb_lald {c k z : Nat} {i : Int32} (hr : tb_role c = (1, 2, z)) (hin : vp_in i (tb_len s c k)) (kk : Ex γ y d mc ms Q nc ns cs ls (.inr (.inl (s.2.1 c k i.toNatClampNeg)) :: st) s) : Ex γ y d mc ms Q nc ns ((pc, .laload, a, b, l, v) :: cs) ls (.inl i :: .inr (.inr (some (c, k))) :: st) s := by
  intro p e u m args below meth c0 H locs A α Lv α0 C0 E O L K1 K2 R S X
  obtain ⟨hd, hp, hc, hf⟩ := tb_Ok.go (n := 0) O rfl rfl
  have hk : k < s.2.2.2.2 c := K2.2.1
  have hm : (c, k) ∈ Lv := (R.2.2.1 c k).mpr ⟨by rw [hr]; exact Nat.lt_succ_self 1, hk⟩
  obtain ⟨q0, -, hw⟩ := tb_at_w (γ := γ) (α := α) (s := s) hm
  rw [tb_cel_arr hr] at hw
  have h := kk p e u m args below meth c0 H locs A α Lv α0 C0 E hc L K1 ⟨trivial, K2.2.2⟩ R S X
  rw [hp] at h
  have hK : va_K γ.2.1 tb_cl (tb_tyl γ) u := E.2.2.2.2.2.2.2.2.2.1.1
  exact va_lald E.1 E.2.1 hK R.1 q0 2 hw (tb_tyl_at γ (t := 2) (by decide)) hin hd h
theorem tb_aald6 {c k z : Nat} {i : Int32} (hr : tb_role c = (1, 6, z)) (hin : vp_in i (tb_len s c k)) (kk : Ex γ y d mc ms Q nc ns cs ls (.inr (.inr (s.2.2.1 c k i.toNatClampNeg)) :: st) s) : Ex γ y d mc ms Q nc ns ((pc, .aaload, a, b, l, v) :: cs) ls (.inl i :: .inr (.inr (some (c, k))) :: st) s := by
  intro p e u m args below meth c0 H locs A α Lv α0 C0 E O L K1 K2 R S X
  obtain ⟨hd, hp, hc, hf⟩ := tb_Ok.go (n := 0) O rfl rfl
  have hk : k < s.2.2.2.2 c := K2.2.1
  have hm : (c, k) ∈ Lv := (R.2.2.1 c k).mpr ⟨by rw [hr]; exact Nat.lt_succ_self 1, hk⟩
  obtain ⟨q0, -, hw⟩ := tb_at_w (γ := γ) (α := α) (s := s) hm
  rw [tb_cel_arr hr] at hw
  have h := kk p e u m args below meth c0 H locs A α Lv α0 C0 E hc L K1 ⟨tb_val_ok (t := 2) (j := i.toNatClampNeg) R.2.2.2.1 hk, K2.2.2⟩ R S X
  rw [hp] at h
  have hK : va_K γ.2.1 tb_cl (tb_tyl γ) u := E.2.2.2.2.2.2.2.2.2.1.1
  exact va_aldq E.1 E.2.1 hK R.1 q0 6 hw (tb_tyl_at γ (t := 6) (by decide)) hin hd h
theorem tb_aald7 {c k z : Nat} {i : Int32} (hr : tb_role c = (1, 7, z)) (hin : vp_in i (tb_len s c k)) (kk : Ex γ y d mc ms Q nc ns cs ls (.inr (.inr (s.2.2.1 c k i.toNatClampNeg)) :: st) s) : Ex γ y d mc ms Q nc ns ((pc, .aaload, a, b, l, v) :: cs) ls (.inl i :: .inr (.inr (some (c, k))) :: st) s := by
  intro p e u m args below meth c0 H locs A α Lv α0 C0 E O L K1 K2 R S X
  obtain ⟨hd, hp, hc, hf⟩ := tb_Ok.go (n := 0) O rfl rfl
  have hk : k < s.2.2.2.2 c := K2.2.1
  have hm : (c, k) ∈ Lv := (R.2.2.1 c k).mpr ⟨by rw [hr]; exact Nat.lt_succ_self 1, hk⟩
  obtain ⟨q0, -, hw⟩ := tb_at_w (γ := γ) (α := α) (s := s) hm
  rw [tb_cel_arr hr] at hw
  have h := kk p e u m args below meth c0 H locs A α Lv α0 C0 E hc L K1 ⟨tb_val_ok (t := 2) (j := i.toNatClampNeg) R.2.2.2.1 hk, K2.2.2⟩ R S X
  rw [hp] at h
  have hK : va_K γ.2.1 tb_cl (tb_tyl γ) u := E.2.2.2.2.2.2.2.2.2.1.1
  exact va_aldq E.1 E.2.1 hK R.1 q0 7 hw (tb_tyl_at γ (t := 7) (by decide)) hin hd h
theorem tb_aald8 {c k z : Nat} {i : Int32} (hr : tb_role c = (1, 8, z)) (hin : vp_in i (tb_len s c k)) (kk : Ex γ y d mc ms Q nc ns cs ls (.inr (.inr (s.2.2.1 c k i.toNatClampNeg)) :: st) s) : Ex γ y d mc ms Q nc ns ((pc, .aaload, a, b, l, v) :: cs) ls (.inl i :: .inr (.inr (some (c, k))) :: st) s := by
  intro p e u m args below meth c0 H locs A α Lv α0 C0 E O L K1 K2 R S X
  obtain ⟨hd, hp, hc, hf⟩ := tb_Ok.go (n := 0) O rfl rfl
  have hk : k < s.2.2.2.2 c := K2.2.1
  have hm : (c, k) ∈ Lv := (R.2.2.1 c k).mpr ⟨by rw [hr]; exact Nat.lt_succ_self 1, hk⟩
  obtain ⟨q0, -, hw⟩ := tb_at_w (γ := γ) (α := α) (s := s) hm
  rw [tb_cel_arr hr] at hw
  have h := kk p e u m args below meth c0 H locs A α Lv α0 C0 E hc L K1 ⟨tb_val_ok (t := 2) (j := i.toNatClampNeg) R.2.2.2.1 hk, K2.2.2⟩ R S X
  rw [hp] at h
  have hK : va_K γ.2.1 tb_cl (tb_tyl γ) u := E.2.2.2.2.2.2.2.2.2.1.1
  have hlt : i.toNatClampNeg < tb_len s c k := Nat.not_le.mp fun q => hin (Or.inr q)
  exact W.aald (v := va_rf ((s.2.2.1 c k i.toNatClampNeg).map α)) (ty := .array .int) E.1 E.2.1 (R.1 q0 _ hw) ((hK.2 8 _ (tb_tyl_at γ (t := 8) (by decide))).1 (tb_len s c k) (fun j => va_rf ((s.2.2.1 c k j).map α))) rfl (fun q => by cases q) (by show ¬ (i < 0 ∨ (arrV _ _ _).slots.size ≤ _); rw [arrV_size]; exact hin) (by show (arrV _ _ _).slots[_]? = _; rw [arrV_read _ _ hlt]) rfl rfl hd h
theorem tb_sld {i : Int32} (hin : vp_in i γ.2.2.2.2.2.1) (kk : Ex γ y d mc ms Q nc ns cs ls (.inl (γ.2.2.2.2.2.2 i.toNatClampNeg) :: st) s) : Ex γ y d mc ms Q nc ns ((pc, .iaload, a, b, l, v) :: cs) ls (.inl i :: .inr (.inr (some (76, 0))) :: st) s := by
  intro p e u m args below meth c0 H locs A α Lv α0 C0 E O L K1 K2 R S X
  obtain ⟨hd, hp, hc, hf⟩ := tb_Ok.go (n := 0) O rfl rfl
  have h := kk p e u m args below meth c0 H locs A α Lv α0 C0 E hc L K1 ⟨trivial, K2.2.2⟩ R S X
  rw [hp] at h
  have hE := E.2.2.2.2.2.2.2.2.2.1
  have hb : γ.2.2.2.2.1 76 0 < γ.2.2.2.1.size := hE.2.2.1.2.1
  have ha : α (76, 0) = γ.2.2.2.2.1 76 0 := R.2.2.2.2 76 0 (by decide) (by decide)
  have hX := hE.2.2.1.1.kept (hE.2.2.2.2.1 _ hb)
  show W p γ.1 e (tb_rm d mc ms) u m args below meth c0 H locs nc ns _ (F0 m pc A (.int i :: .ref (α (76, 0)) :: st.map (tb_tv α)))
  rw [ha]
  exact va_sld E.1 E.2.1 hX (Nat.lt_of_lt_of_le hb hE.2.2.2.1) (fun z => absurd hb (Nat.not_lt.mpr z)) S hin hd h
theorem tb_slen (kk : Ex γ y d mc ms Q nc ns cs ls (.inl (Int32.ofNat γ.2.2.2.2.2.1) :: st) s) : Ex γ y d mc ms Q nc ns ((pc, .arraylength, a, b, l, v) :: cs) ls (.inr (.inr (some (76, 0))) :: st) s := by
  intro p e u m args below meth c0 H locs A α Lv α0 C0 E O L K1 K2 R S X
  obtain ⟨hd, hp, hc, hf⟩ := tb_Ok.go (n := 0) O rfl rfl
  have h := kk p e u m args below meth c0 H locs A α Lv α0 C0 E hc L K1 ⟨trivial, K2.2⟩ R S X
  rw [hp] at h
  have hE := E.2.2.2.2.2.2.2.2.2.1
  have hb : γ.2.2.2.2.1 76 0 < γ.2.2.2.1.size := hE.2.2.1.2.1
  have ha : α (76, 0) = γ.2.2.2.2.1 76 0 := R.2.2.2.2 76 0 (by decide) (by decide)
  have hX := hE.2.2.1.1.kept (hE.2.2.2.2.1 _ hb)
  show W p γ.1 e (tb_rm d mc ms) u m args below meth c0 H locs nc ns _ (F0 m pc A (.ref (α (76, 0)) :: st.map (tb_tv α)))
  rw [ha]
  exact va_slen E.1 E.2.1 hX (Nat.lt_of_lt_of_le hb hE.2.2.2.1) (fun z => absurd hb (Nat.not_lt.mpr z)) S hd h
theorem tb_alen {c k ti z : Nat} (hr : tb_role c = (1, ti, z)) (ht : ti < 9) (kk : Ex γ y d mc ms Q nc ns cs ls (.inl (Int32.ofNat (tb_len s c k)) :: st) s) : Ex γ y d mc ms Q nc ns ((pc, .arraylength, a, b, l, v) :: cs) ls (.inr (.inr (some (c, k))) :: st) s := by
  intro p e u m args below meth c0 H locs A α Lv α0 C0 E O L K1 K2 R S X
  obtain ⟨hd, hp, hc, hf⟩ := tb_Ok.go (n := 0) O rfl rfl
  have hm : (c, k) ∈ Lv := (R.2.2.1 c k).mpr ⟨by rw [hr]; exact Nat.lt_succ_self 1, K2.1⟩
  obtain ⟨q0, -, hw⟩ := tb_at_w (γ := γ) (α := α) (s := s) hm
  rw [tb_cel_arr hr] at hw
  have h := kk p e u m args below meth c0 H locs A α Lv α0 C0 E hc L K1 ⟨trivial, K2.2⟩ R S X
  rw [hp] at h
  exact va_alen E.1 E.2.1 E.2.2.2.2.2.2.2.2.2.1.1 R.1 q0 ti hw (tb_tyl_at γ ht) rfl hd h
theorem tb_iast {c k z : Nat} {i : Int32} {x : Int32} (hr : tb_role c = (1, 0, z)) (hin : vp_in i (tb_len s c k)) (kk : Ex γ y d mc ms Q nc ns cs ls st (tb_sI s c k i.toNatClampNeg x)) : Ex γ y d mc ms Q nc ns ((pc, .iastore, a, b, l, v) :: cs) ls (.inl x :: .inl i :: .inr (.inr (some (c, k))) :: st) s := by
  intro p e u m args below meth c0 H locs A α Lv α0 C0 E O L K1 K2 R S X
  obtain ⟨hd, hp, hc, hf⟩ := tb_Ok.go (n := 0) O rfl rfl
  have hk : k < s.2.2.2.2 c := K2.2.2.1
  have hm : (c, k) ∈ Lv := (R.2.2.1 c k).mpr ⟨by rw [hr]; exact Nat.lt_succ_self 1, hk⟩
  obtain ⟨q0, hq, hw⟩ := tb_at_w (γ := γ) (α := α) (s := s) hm
  rw [tb_cel_arr hr] at hw
  have hK : va_K γ.2.1 tb_cl (tb_tyl γ) u := E.2.2.2.2.2.2.2.2.2.1.1
  refine va_iast E.1 E.2.1 hK R.1 R.2.1 S q0 0 hw (tb_tyl_at γ (t := 0) (by decide)) hin hd fun H1 locs1 hP hD S1 => ?_
  have hR : tb_Rep γ α Lv (tb_sI s c k i.toNatClampNeg x) H1 := by
    refine R.wr hq hP hD ?_ (fun x hx => ?_) rfl R.2.2.2.1
    · rw [tb_cel_arr hr]
      show Sum.inl (γ.2.2.1 0, tb_len s c k, Sum.inl ((tb_sI s c k i.toNatClampNeg x).1 c k)) = _
      rw [tb_sI_self]
    · have hx' : ¬ (x.1 = c ∧ x.2 = k) := fun q => hx (Prod.ext q.1 q.2)
      exact tb_cel_congr (tb_sI_at hx') rfl rfl rfl
  have h := kk p e u m args below meth c0 H1 locs1 A α Lv α0 C0 E hc L (tb_oklC (by rfl) K1) (tb_oksC (by rfl) K2.2.2.2) hR S1 X
  rw [hp] at h
  exact h
theorem tb_bast {c k z : Nat} {i : Int32} {x : Int32} (hr : tb_role c = (1, 1, z)) (hin : vp_in i (tb_len s c k)) (kk : Ex γ y d mc ms Q nc ns cs ls st (tb_sI s c k i.toNatClampNeg (vp_nar .byte x))) : Ex γ y d mc ms Q nc ns ((pc, .bastore, a, b, l, v) :: cs) ls (.inl x :: .inl i :: .inr (.inr (some (c, k))) :: st) s := by
  intro p e u m args below meth c0 H locs A α Lv α0 C0 E O L K1 K2 R S X
  obtain ⟨hd, hp, hc, hf⟩ := tb_Ok.go (n := 0) O rfl rfl
  have hk : k < s.2.2.2.2 c := K2.2.2.1
  have hm : (c, k) ∈ Lv := (R.2.2.1 c k).mpr ⟨by rw [hr]; exact Nat.lt_succ_self 1, hk⟩
  obtain ⟨q0, hq, hw⟩ := tb_at_w (γ := γ) (α := α) (s := s) hm
  rw [tb_cel_arr hr] at hw
  have hK : va_K γ.2.1 tb_cl (tb_tyl γ) u := E.2.2.2.2.2.2.2.2.2.1.1
  refine va_bast E.1 E.2.1 hK R.1 R.2.1 S q0 1 hw (tb_tyl_at γ (t := 1) (by decide)) hin hd fun H1 locs1 hP hD S1 => ?_
  have hR : tb_Rep γ α Lv (tb_sI s c k i.toNatClampNeg (vp_nar .byte x)) H1 := by
    refine R.wr hq hP hD ?_ (fun x hx => ?_) rfl R.2.2.2.1
    · rw [tb_cel_arr hr]
      show Sum.inl (γ.2.2.1 1, tb_len s c k, Sum.inl ((tb_sI s c k i.toNatClampNeg (vp_nar .byte x)).1 c k)) = _
      rw [tb_sI_self]
    · have hx' : ¬ (x.1 = c ∧ x.2 = k) := fun q => hx (Prod.ext q.1 q.2)
      exact tb_cel_congr (tb_sI_at hx') rfl rfl rfl
  have h := kk p e u m args below meth c0 H1 locs1 A α Lv α0 C0 E hc L (tb_oklC (by rfl) K1) (tb_oksC (by rfl) K2.2.2.2) hR S1 X
  rw [hp] at h
  exact h
theorem tb_zast {c k z : Nat} {i : Int32} {x : Int32} (hr : tb_role c = (1, 5, z)) (hin : vp_in i (tb_len s c k)) (kk : Ex γ y d mc ms Q nc ns cs ls st (tb_sI s c k i.toNatClampNeg (vp_nar .boolean x))) : Ex γ y d mc ms Q nc ns ((pc, .bastore, a, b, l, v) :: cs) ls (.inl x :: .inl i :: .inr (.inr (some (c, k))) :: st) s := by
  intro p e u m args below meth c0 H locs A α Lv α0 C0 E O L K1 K2 R S X
  obtain ⟨hd, hp, hc, hf⟩ := tb_Ok.go (n := 0) O rfl rfl
  have hk : k < s.2.2.2.2 c := K2.2.2.1
  have hm : (c, k) ∈ Lv := (R.2.2.1 c k).mpr ⟨by rw [hr]; exact Nat.lt_succ_self 1, hk⟩
  obtain ⟨q0, hq, hw⟩ := tb_at_w (γ := γ) (α := α) (s := s) hm
  rw [tb_cel_arr hr] at hw
  have hK : va_K γ.2.1 tb_cl (tb_tyl γ) u := E.2.2.2.2.2.2.2.2.2.1.1
  refine va_zast E.1 E.2.1 hK R.1 R.2.1 S q0 5 hw (tb_tyl_at γ (t := 5) (by decide)) hin hd fun H1 locs1 hP hD S1 => ?_
  have hR : tb_Rep γ α Lv (tb_sI s c k i.toNatClampNeg (vp_nar .boolean x)) H1 := by
    refine R.wr hq hP hD ?_ (fun x hx => ?_) rfl R.2.2.2.1
    · rw [tb_cel_arr hr]
      show Sum.inl (γ.2.2.1 5, tb_len s c k, Sum.inl ((tb_sI s c k i.toNatClampNeg (vp_nar .boolean x)).1 c k)) = _
      rw [tb_sI_self]
    · have hx' : ¬ (x.1 = c ∧ x.2 = k) := fun q => hx (Prod.ext q.1 q.2)
      exact tb_cel_congr (tb_sI_at hx') rfl rfl rfl
  have h := kk p e u m args below meth c0 H1 locs1 A α Lv α0 C0 E hc L (tb_oklC (by rfl) K1) (tb_oksC (by rfl) K2.2.2.2) hR S1 X
  rw [hp] at h
  exact h
theorem tb_cast {c k z : Nat} {i : Int32} {x : Int32} (hr : tb_role c = (1, 4, z)) (hin : vp_in i (tb_len s c k)) (kk : Ex γ y d mc ms Q nc ns cs ls st (tb_sI s c k i.toNatClampNeg (vp_nar .char x))) : Ex γ y d mc ms Q nc ns ((pc, .castore, a, b, l, v) :: cs) ls (.inl x :: .inl i :: .inr (.inr (some (c, k))) :: st) s := by
  intro p e u m args below meth c0 H locs A α Lv α0 C0 E O L K1 K2 R S X
  obtain ⟨hd, hp, hc, hf⟩ := tb_Ok.go (n := 0) O rfl rfl
  have hk : k < s.2.2.2.2 c := K2.2.2.1
  have hm : (c, k) ∈ Lv := (R.2.2.1 c k).mpr ⟨by rw [hr]; exact Nat.lt_succ_self 1, hk⟩
  obtain ⟨q0, hq, hw⟩ := tb_at_w (γ := γ) (α := α) (s := s) hm
  rw [tb_cel_arr hr] at hw
  have hK : va_K γ.2.1 tb_cl (tb_tyl γ) u := E.2.2.2.2.2.2.2.2.2.1.1
  refine va_cast E.1 E.2.1 hK R.1 R.2.1 S q0 4 hw (tb_tyl_at γ (t := 4) (by decide)) hin hd fun H1 locs1 hP hD S1 => ?_
  have hR : tb_Rep γ α Lv (tb_sI s c k i.toNatClampNeg (vp_nar .char x)) H1 := by
    refine R.wr hq hP hD ?_ (fun x hx => ?_) rfl R.2.2.2.1
    · rw [tb_cel_arr hr]
      show Sum.inl (γ.2.2.1 4, tb_len s c k, Sum.inl ((tb_sI s c k i.toNatClampNeg (vp_nar .char x)).1 c k)) = _
      rw [tb_sI_self]
    · have hx' : ¬ (x.1 = c ∧ x.2 = k) := fun q => hx (Prod.ext q.1 q.2)
      exact tb_cel_congr (tb_sI_at hx') rfl rfl rfl
  have h := kk p e u m args below meth c0 H1 locs1 A α Lv α0 C0 E hc L (tb_oklC (by rfl) K1) (tb_oksC (by rfl) K2.2.2.2) hR S1 X
  rw [hp] at h
  exact h
theorem tb_sast {c k z : Nat} {i : Int32} {x : Int32} (hr : tb_role c = (1, 3, z)) (hin : vp_in i (tb_len s c k)) (kk : Ex γ y d mc ms Q nc ns cs ls st (tb_sI s c k i.toNatClampNeg (vp_nar .short x))) : Ex γ y d mc ms Q nc ns ((pc, .sastore, a, b, l, v) :: cs) ls (.inl x :: .inl i :: .inr (.inr (some (c, k))) :: st) s := by
  intro p e u m args below meth c0 H locs A α Lv α0 C0 E O L K1 K2 R S X
  obtain ⟨hd, hp, hc, hf⟩ := tb_Ok.go (n := 0) O rfl rfl
  have hk : k < s.2.2.2.2 c := K2.2.2.1
  have hm : (c, k) ∈ Lv := (R.2.2.1 c k).mpr ⟨by rw [hr]; exact Nat.lt_succ_self 1, hk⟩
  obtain ⟨q0, hq, hw⟩ := tb_at_w (γ := γ) (α := α) (s := s) hm
  rw [tb_cel_arr hr] at hw
  have hK : va_K γ.2.1 tb_cl (tb_tyl γ) u := E.2.2.2.2.2.2.2.2.2.1.1
  refine va_sast E.1 E.2.1 hK R.1 R.2.1 S q0 3 hw (tb_tyl_at γ (t := 3) (by decide)) hin hd fun H1 locs1 hP hD S1 => ?_
  have hR : tb_Rep γ α Lv (tb_sI s c k i.toNatClampNeg (vp_nar .short x)) H1 := by
    refine R.wr hq hP hD ?_ (fun x hx => ?_) rfl R.2.2.2.1
    · rw [tb_cel_arr hr]
      show Sum.inl (γ.2.2.1 3, tb_len s c k, Sum.inl ((tb_sI s c k i.toNatClampNeg (vp_nar .short x)).1 c k)) = _
      rw [tb_sI_self]
    · have hx' : ¬ (x.1 = c ∧ x.2 = k) := fun q => hx (Prod.ext q.1 q.2)
      exact tb_cel_congr (tb_sI_at hx') rfl rfl rfl
  have h := kk p e u m args below meth c0 H1 locs1 A α Lv α0 C0 E hc L (tb_oklC (by rfl) K1) (tb_oksC (by rfl) K2.2.2.2) hR S1 X
  rw [hp] at h
  exact h
theorem tb_last {c k z : Nat} {i : Int32} {x : Int64} (hr : tb_role c = (1, 2, z)) (hin : vp_in i (tb_len s c k)) (kk : Ex γ y d mc ms Q nc ns cs ls st (tb_sL s c k i.toNatClampNeg x)) : Ex γ y d mc ms Q nc ns ((pc, .lastore, a, b, l, v) :: cs) ls (.inr (.inl x) :: .inl i :: .inr (.inr (some (c, k))) :: st) s := by
  intro p e u m args below meth c0 H locs A α Lv α0 C0 E O L K1 K2 R S X
  obtain ⟨hd, hp, hc, hf⟩ := tb_Ok.go (n := 0) O rfl rfl
  have hk : k < s.2.2.2.2 c := K2.2.2.1
  have hm : (c, k) ∈ Lv := (R.2.2.1 c k).mpr ⟨by rw [hr]; exact Nat.lt_succ_self 1, hk⟩
  obtain ⟨q0, hq, hw⟩ := tb_at_w (γ := γ) (α := α) (s := s) hm
  rw [tb_cel_arr hr] at hw
  have hK : va_K γ.2.1 tb_cl (tb_tyl γ) u := E.2.2.2.2.2.2.2.2.2.1.1
  refine va_last E.1 E.2.1 hK R.1 R.2.1 S q0 2 hw (tb_tyl_at γ (t := 2) (by decide)) hin hd fun H1 locs1 hP hD S1 => ?_
  have hR : tb_Rep γ α Lv (tb_sL s c k i.toNatClampNeg x) H1 := by
    refine R.wr hq hP hD ?_ (fun x hx => ?_) rfl R.2.2.2.1
    · rw [tb_cel_arr hr]
      show Sum.inl (γ.2.2.1 2, tb_len s c k, Sum.inr (Sum.inl ((tb_sL s c k i.toNatClampNeg x).2.1 c k))) = _
      rw [tb_sL_self]
    · have hx' : ¬ (x.1 = c ∧ x.2 = k) := fun q => hx (Prod.ext q.1 q.2)
      exact tb_cel_congr rfl (tb_sL_at hx') rfl rfl
  have h := kk p e u m args below meth c0 H1 locs1 A α Lv α0 C0 E hc L (tb_oklC (by rfl) K1) (tb_oksC (by rfl) K2.2.2.2) hR S1 X
  rw [hp] at h
  exact h
theorem tb_aast {c k z ti c2 k2 : Nat} {i : Int32} {C : String} {T : u_T} {N : Nat} (hr : tb_role c = (1, ti, z)) (hti : ti = 6 ∨ ti = 7) (hr2 : (tb_role c2).1 = 0) (hcl : tb_cl[(tb_role c2).2.1]? = some (C, T, N)) (hty : tb_at ti = .object C) (hin : vp_in i (tb_len s c k)) (kk : Ex γ y d mc ms Q nc ns cs ls st (tb_sR s c k i.toNatClampNeg (some (c2, k2)))) : Ex γ y d mc ms Q nc ns ((pc, .aastore, a, b, l, v) :: cs) ls (.inr (.inr (some (c2, k2))) :: .inl i :: .inr (.inr (some (c, k))) :: st) s := by
  intro p e u m args below meth c0 H locs A α Lv α0 C0 E O L K1 K2 R S X
  obtain ⟨hd, hp, hc, hf⟩ := tb_Ok.go (n := 0) O rfl rfl
  have hk : k < s.2.2.2.2 c := K2.2.2.1
  have hk2 : k2 < s.2.2.2.2 c2 := K2.1
  have hm : (c, k) ∈ Lv := (R.2.2.1 c k).mpr ⟨by rw [hr]; exact Nat.lt_succ_self 1, hk⟩
  have hm2 : (c2, k2) ∈ Lv := (R.2.2.1 c2 k2).mpr ⟨by rw [hr2]; decide, hk2⟩
  obtain ⟨q0, hq, hw⟩ := tb_at_w (γ := γ) (α := α) (s := s) hm
  obtain ⟨q2, -, hw2⟩ := tb_at_w (γ := γ) (α := α) (s := s) hm2
  rw [tb_cel_arr hr] at hw
  rw [tb_cel_obj hr2] at hw2
  have hK : va_K γ.2.1 tb_cl (tb_tyl γ) u := E.2.2.2.2.2.2.2.2.2.1.1
  have hdt : ∀ s : tbS, tb_dat α s c k ti = .inr (.inr (.inr (.inr (fun j => (s.2.2.1 c k j).map α)))) := by
    intro s
    rcases hti with rfl | rfl <;> rfl
  rw [hdt] at hw
  have htt : (tb_tyl γ)[ti]? = some (γ.2.2.1 ti, .object C) := by
    rw [← hty]
    exact tb_tyl_at γ (by rcases hti with rfl | rfl <;> decide)
  refine va_astq E.1 E.2.1 hK R.1 R.2.1 S q0 ti q2 (tb_role c2).2.1 (r := (C, T, N)) hw htt hw2 hcl hin hd fun H1 locs1 hP hD S1 => ?_
  have hR : tb_Rep γ α Lv (tb_sR s c k i.toNatClampNeg (some (c2, k2))) H1 := by
    refine R.wr hq hP hD ?_ (fun x hx => ?_) rfl (fun c' k' j a' hk' hj => ?_)
    · rw [tb_cel_arr hr, hdt]
      show Sum.inl (γ.2.2.1 ti, tb_len s c k, _) = _
      congr 7
      funext j
      rw [tb_sR_self]
      unfold va_up
      by_cases hj : j = i.toNatClampNeg
      · rw [if_pos hj, if_pos hj]; rfl
      · rw [if_neg hj, if_neg hj]
    · have hx' : ¬ (x.1 = c ∧ x.2 = k) := fun q => hx (Prod.ext q.1 q.2)
      exact tb_cel_congr rfl rfl (tb_sR_at hx') rfl
    · by_cases hz : c' = c ∧ k' = k
      · obtain ⟨rfl, rfl⟩ := hz
        rw [tb_sR_self] at hj
        by_cases hja : j = i.toNatClampNeg
        · rw [if_pos hja] at hj
          cases hj
          exact hk2
        · rw [if_neg hja] at hj
          exact R.2.2.2.1 _ _ _ _ hk' hj
      · rw [tb_sR_at hz] at hj
        exact R.2.2.2.1 _ _ _ _ hk' hj
  have h := kk p e u m args below meth c0 H1 locs1 A α Lv α0 C0 E hc L (tb_oklC (by rfl) K1) (tb_oksC (by rfl) K2.2.2.2) hR S1 X
  rw [hp] at h
  exact h
theorem tb_newo {n : Nat} (h0 : (tb_role a).1 = 0) (h1 : nc + 1 ≤ mc) (h2 : ns + (tb_role a).2.2 ≤ ms) (kk : Ex γ y d mc ms Q (nc + 1) (ns + (tb_role a).2.2) cs ls (.inr (.inr (some (a, s.2.2.2.2 a))) :: st) (tb_new s a 0)) : Ex γ y d mc ms Q nc ns ((pc, .new n, a, b, l, v) :: cs) ls st s := by
  intro p e u m args below meth c0 H locs A α Lv α0 C0 E O L K1 K2 R S X
  obtain ⟨hd, hp, hc, hf⟩ := tb_Ok.go (n := 2) O rfl rfl
  rcases hf with ⟨h78, -⟩ | hf
  · rw [h78] at h0
    exact absurd h0 (by decide)
  obtain ⟨C, T, N, g1, g2, g3, g4, g5, g6⟩ := hf
  obtain ⟨hin, ⟨ty, hty, htag⟩, -⟩ := tb_cls _ _ g1
  have hK : va_K γ.2.1 tb_cl (tb_tyl γ) u := E.2.2.2.2.2.2.2.2.2.1.1
  have hfv : ∀ (α' : tbA → Nat) (j : Nat), j < N → defaultValue (ty j) = tb_fv α' (tb_new s a 0) a (s.2.2.2.2 a) (tb_role a).2.1 j := by
    intro α' j hj
    have e1 : (tb_new s a 0).1 a (s.2.2.2.2 a) j = 0 := if_pos ⟨rfl, rfl⟩
    have e2 : (tb_new s a 0).2.1 a (s.2.2.2.2 a) j = 0 := if_pos ⟨rfl, rfl⟩
    have e3 : (tb_new s a 0).2.2.1 a (s.2.2.2.2 a) j = none := if_pos ⟨rfl, rfl⟩
    unfold tb_fv
    rw [e1, e2, e3, ← (htag j hj).1]
    have h3 : tb_tag (ty j) < 3 := (htag j hj).2
    cases hz : ty j <;> first | rfl | (rw [hz] at h3; exact absurd h3 (by decide))
  subst g3
  refine va_new (ci := (tb_role a).2.1) (fs := (List.range (tb_role a).2.2).map (tb_fv (fun _ => 0) (tb_new s a 0) a (s.2.2.2.2 a) (tb_role a).2.1)) E.1 E.2.1 E.2.2.2.1 hin ty hty E.2.2.2.2.1 (E.2.2.2.1 _ g4) (E.2.2.2.1 _ g5) (E.2.2.2.1 _ g6) hK R.1 R.2.1 S (fun q hq => Nat.le_trans E.2.2.2.2.2.2.2.2.2.1.2.2.2.1 hq) g1 (fun j hj => ?_) h1 h2 hd fun q H1 hP hD S1 => ?_
  · rw [hfv (fun _ => 0) j hj]
    unfold vp_V
    rw [List.getD_eq_getElem?_getD, List.getElem?_map, List.getElem?_range hj]
    rfl
  · have hnull : ∀ α' : tbA → Nat, (List.range (tb_role a).2.2).map (tb_fv α' (tb_new s a 0) a (s.2.2.2.2 a) (tb_role a).2.1) = (List.range (tb_role a).2.2).map (tb_fv (fun _ => 0) (tb_new s a 0) a (s.2.2.2.2 a) (tb_role a).2.1) :=
      fun α' => List.map_congr_left fun j hj => (hfv α' j (List.mem_range.mp hj)).symm.trans (hfv (fun _ => 0) j (List.mem_range.mp hj))
    obtain ⟨hR, hE⟩ := R.grow (c := a) (n := 0) (by rw [g2]; decide) hP hD (by rw [tb_cel_obj g2, hnull])
    have h := Ex.grown (e := e) (below := below) (st' := [.inr (.inr (some (a, s.2.2.2.2 a)))]) kk E hc L K1 K2 X hE hR S1 ⟨by show s.2.2.2.2 a < if a = a then _ else _; rw [if_pos rfl]; exact Nat.lt_succ_self _, trivial⟩
    rw [hp] at h
    have ez : tb_tv (fun x => if x = (a, s.2.2.2.2 a) then q else α x) (.inr (.inr (some (a, s.2.2.2.2 a)))) = .ref q := congrArg Value.ref (if_pos rfl)
    rw [List.map_cons, List.map_nil, ez] at h
    exact h
theorem tb_newa_int {x : Int32} {N z : Nat} (hr : tb_role a = (1, 0, z)) (hx : ¬ x < 0) (hN : x.toNatClampNeg = N) (hz : z = 0 ∨ z = N + 1) (hb : N ≤ 1000) (h1 : nc + 1 ≤ mc) (h2 : ns + N ≤ ms) (kk : Ex γ y d mc ms Q (nc + 1) (ns + N) cs ls (.inr (.inr (some (a, s.2.2.2.2 a))) :: st) (tb_new s a N)) : Ex γ y d mc ms Q nc ns ((pc, .newarray .int, a, b, l, v) :: cs) ls (.inl x :: st) s := by
  intro p e u m args below meth c0 H locs A α Lv α0 C0 E O L K1 K2 R S X
  obtain ⟨hd, hp, hc, hf⟩ := tb_Ok.go (n := 1) O rfl rfl
  obtain ⟨g1, g2, g3, g4⟩ := hf
  have hK : va_K γ.2.1 tb_cl (tb_tyl γ) u := E.2.2.2.2.2.2.2.2.2.1.1
  have ht := tb_tyl_at γ (t := 0) (by decide)
  have hlen : tb_len (tb_new s a N) a (s.2.2.2.2 a) = N := by
    unfold tb_len
    rw [hr]
    rcases hz with rfl | rfl
    · exact if_pos ⟨rfl, rfl⟩
    · rfl
  refine va_newa (atype := .int) (a0 := (N, .inl (fun _ => 0))) E.1 E.2.1 (E.2.2.2.1 _ g3) rfl hK R.1 R.2.1 S (fun q hq => Nat.le_trans E.2.2.2.2.2.2.2.2.2.1.2.2.2.1 hq) (fun cA => rfl) hx hN (Nat.le_trans (Nat.mul_le_mul_right _ hb) (by decide)) h1 h2 hd fun q cA H1 hK1 hP hD S1 => ?_
  have hcA : cA = γ.2.2.1 0 := by
    have e1 := (hK1.2 (tb_tyl γ).length (cA, .int) (by rw [List.getElem?_append_right (Nat.le_refl _), Nat.sub_self]; rfl)).2
    have e2 := (hK.2 0 _ ht).2
    exact Option.some.inj (e1.symm.trans e2)
  subst hcA
  obtain ⟨hR, hE⟩ := R.grow (c := a) (n := N) (by rw [hr]; exact Nat.lt_succ_self 1) hP hD (by
    rw [tb_cel_arr hr, hlen]
    have hz : (tb_new s a N).1 a (s.2.2.2.2 a) = fun _ => 0 := by
      funext j
      exact if_pos ⟨rfl, rfl⟩
    show Sum.inl (γ.2.2.1 0, N, Sum.inl ((tb_new s a N).1 a (s.2.2.2.2 a))) = _
    rw [hz])
  have h := Ex.grown (e := e) (below := below) (st' := [.inr (.inr (some (a, s.2.2.2.2 a)))]) kk E hc L K1 K2.2 X hE hR S1 ⟨by show s.2.2.2.2 a < if a = a then _ else _; rw [if_pos rfl]; exact Nat.lt_succ_self _, trivial⟩
  rw [hp] at h
  have ez : tb_tv (fun x => if x = (a, s.2.2.2.2 a) then q else α x) (.inr (.inr (some (a, s.2.2.2.2 a)))) = .ref q := congrArg Value.ref (if_pos rfl)
  rw [List.map_cons, List.map_nil, ez] at h
  exact h
theorem tb_newa_byte {x : Int32} {N z : Nat} (hr : tb_role a = (1, 1, z)) (hx : ¬ x < 0) (hN : x.toNatClampNeg = N) (hz : z = 0 ∨ z = N + 1) (hb : N ≤ 1000) (h1 : nc + 1 ≤ mc) (h2 : ns + N ≤ ms) (kk : Ex γ y d mc ms Q (nc + 1) (ns + N) cs ls (.inr (.inr (some (a, s.2.2.2.2 a))) :: st) (tb_new s a N)) : Ex γ y d mc ms Q nc ns ((pc, .newarray .byte, a, b, l, v) :: cs) ls (.inl x :: st) s := by
  intro p e u m args below meth c0 H locs A α Lv α0 C0 E O L K1 K2 R S X
  obtain ⟨hd, hp, hc, hf⟩ := tb_Ok.go (n := 1) O rfl rfl
  obtain ⟨g1, g2, g3, g4⟩ := hf
  have hK : va_K γ.2.1 tb_cl (tb_tyl γ) u := E.2.2.2.2.2.2.2.2.2.1.1
  have ht := tb_tyl_at γ (t := 1) (by decide)
  have hlen : tb_len (tb_new s a N) a (s.2.2.2.2 a) = N := by
    unfold tb_len
    rw [hr]
    rcases hz with rfl | rfl
    · exact if_pos ⟨rfl, rfl⟩
    · rfl
  refine va_newa (atype := .byte) (a0 := (N, .inl (fun _ => 0))) E.1 E.2.1 (E.2.2.2.1 _ g3) rfl hK R.1 R.2.1 S (fun q hq => Nat.le_trans E.2.2.2.2.2.2.2.2.2.1.2.2.2.1 hq) (fun cA => rfl) hx hN (Nat.le_trans (Nat.mul_le_mul_right _ hb) (by decide)) h1 h2 hd fun q cA H1 hK1 hP hD S1 => ?_
  have hcA : cA = γ.2.2.1 1 := by
    have e1 := (hK1.2 (tb_tyl γ).length (cA, .byte) (by rw [List.getElem?_append_right (Nat.le_refl _), Nat.sub_self]; rfl)).2
    have e2 := (hK.2 1 _ ht).2
    exact Option.some.inj (e1.symm.trans e2)
  subst hcA
  obtain ⟨hR, hE⟩ := R.grow (c := a) (n := N) (by rw [hr]; exact Nat.lt_succ_self 1) hP hD (by
    rw [tb_cel_arr hr, hlen]
    have hz : (tb_new s a N).1 a (s.2.2.2.2 a) = fun _ => 0 := by
      funext j
      exact if_pos ⟨rfl, rfl⟩
    show Sum.inl (γ.2.2.1 1, N, Sum.inl ((tb_new s a N).1 a (s.2.2.2.2 a))) = _
    rw [hz])
  have h := Ex.grown (e := e) (below := below) (st' := [.inr (.inr (some (a, s.2.2.2.2 a)))]) kk E hc L K1 K2.2 X hE hR S1 ⟨by show s.2.2.2.2 a < if a = a then _ else _; rw [if_pos rfl]; exact Nat.lt_succ_self _, trivial⟩
  rw [hp] at h
  have ez : tb_tv (fun x => if x = (a, s.2.2.2.2 a) then q else α x) (.inr (.inr (some (a, s.2.2.2.2 a)))) = .ref q := congrArg Value.ref (if_pos rfl)
  rw [List.map_cons, List.map_nil, ez] at h
  exact h
theorem tb_newa_long {x : Int32} {N z : Nat} (hr : tb_role a = (1, 2, z)) (hx : ¬ x < 0) (hN : x.toNatClampNeg = N) (hz : z = 0 ∨ z = N + 1) (hb : N ≤ 1000) (h1 : nc + 1 ≤ mc) (h2 : ns + N ≤ ms) (kk : Ex γ y d mc ms Q (nc + 1) (ns + N) cs ls (.inr (.inr (some (a, s.2.2.2.2 a))) :: st) (tb_new s a N)) : Ex γ y d mc ms Q nc ns ((pc, .newarray .long, a, b, l, v) :: cs) ls (.inl x :: st) s := by
  intro p e u m args below meth c0 H locs A α Lv α0 C0 E O L K1 K2 R S X
  obtain ⟨hd, hp, hc, hf⟩ := tb_Ok.go (n := 1) O rfl rfl
  obtain ⟨g1, g2, g3, g4⟩ := hf
  have hK : va_K γ.2.1 tb_cl (tb_tyl γ) u := E.2.2.2.2.2.2.2.2.2.1.1
  have ht := tb_tyl_at γ (t := 2) (by decide)
  have hlen : tb_len (tb_new s a N) a (s.2.2.2.2 a) = N := by
    unfold tb_len
    rw [hr]
    rcases hz with rfl | rfl
    · exact if_pos ⟨rfl, rfl⟩
    · rfl
  refine va_newa (atype := .long) (a0 := (N, .inr (.inl (fun _ => 0)))) E.1 E.2.1 (E.2.2.2.1 _ g3) rfl hK R.1 R.2.1 S (fun q hq => Nat.le_trans E.2.2.2.2.2.2.2.2.2.1.2.2.2.1 hq) (fun cA => rfl) hx hN (Nat.le_trans (Nat.mul_le_mul_right _ hb) (by decide)) h1 h2 hd fun q cA H1 hK1 hP hD S1 => ?_
  have hcA : cA = γ.2.2.1 2 := by
    have e1 := (hK1.2 (tb_tyl γ).length (cA, .long) (by rw [List.getElem?_append_right (Nat.le_refl _), Nat.sub_self]; rfl)).2
    have e2 := (hK.2 2 _ ht).2
    exact Option.some.inj (e1.symm.trans e2)
  subst hcA
  obtain ⟨hR, hE⟩ := R.grow (c := a) (n := N) (by rw [hr]; exact Nat.lt_succ_self 1) hP hD (by
    rw [tb_cel_arr hr, hlen]
    have hz : (tb_new s a N).2.1 a (s.2.2.2.2 a) = fun _ => 0 := by
      funext j
      exact if_pos ⟨rfl, rfl⟩
    show Sum.inl (γ.2.2.1 2, N, Sum.inr (Sum.inl ((tb_new s a N).2.1 a (s.2.2.2.2 a)))) = _
    rw [hz])
  have h := Ex.grown (e := e) (below := below) (st' := [.inr (.inr (some (a, s.2.2.2.2 a)))]) kk E hc L K1 K2.2 X hE hR S1 ⟨by show s.2.2.2.2 a < if a = a then _ else _; rw [if_pos rfl]; exact Nat.lt_succ_self _, trivial⟩
  rw [hp] at h
  have ez : tb_tv (fun x => if x = (a, s.2.2.2.2 a) then q else α x) (.inr (.inr (some (a, s.2.2.2.2 a)))) = .ref q := congrArg Value.ref (if_pos rfl)
  rw [List.map_cons, List.map_nil, ez] at h
  exact h
theorem tb_newa_short {x : Int32} {N z : Nat} (hr : tb_role a = (1, 3, z)) (hx : ¬ x < 0) (hN : x.toNatClampNeg = N) (hz : z = 0 ∨ z = N + 1) (hb : N ≤ 1000) (h1 : nc + 1 ≤ mc) (h2 : ns + N ≤ ms) (kk : Ex γ y d mc ms Q (nc + 1) (ns + N) cs ls (.inr (.inr (some (a, s.2.2.2.2 a))) :: st) (tb_new s a N)) : Ex γ y d mc ms Q nc ns ((pc, .newarray .short, a, b, l, v) :: cs) ls (.inl x :: st) s := by
  intro p e u m args below meth c0 H locs A α Lv α0 C0 E O L K1 K2 R S X
  obtain ⟨hd, hp, hc, hf⟩ := tb_Ok.go (n := 1) O rfl rfl
  obtain ⟨g1, g2, g3, g4⟩ := hf
  have hK : va_K γ.2.1 tb_cl (tb_tyl γ) u := E.2.2.2.2.2.2.2.2.2.1.1
  have ht := tb_tyl_at γ (t := 3) (by decide)
  have hlen : tb_len (tb_new s a N) a (s.2.2.2.2 a) = N := by
    unfold tb_len
    rw [hr]
    rcases hz with rfl | rfl
    · exact if_pos ⟨rfl, rfl⟩
    · rfl
  refine va_newa (atype := .short) (a0 := (N, .inl (fun _ => 0))) E.1 E.2.1 (E.2.2.2.1 _ g3) rfl hK R.1 R.2.1 S (fun q hq => Nat.le_trans E.2.2.2.2.2.2.2.2.2.1.2.2.2.1 hq) (fun cA => rfl) hx hN (Nat.le_trans (Nat.mul_le_mul_right _ hb) (by decide)) h1 h2 hd fun q cA H1 hK1 hP hD S1 => ?_
  have hcA : cA = γ.2.2.1 3 := by
    have e1 := (hK1.2 (tb_tyl γ).length (cA, .short) (by rw [List.getElem?_append_right (Nat.le_refl _), Nat.sub_self]; rfl)).2
    have e2 := (hK.2 3 _ ht).2
    exact Option.some.inj (e1.symm.trans e2)
  subst hcA
  obtain ⟨hR, hE⟩ := R.grow (c := a) (n := N) (by rw [hr]; exact Nat.lt_succ_self 1) hP hD (by
    rw [tb_cel_arr hr, hlen]
    have hz : (tb_new s a N).1 a (s.2.2.2.2 a) = fun _ => 0 := by
      funext j
      exact if_pos ⟨rfl, rfl⟩
    show Sum.inl (γ.2.2.1 3, N, Sum.inl ((tb_new s a N).1 a (s.2.2.2.2 a))) = _
    rw [hz])
  have h := Ex.grown (e := e) (below := below) (st' := [.inr (.inr (some (a, s.2.2.2.2 a)))]) kk E hc L K1 K2.2 X hE hR S1 ⟨by show s.2.2.2.2 a < if a = a then _ else _; rw [if_pos rfl]; exact Nat.lt_succ_self _, trivial⟩
  rw [hp] at h
  have ez : tb_tv (fun x => if x = (a, s.2.2.2.2 a) then q else α x) (.inr (.inr (some (a, s.2.2.2.2 a)))) = .ref q := congrArg Value.ref (if_pos rfl)
  rw [List.map_cons, List.map_nil, ez] at h
  exact h
theorem tb_newa_char {x : Int32} {N z : Nat} (hr : tb_role a = (1, 4, z)) (hx : ¬ x < 0) (hN : x.toNatClampNeg = N) (hz : z = 0 ∨ z = N + 1) (hb : N ≤ 1000) (h1 : nc + 1 ≤ mc) (h2 : ns + N ≤ ms) (kk : Ex γ y d mc ms Q (nc + 1) (ns + N) cs ls (.inr (.inr (some (a, s.2.2.2.2 a))) :: st) (tb_new s a N)) : Ex γ y d mc ms Q nc ns ((pc, .newarray .char, a, b, l, v) :: cs) ls (.inl x :: st) s := by
  intro p e u m args below meth c0 H locs A α Lv α0 C0 E O L K1 K2 R S X
  obtain ⟨hd, hp, hc, hf⟩ := tb_Ok.go (n := 1) O rfl rfl
  obtain ⟨g1, g2, g3, g4⟩ := hf
  have hK : va_K γ.2.1 tb_cl (tb_tyl γ) u := E.2.2.2.2.2.2.2.2.2.1.1
  have ht := tb_tyl_at γ (t := 4) (by decide)
  have hlen : tb_len (tb_new s a N) a (s.2.2.2.2 a) = N := by
    unfold tb_len
    rw [hr]
    rcases hz with rfl | rfl
    · exact if_pos ⟨rfl, rfl⟩
    · rfl
  refine va_newa (atype := .char) (a0 := (N, .inl (fun _ => 0))) E.1 E.2.1 (E.2.2.2.1 _ g3) rfl hK R.1 R.2.1 S (fun q hq => Nat.le_trans E.2.2.2.2.2.2.2.2.2.1.2.2.2.1 hq) (fun cA => rfl) hx hN (Nat.le_trans (Nat.mul_le_mul_right _ hb) (by decide)) h1 h2 hd fun q cA H1 hK1 hP hD S1 => ?_
  have hcA : cA = γ.2.2.1 4 := by
    have e1 := (hK1.2 (tb_tyl γ).length (cA, .char) (by rw [List.getElem?_append_right (Nat.le_refl _), Nat.sub_self]; rfl)).2
    have e2 := (hK.2 4 _ ht).2
    exact Option.some.inj (e1.symm.trans e2)
  subst hcA
  obtain ⟨hR, hE⟩ := R.grow (c := a) (n := N) (by rw [hr]; exact Nat.lt_succ_self 1) hP hD (by
    rw [tb_cel_arr hr, hlen]
    have hz : (tb_new s a N).1 a (s.2.2.2.2 a) = fun _ => 0 := by
      funext j
      exact if_pos ⟨rfl, rfl⟩
    show Sum.inl (γ.2.2.1 4, N, Sum.inl ((tb_new s a N).1 a (s.2.2.2.2 a))) = _
    rw [hz])
  have h := Ex.grown (e := e) (below := below) (st' := [.inr (.inr (some (a, s.2.2.2.2 a)))]) kk E hc L K1 K2.2 X hE hR S1 ⟨by show s.2.2.2.2 a < if a = a then _ else _; rw [if_pos rfl]; exact Nat.lt_succ_self _, trivial⟩
  rw [hp] at h
  have ez : tb_tv (fun x => if x = (a, s.2.2.2.2 a) then q else α x) (.inr (.inr (some (a, s.2.2.2.2 a)))) = .ref q := congrArg Value.ref (if_pos rfl)
  rw [List.map_cons, List.map_nil, ez] at h
  exact h
theorem tb_newa_boolean {x : Int32} {N z : Nat} (hr : tb_role a = (1, 5, z)) (hx : ¬ x < 0) (hN : x.toNatClampNeg = N) (hz : z = 0 ∨ z = N + 1) (hb : N ≤ 1000) (h1 : nc + 1 ≤ mc) (h2 : ns + N ≤ ms) (kk : Ex γ y d mc ms Q (nc + 1) (ns + N) cs ls (.inr (.inr (some (a, s.2.2.2.2 a))) :: st) (tb_new s a N)) : Ex γ y d mc ms Q nc ns ((pc, .newarray .boolean, a, b, l, v) :: cs) ls (.inl x :: st) s := by
  intro p e u m args below meth c0 H locs A α Lv α0 C0 E O L K1 K2 R S X
  obtain ⟨hd, hp, hc, hf⟩ := tb_Ok.go (n := 1) O rfl rfl
  obtain ⟨g1, g2, g3, g4⟩ := hf
  have hK : va_K γ.2.1 tb_cl (tb_tyl γ) u := E.2.2.2.2.2.2.2.2.2.1.1
  have ht := tb_tyl_at γ (t := 5) (by decide)
  have hlen : tb_len (tb_new s a N) a (s.2.2.2.2 a) = N := by
    unfold tb_len
    rw [hr]
    rcases hz with rfl | rfl
    · exact if_pos ⟨rfl, rfl⟩
    · rfl
  refine va_newa (atype := .boolean) (a0 := (N, .inl (fun _ => 0))) E.1 E.2.1 (E.2.2.2.1 _ g3) rfl hK R.1 R.2.1 S (fun q hq => Nat.le_trans E.2.2.2.2.2.2.2.2.2.1.2.2.2.1 hq) (fun cA => rfl) hx hN (Nat.le_trans (Nat.mul_le_mul_right _ hb) (by decide)) h1 h2 hd fun q cA H1 hK1 hP hD S1 => ?_
  have hcA : cA = γ.2.2.1 5 := by
    have e1 := (hK1.2 (tb_tyl γ).length (cA, .boolean) (by rw [List.getElem?_append_right (Nat.le_refl _), Nat.sub_self]; rfl)).2
    have e2 := (hK.2 5 _ ht).2
    exact Option.some.inj (e1.symm.trans e2)
  subst hcA
  obtain ⟨hR, hE⟩ := R.grow (c := a) (n := N) (by rw [hr]; exact Nat.lt_succ_self 1) hP hD (by
    rw [tb_cel_arr hr, hlen]
    have hz : (tb_new s a N).1 a (s.2.2.2.2 a) = fun _ => 0 := by
      funext j
      exact if_pos ⟨rfl, rfl⟩
    show Sum.inl (γ.2.2.1 5, N, Sum.inl ((tb_new s a N).1 a (s.2.2.2.2 a))) = _
    rw [hz])
  have h := Ex.grown (e := e) (below := below) (st' := [.inr (.inr (some (a, s.2.2.2.2 a)))]) kk E hc L K1 K2.2 X hE hR S1 ⟨by show s.2.2.2.2 a < if a = a then _ else _; rw [if_pos rfl]; exact Nat.lt_succ_self _, trivial⟩
  rw [hp] at h
  have ez : tb_tv (fun x => if x = (a, s.2.2.2.2 a) then q else α x) (.inr (.inr (some (a, s.2.2.2.2 a)))) = .ref q := congrArg Value.ref (if_pos rfl)
  rw [List.map_cons, List.map_nil, ez] at h
  exact h
theorem tb_newq {n : Nat} {x : Int32} {N z ti : Nat} (hr : tb_role a = (1, ti, z)) (hx : ¬ x < 0) (hN : x.toNatClampNeg = N) (hz : z = 0 ∨ z = N + 1) (hb : N ≤ 1000) (h1 : nc + 1 ≤ mc) (h2 : ns + N ≤ ms) (kk : Ex γ y d mc ms Q (nc + 1) (ns + N) cs ls (.inr (.inr (some (a, s.2.2.2.2 a))) :: st) (tb_new s a N)) : Ex γ y d mc ms Q nc ns ((pc, .anewarray n, a, b, l, v) :: cs) ls (.inl x :: st) s := by
  intro p e u m args below meth c0 H locs A α Lv α0 C0 E O L K1 K2 R S X
  obtain ⟨hd, hp, hc, hf⟩ := tb_Ok.go (n := 2) O rfl rfl
  obtain ⟨C, g1, g2, g3, g4, g5, g6⟩ := hf
  rw [hr] at g2 g5 g6
  dsimp only at g2 g5 g6
  have hK : va_K γ.2.1 tb_cl (tb_tyl γ) u := E.2.2.2.2.2.2.2.2.2.1.1
  have ht := tb_tyl_at γ (t := ti) (by omega)
  have hover : va_AO C u := by
    rcases g4 with rfl | rfl
    · exact E.2.2.2.2.2.2.2.2.2.1.2.2.1.2.2.1
    · exact E.2.2.2.2.2.2.2.2.2.1.2.2.1.2.2.2.1
  have hlen : tb_len (tb_new s a N) a (s.2.2.2.2 a) = N := by
    unfold tb_len
    rw [hr]
    rcases hz with rfl | rfl
    · exact if_pos ⟨rfl, rfl⟩
    · rfl
  have hdt : ∀ (α : tbA → Nat) (s : tbS) (c k : Nat), tb_dat α s c k ti = .inr (.inr (.inr (.inr (fun j => (s.2.2.1 c k j).map α)))) := by
    intro α s c k
    have hti : ti = 6 ∨ ti = 7 := by omega
    rcases hti with rfl | rfl <;> rfl
  refine va_newq E.1 E.2.1 E.2.2.2.2.1 (E.2.2.2.1 _ g3) hover hK R.1 R.2.1 S (fun q hq => Nat.le_trans E.2.2.2.2.2.2.2.2.2.1.2.2.2.1 hq) hx hN (Nat.le_trans (Nat.mul_le_mul_right _ hb) (by decide)) h1 h2 hd fun q cA H1 hK1 hP hD S1 => ?_
  have hcA : cA = γ.2.2.1 ti := by
    obtain ⟨_, _, _, _, _, e1⟩ := (hK1.2 (tb_tyl γ).length (cA, .object C) (by rw [List.getElem?_append_right (Nat.le_refl _), Nat.sub_self]; rfl)).2
    rw [g2] at ht
    obtain ⟨_, _, _, _, _, e2⟩ := (hK.2 ti _ ht).2
    exact Option.some.inj (e1.symm.trans e2)
  subst hcA
  obtain ⟨hR, hE⟩ := R.grow (c := a) (n := N) (by rw [hr]; exact Nat.lt_succ_self 1) hP hD (by
    rw [tb_cel_arr hr, hlen, hdt]
    congr 7
    funext j
    have e3 : (tb_new s a N).2.2.1 a (s.2.2.2.2 a) j = none := if_pos ⟨rfl, rfl⟩
    rw [e3]
    rfl)
  have h := Ex.grown (e := e) (below := below) (st' := [.inr (.inr (some (a, s.2.2.2.2 a)))]) kk E hc L K1 K2.2 X hE hR S1 ⟨by show s.2.2.2.2 a < if a = a then _ else _; rw [if_pos rfl]; exact Nat.lt_succ_self _, trivial⟩
  rw [hp] at h
  have ez : tb_tv (fun x => if x = (a, s.2.2.2.2 a) then q else α x) (.inr (.inr (some (a, s.2.2.2.2 a)))) = .ref q := congrArg Value.ref (if_pos rfl)
  rw [List.map_cons, List.map_nil, ez] at h
  exact h
end TBQ
