/-! SPECIAL RULES: Math, Object's constructor, switches, arraycopy, clone, casts -/
set_option maxRecDepth 100000
def tbMin (x z : Int32) : Int32 := if z < x then z else x
def tbMax (x z : Int32) : Int32 := if x < z then z else x
def tbAbs (x : Int32) : Int32 := if 0 ≤ x then x else 0 - x
/-- a whole row of ints of a thing -/
def tb_sF (s : tbS) (c k : Nat) (f : Nat → Int32) : tbS := (fun c' k' j' => if c' = c ∧ k' = k then f j' else s.1 c' k' j', s.2)
def tb_sQ (s : tbS) (c k : Nat) (f : Nat → Option tbA) : tbS := (s.1, s.2.1, fun c' k' j' => if c' = c ∧ k' = k then f j' else s.2.2.1 c' k' j', s.2.2.2)
theorem tb_sF_at {s : tbS} {c k : Nat} {f : Nat → Int32} {c' k' : Nat} (h : ¬ (c' = c ∧ k' = k)) : (tb_sF s c k f).1 c' k' = s.1 c' k' := by
  funext j
  exact if_neg h
theorem tb_sF_self {s : tbS} {c k : Nat} {f : Nat → Int32} : (tb_sF s c k f).1 c k = f := by
  funext j
  exact if_pos ⟨rfl, rfl⟩
theorem tb_sQ_at {s : tbS} {c k : Nat} {f : Nat → Option tbA} {c' k' : Nat} (h : ¬ (c' = c ∧ k' = k)) : (tb_sQ s c k f).2.2.1 c' k' = s.2.2.1 c' k' := by
  funext j
  exact if_neg h
theorem tb_sQ_self {s : tbS} {c k : Nat} {f : Nat → Option tbA} : (tb_sQ s c k f).2.2.1 c k = f := by
  funext j
  exact if_pos ⟨rfl, rfl⟩
theorem tb_Rep.growF {γ : tbG} {α : tbA → Nat} {Lv : List tbA} {s : tbS} {H H1 : Heap} {c n q : Nat} {fz : Nat → Int32} {e : va_E} (R : tb_Rep γ α Lv s H) (hc : (tb_role c).1 < 2)
    (hP : va_P γ.2.1 tb_cl (tb_w γ α s Lv ++ [(q, e)]) H1) (hD : va_D (tb_Ab γ) (tb_w γ α s Lv ++ [(q, e)])) (he : tb_cel γ (fun x => if x = (c, s.2.2.2.2 c) then q else α x) (tb_sF (tb_new s c n) c (s.2.2.2.2 c) fz) (c, s.2.2.2.2 c) = e) :
    tb_Rep γ (fun x => if x = (c, s.2.2.2.2 c) then q else α x) (Lv ++ [(c, s.2.2.2.2 c)]) (tb_sF (tb_new s c n) c (s.2.2.2.2 c) fz) H1 ∧ tb_Ext α s.2.2.2.2 (fun x => if x = (c, s.2.2.2.2 c) then q else α x) (tb_sF (tb_new s c n) c (s.2.2.2.2 c) fz).2.2.2.2 := by
  have hα : ∀ a : tbA, a.2 < s.2.2.2.2 a.1 → (fun x => if x = (c, s.2.2.2.2 c) then q else α x) a = α a := by
    intro a ha
    refine if_neg fun h => ?_
    subst h
    exact Nat.lt_irrefl _ ha
  have hmap : ∀ x : tbA, x.2 < s.2.2.2.2 x.1 → tb_cel γ (fun x => if x = (c, s.2.2.2.2 c) then q else α x) (tb_sF (tb_new s c n) c (s.2.2.2.2 c) fz) x = tb_cel γ α s x := by
    intro x hx
    have hz : ¬ (x.1 = c ∧ x.2 = s.2.2.2.2 c) := by
      rintro ⟨h1, h2⟩
      rw [h2, h1] at hx
      exact Nat.lt_irrefl _ hx
    have e1 : (tb_sF (tb_new s c n) c (s.2.2.2.2 c) fz).1 x.1 x.2 = s.1 x.1 x.2 := by
      funext j
      show (if x.1 = c ∧ x.2 = s.2.2.2.2 c then fz j else if x.1 = c ∧ x.2 = s.2.2.2.2 c then 0 else s.1 x.1 x.2 j) = _
      rw [if_neg hz, if_neg hz]
    have e2 : (tb_sF (tb_new s c n) c (s.2.2.2.2 c) fz).2.1 x.1 x.2 = s.2.1 x.1 x.2 := by
      funext j
      show (if x.1 = c ∧ x.2 = s.2.2.2.2 c then 0 else s.2.1 x.1 x.2 j) = _
      rw [if_neg hz]
    have e3 : (tb_sF (tb_new s c n) c (s.2.2.2.2 c) fz).2.2.1 x.1 x.2 = s.2.2.1 x.1 x.2 := by
      funext j
      show (if x.1 = c ∧ x.2 = s.2.2.2.2 c then none else s.2.2.1 x.1 x.2 j) = _
      rw [if_neg hz]
    have e4 : (tb_sF (tb_new s c n) c (s.2.2.2.2 c) fz).2.2.2.1 x.1 x.2 = s.2.2.2.1 x.1 x.2 := by
      show (if x.1 = c ∧ x.2 = s.2.2.2.2 c then n else s.2.2.2.1 x.1 x.2) = _
      rw [if_neg hz]
    rw [tb_cel_congr e1 e2 e3 e4]
    have em : ∀ j, (s.2.2.1 x.1 x.2 j).map (fun x => if x = (c, s.2.2.2.2 c) then q else α x) = (s.2.2.1 x.1 x.2 j).map α := by
      intro j
      cases h : s.2.2.1 x.1 x.2 j with
      | none => rfl
      | some a => exact congrArg some (hα a (R.2.2.2.1 _ _ _ _ hx h))
    unfold tb_cel
    have f1 : tb_fv (fun x => if x = (c, s.2.2.2.2 c) then q else α x) s x.1 x.2 = tb_fv α s x.1 x.2 := by
      funext ci j
      unfold tb_fv
      rw [em j]
    have f2 : tb_dat (fun x => if x = (c, s.2.2.2.2 c) then q else α x) s x.1 x.2 = tb_dat α s x.1 x.2 := by
      funext t
      unfold tb_dat
      simp only [em]
    rw [f1, f2]
  have hw : tb_w γ (fun x => if x = (c, s.2.2.2.2 c) then q else α x) (tb_sF (tb_new s c n) c (s.2.2.2.2 c) fz) (Lv ++ [(c, s.2.2.2.2 c)]) = tb_w γ α s Lv ++ [(q, e)] := by
    unfold tb_w
    rw [List.map_append]
    congr 1
    · refine List.map_congr_left fun x hx => ?_
      have hl : x.2 < s.2.2.2.2 x.1 := ((R.2.2.1 x.1 x.2).mp hx).2
      rw [hmap x hl, hα x hl]
    · show [(_, _)] = [(q, e)]
      rw [he]
      exact congrArg (fun z => [(z, e)]) (if_pos rfl)
  have hle : ∀ c', s.2.2.2.2 c' ≤ (tb_sF (tb_new s c n) c (s.2.2.2.2 c) fz).2.2.2.2 c' := by
    intro c'
    show _ ≤ if c' = c then s.2.2.2.2 c + 1 else s.2.2.2.2 c'
    by_cases h : c' = c
    · rw [if_pos h, h]; exact Nat.le_succ _
    · rw [if_neg h]; exact Nat.le_refl _
  refine ⟨⟨by rw [hw]; exact hP, by rw [hw]; exact hD, fun c' k' => ?_, fun c' k' j a hk hj => ?_, fun c' k' h1 h2 => ?_⟩, fun c' => ⟨hle c', fun k' hk' => hα (c', k') hk'⟩⟩
  · show _ ↔ _ ∧ k' < if c' = c then s.2.2.2.2 c + 1 else s.2.2.2.2 c'
    rw [List.mem_append, R.2.2.1 c' k', List.mem_singleton]
    by_cases h : c' = c
    · subst h
      rw [if_pos rfl]
      constructor
      · rintro (⟨h1, h2⟩ | h1)
        · exact ⟨h1, by omega⟩
        · cases h1
          exact ⟨hc, Nat.lt_succ_self _⟩
      · rintro ⟨h1, h2⟩
        by_cases h3 : k' = s.2.2.2.2 c'
        · exact Or.inr (by rw [h3])
        · exact Or.inl ⟨h1, by omega⟩
    · rw [if_neg h]
      constructor
      · rintro (h1 | h1)
        · exact h1
        · cases h1
          exact absurd rfl h
      · exact Or.inl
  · have hk : k' < if c' = c then s.2.2.2.2 c + 1 else s.2.2.2.2 c' := hk
    have hj : (if c' = c ∧ k' = s.2.2.2.2 c then none else s.2.2.1 c' k' j) = some a := hj
    by_cases h : c' = c ∧ k' = s.2.2.2.2 c
    · rw [if_pos h] at hj
      cases hj
    · rw [if_neg h] at hj
      refine Nat.lt_of_lt_of_le (R.2.2.2.1 c' k' j a ?_ hj) (hle a.1)
      by_cases h3 : c' = c
      · subst h3
        rw [if_pos rfl] at hk
        have : ¬ k' = s.2.2.2.2 c' := fun z => h ⟨rfl, z⟩
        omega
      · rw [if_neg h3] at hk
        exact hk
  · refine (if_neg fun z => ?_).trans (R.2.2.2.2 c' k' h1 h2)
    cases z
    exact absurd (tb_role_lt hc) (by omega)
section TBE
variable {γ : tbG} {y : tbM} {d mc ms : Nat} {Q : tbO → tbS → Prop} {nc ns pc a b : Nat} {cs : List tbI} {ls : tbL} {st : List tbV} {s : tbS} {l : List Nat} {v : tbV}
theorem tb_sumR (α : tbA → Nat) {w : Nat} (hw : w + tb_sum st ≤ 8 + w) : ((st.map (tb_tv α)).map fun v => v.category).sum + w ≤ 8 + w := by
  rw [tb_sum_eq]
  omega
theorem tb_max {n : Nat} {x z : Int32} (hl : Jvm.Cond.methodLink y.1.cls n Lib.Math.max.name ∈ lw_all) (hs : tb_sum st ≤ 8) (h1 : nc ≤ mc) (h2 : ns ≤ ms) (hd1 : 1 ≤ d) (kk : Ex γ y d mc ms Q nc ns cs ls (.inl (tbMax x z) :: st) s) : Ex γ y d mc ms Q nc ns ((pc, .invokestatic n, a, b, l, v) :: cs) ls (.inl z :: .inl x :: st) s := by
  intro p e u m args below meth c0 H locs A α Lv α0 C0 E O L K1 K2 R S X
  obtain ⟨hd, hp, hc, hf⟩ := tb_Ok.go (n := 2) O rfl rfl
  have h := kk p e u m args below meth c0 H locs A α Lv α0 C0 E hc L K1 ⟨trivial, K2.2.2⟩ R S X
  rw [hp] at h
  exact va_mmax E.1 E.2.1 (E.2.2.2.2.2.2.1.trans L.2.1.symm) E.2.2.2.2.1 (E.2.2.2.1 _ hl) (E.2.2.2.1 _ q633) (E.2.2.2.1 _ q101) (E.2.2.2.1 _ q634) hd1 (by rw [tb_sum_eq]; show _ ≤ 64 * d + 64; omega) h1 h2 hd h
theorem tb_min {n : Nat} {x z : Int32} (hl : Jvm.Cond.methodLink y.1.cls n Lib.Math.min.name ∈ lw_all) (hs : tb_sum st ≤ 8) (h1 : nc ≤ mc) (h2 : ns ≤ ms) (hd1 : 1 ≤ d) (kk : Ex γ y d mc ms Q nc ns cs ls (.inl (tbMin x z) :: st) s) : Ex γ y d mc ms Q nc ns ((pc, .invokestatic n, a, b, l, v) :: cs) ls (.inl z :: .inl x :: st) s := by
  intro p e u m args below meth c0 H locs A α Lv α0 C0 E O L K1 K2 R S X
  obtain ⟨hd, hp, hc, hf⟩ := tb_Ok.go (n := 2) O rfl rfl
  have h := kk p e u m args below meth c0 H locs A α Lv α0 C0 E hc L K1 ⟨trivial, K2.2.2⟩ R S X
  rw [hp] at h
  exact va_mmin E.1 E.2.1 (E.2.2.2.2.2.2.1.trans L.2.1.symm) E.2.2.2.2.1 (E.2.2.2.1 _ hl) (E.2.2.2.1 _ q386) (E.2.2.2.1 _ q101) (E.2.2.2.1 _ q387) hd1 (by rw [tb_sum_eq]; show _ ≤ 64 * d + 64; omega) h1 h2 hd h
theorem tb_abs {n : Nat} {x : Int32} (hl : Jvm.Cond.methodLink y.1.cls n Lib.Math.abs.name ∈ lw_all) (hs : tb_sum st ≤ 8) (h1 : nc ≤ mc) (h2 : ns ≤ ms) (hd1 : 1 ≤ d) (kk : Ex γ y d mc ms Q nc ns cs ls (.inl (tbAbs x) :: st) s) : Ex γ y d mc ms Q nc ns ((pc, .invokestatic n, a, b, l, v) :: cs) ls (.inl x :: st) s := by
  intro p e u m args below meth c0 H locs A α Lv α0 C0 E O L K1 K2 R S X
  obtain ⟨hd, hp, hc, hf⟩ := tb_Ok.go (n := 2) O rfl rfl
  have h := kk p e u m args below meth c0 H locs A α Lv α0 C0 E hc L K1 ⟨trivial, K2.2⟩ R S X
  rw [hp] at h
  exact va_mabs E.1 E.2.1 (E.2.2.2.2.2.2.1.trans L.2.1.symm) E.2.2.2.2.1 (E.2.2.2.1 _ hl) (E.2.2.2.1 _ q1648) (E.2.2.2.1 _ q101) (E.2.2.2.1 _ q1649) hd1 (by rw [tb_sum_eq]; show _ ≤ 64 * d + 64; omega) h1 h2 hd h
theorem tb_oini {n : Nat} {x : Option tbA} {c k : Nat} (hl : Jvm.Cond.methodLink y.1.cls n Lib.objectInit ∈ lw_all) (hs : tb_sum st ≤ 8) (hd1 : 1 ≤ d) (kk : Ex γ y d mc ms Q nc ns cs ls st s) : Ex γ y d mc ms Q nc ns ((pc, .invokespecial n, a, b, l, v) :: cs) ls (.inr (.inr (some (c, k))) :: st) s := by
  intro p e u m args below meth c0 H locs A α Lv α0 C0 E O L K1 K2 R S X
  obtain ⟨hd, hp, hc, hf⟩ := tb_Ok.go (n := 2) O rfl rfl
  have h := kk p e u m args below meth c0 H locs A α Lv α0 C0 E hc L K1 K2.2 R S X
  rw [hp] at h
  refine W.objInit E.1 E.2.1 E.2.2.2.2.1 (E.2.2.2.1 _ hl) (E.2.2.2.1 _ q125) (E.2.2.2.1 _ q126) rfl (L.2.1.trans E.2.2.2.2.2.2.1.symm) (a := α (c, k)) (rest := st.map (tb_tv α)) rfl hd hd1 (by rw [tb_sum_eq]; show 2 * 0 + _ + 12 ≤ 64 * d + 64; omega) ?_
  exact h
/-- switches -/
def tb_swt (a b : Nat) (l : List Nat) (x : Int32) : Nat := if x.toInt < b then a else if (b : Int) + l.length - 1 < x.toInt then a else tb_nth l (x.toInt - b).toNat a
theorem tb_nth_get {α : Type} : ∀ (l : List α) (n : Nat) (d : α), n < l.length → l[n]? = some (tb_nth l n d)
  | [], n, d, h => absurd h (Nat.not_lt_zero _)
  | x :: l, 0, d, h => rfl
  | x :: l, n + 1, d, h => by
    rw [List.getElem?_cons_succ]
    exact tb_nth_get l n d (Nat.lt_of_succ_lt_succ h)
theorem tb_switch {df lo hi : Int} {os : Array Int} {x : Int32} (kk : Ex γ y d mc ms Q nc ns (y.2.2.2.2.2.2 (tb_swt a b l x)) ls st s) : Ex γ y d mc ms Q nc ns ((pc, .tableswitch df lo hi os, a, b, l, v) :: cs) ls (.inl x :: st) s := by
  intro p e u m args below meth c0 H locs A α Lv α0 C0 E O L K1 K2 R S X
  obtain ⟨⟨n, hd⟩, hf⟩ := tb_Ok.sw O (by intro h; cases h)
  obtain ⟨⟨f1, f2⟩, f3, f4, f5, f6⟩ := hf
  have hlt : tb_swt a b l x < y.2.2.2.2.2.1 ∧ W p γ.1 e (tb_rm d mc ms) u m args below meth c0 H locs nc ns (vx_MQ below (tb_Qc γ Q α0 C0) (tb_XC γ Q α0 C0) args u mc ms (tb_Ab γ)) (F0 m (tb_pc (y.2.2.2.2.2.2 (tb_swt a b l x))) A (st.map (tb_tv α))) → W p γ.1 e (tb_rm d mc ms) u m args below meth c0 H locs nc ns (vx_MQ below (tb_Qc γ Q α0 C0) (tb_XC γ Q α0 C0) args u mc ms (tb_Ab γ)) (F0 m pc A (.int x :: st.map (tb_tv α))) := fun h => by
    obtain ⟨-, h⟩ := h
    by_cases h1 : x.toInt < lo
    · have e1 : tb_swt a b l x = a := if_pos (by rw [f4]; exact h1)
      rw [e1] at h
      exact lv_tableOut E.1 E.2.1 hd (Or.inl h1) f2 h
    · by_cases h2 : hi < x.toInt
      · have e1 : tb_swt a b l x = a := (if_neg (by rw [f4]; exact h1)).trans (if_pos (by rw [f4, ← f3]; exact h2))
        rw [e1] at h
        exact lv_tableOut E.1 E.2.1 hd (Or.inr h2) f2 h
      · have e1 : tb_swt a b l x = tb_nth l (x.toInt - b).toNat a := (if_neg (by rw [f4]; exact h1)).trans (if_neg (by rw [f4, ← f3]; exact h2))
        have hln : (x.toInt - lo).toNat < l.length := by omega
        have g1 := tb_nth_get l _ a hln
        have hos : (x.toInt - lo).toNat < os.size := by rw [f5]; exact hln
        have g2 : os[(x.toInt - lo).toNat]? = some (os[(x.toInt - lo).toNat]) := Array.getElem?_eq_getElem hos
        obtain ⟨g3, g4⟩ := f6 _ _ _ g1 g2
        rw [e1, f4] at h
        exact lv_tableIn E.1 E.2.1 hd h1 h2 g2 g4 h
  have hin : tb_swt a b l x < y.2.2.2.2.2.1 := by
    unfold tb_swt
    split
    · exact f1
    · split
      · exact f1
      · have hln : (x.toInt - lo).toNat < l.length := by omega
        rw [f4]
        exact (f6 _ _ _ (tb_nth_get l _ a hln) (Array.getElem?_eq_getElem (by rw [f5]; exact hln))).1
  exact hlt ⟨hin, kk p e u m args below meth c0 H locs A α Lv α0 C0 E (E.2.2.2.2.2.2.2.2.2.2 _ hin) L K1 K2.2 R S X⟩
theorem tb_lswitch {df : Int} {ps : Array (Int × Int)} {x : Int32} (t : Nat) (hp : (ps.toList.zip (ps.toList.drop 1)).all (fun (a, next) => a.1 < next.1) = true) {o : Int} (ho : Op.lookupswitch.offset ps.toList df x.toInt = o) (ht : t < y.2.2.2.2.2.1) (hpc : (pc : Int) + o = (tb_pc (y.2.2.2.2.2.2 t) : Int)) (kk : Ex γ y d mc ms Q nc ns (y.2.2.2.2.2.2 t) ls st s) : Ex γ y d mc ms Q nc ns ((pc, .lookupswitch df ps, a, b, l, v) :: cs) ls (.inl x :: st) s := by
  intro p e u m args below meth c0 H locs A α Lv α0 C0 E O L K1 K2 R S X
  obtain ⟨⟨n, hd⟩, hf⟩ := tb_Ok.sw O (by intro h; cases h)
  exact lv_lookup E.1 E.2.1 hd hp ho hpc (kk p e u m args below meth c0 H locs A α Lv α0 C0 E (E.2.2.2.2.2.2.2.2.2.2 _ ht) L K1 K2.2 R S X)
/-- System.arraycopy of ints or bytes -/
theorem tb_copy {n c0 k0 c1 k1 ti z0 z1 : Nat} {sp dp w : Int32} (hl : Jvm.Cond.methodLink y.1.cls n arraycopyName ∈ lw_all) (hti : ti = 0 ∨ ti = 1) (hr0 : tb_role c0 = (1, ti, z0)) (hr1 : tb_role c1 = (1, ti, z1)) (h1 : ¬ sp < 0) (h2 : ¬ dp < 0) (h3 : ¬ w < 0)
    (h4 : sp.toNatClampNeg + w.toNatClampNeg ≤ tb_len s c0 k0) (h5 : dp.toNatClampNeg + w.toNatClampNeg ≤ tb_len s c1 k1) (hfit : ti = 1 → ∀ i, i < w.toNatClampNeg → fits .byte (.int (s.1 c0 k0 (sp.toNatClampNeg + i))) = true) (hs : tb_sum st ≤ 8) (hd1 : 1 ≤ d)
    (kk : Ex γ y d mc ms Q nc ns cs ls st (tb_sF s c1 k1 (va_cpy (s.1 c0 k0) (s.1 c1 k1) sp.toNatClampNeg dp.toNatClampNeg w.toNatClampNeg))) : Ex γ y d mc ms Q nc ns ((pc, .invokestatic n, a, b, l, v) :: cs) ls (.inl w :: .inl dp :: .inr (.inr (some (c1, k1))) :: .inl sp :: .inr (.inr (some (c0, k0))) :: st) s := by
  intro p e u m args below meth c9 H locs A α Lv α0 C0 E O L K1 K2 R S X
  obtain ⟨hd, hp, hc, hf⟩ := tb_Ok.go (n := 2) O rfl rfl
  obtain ⟨-, -, hk1, -, hk0, K3⟩ := K2
  have hm0 : (c0, k0) ∈ Lv := (R.2.2.1 c0 k0).mpr ⟨by rw [hr0]; exact Nat.lt_succ_self 1, hk0⟩
  have hm1 : (c1, k1) ∈ Lv := (R.2.2.1 c1 k1).mpr ⟨by rw [hr1]; exact Nat.lt_succ_self 1, hk1⟩
  obtain ⟨q0, -, hw0⟩ := tb_at_w (γ := γ) (α := α) (s := s) hm0
  obtain ⟨q1, hq1, hw1⟩ := tb_at_w (γ := γ) (α := α) (s := s) hm1
  rw [tb_cel_arr hr0] at hw0
  rw [tb_cel_arr hr1] at hw1
  have hdat : ∀ (s : tbS) c k, tb_dat α s c k ti = Sum.inl (s.1 c k) := fun s c k => by rcases hti with rfl | rfl <;> rfl
  rw [hdat] at hw0 hw1
  have hK : va_K γ.2.1 tb_cl (tb_tyl γ) u := E.2.2.2.2.2.2.2.2.2.1.1
  have htl : ti < 9 := by omega
  refine va_copyi E.1 E.2.1 (E.2.2.2.2.2.2.1.trans L.2.1.symm) E.2.2.2.2.1 (E.2.2.2.1 _ hl) (E.2.2.2.1 _ q518) (E.2.2.2.1 _ q517) (E.2.2.2.1 _ q105) hK R.1 R.2.1 S q0 q1 ti ti hw0 hw1 (tb_tyl_at γ htl) (tb_tyl_at γ htl) (by rcases hti with rfl | rfl <;> rfl) h1 h2 h3 h4 h5
    (fun i hi => by
      rcases hti with rfl | rfl
      · rfl
      · exact hfit rfl i hi) hd1 (by
        have h9 : nativeFrameWords "java/lang/System" "arraycopy" 5 ≤ 100 := by decide +kernel
        rw [tb_sum_eq]
        show tb_sum st + (nativeFrameWords "java/lang/System" "arraycopy" 5 + 11) ≤ 64 * d + 64
        omega) hd fun H1 locs1 hP hD S1 => ?_
  have hR : tb_Rep γ α Lv (tb_sF s c1 k1 (va_cpy (s.1 c0 k0) (s.1 c1 k1) sp.toNatClampNeg dp.toNatClampNeg w.toNatClampNeg)) H1 := by
    refine R.wr hq1 hP hD ?_ (fun x hx => ?_) rfl R.2.2.2.1
    · rw [tb_cel_arr hr1, hdat, tb_sF_self]
      rfl
    · have hx' : ¬ (x.1 = c1 ∧ x.2 = k1) := fun q => hx (Prod.ext q.1 q.2)
      exact tb_cel_congr (tb_sF_at hx') rfl rfl rfl
  have h := kk p e u m args below meth c9 H1 locs1 A α Lv α0 C0 E hc L (tb_oklC (by rfl) K1) (tb_oksC (by rfl) K3) hR S1 X
  rw [hp] at h
  exact h
end TBE
