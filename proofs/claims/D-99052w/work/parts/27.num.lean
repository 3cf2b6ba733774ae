/-! NUMBERS: sets of men as masks, bounds of a row -/
set_option maxRecDepth 100000
theorem tb_add_i {a b : Int32} (h1 : -2147483648 ≤ a.toInt + b.toInt) (h2 : a.toInt + b.toInt < 2147483648) : (a + b).toInt = a.toInt + b.toInt := by
  rw [Int32.toInt_add]
  exact Int.bmod_eq_of_le (by omega) (by omega)
theorem tb_sub_i {a b : Int32} (h1 : -2147483648 ≤ a.toInt - b.toInt) (h2 : a.toInt - b.toInt < 2147483648) : (a - b).toInt = a.toInt - b.toInt := by
  rw [Int32.toInt_sub]
  exact Int.bmod_eq_of_le (by omega) (by omega)
theorem tb_mul_i {a b : Int32} (h1 : -2147483648 ≤ a.toInt * b.toInt) (h2 : a.toInt * b.toInt < 2147483648) : (a * b).toInt = a.toInt * b.toInt := by
  rw [Int32.toInt_mul]
  exact Int.bmod_eq_of_le (by omega) (by omega)
theorem tbMin_i {x z : Int32} : (tbMin x z).toInt = if z.toInt < x.toInt then z.toInt else x.toInt := by
  unfold tbMin
  by_cases h : z < x
  · rw [if_pos h, if_pos (Int32.lt_iff_toInt_lt.mp h)]
  · rw [if_neg h, if_neg (fun q => h (Int32.lt_iff_toInt_lt.mpr q))]
theorem tbMax_i {x z : Int32} : (tbMax x z).toInt = if x.toInt < z.toInt then z.toInt else x.toInt := by
  unfold tbMax
  by_cases h : x < z
  · rw [if_pos h, if_pos (Int32.lt_iff_toInt_lt.mp h)]
  · rw [if_neg h, if_neg (fun q => h (Int32.lt_iff_toInt_lt.mpr q))]
theorem tbC_i {x : Int32} : (tbC x).toInt = if x.toInt < 0 then 0 else if x.toInt < 99 then x.toInt else 99 := by
  unfold tbC
  rw [tbMax_i, tbMin_i, show (99 : Int32).toInt = 99 from rfl, show (0 : Int32).toInt = 0 from rfl]
  split <;> split <;> split <;> omega
theorem tb_i_inj {a b : Int32} (h : a.toInt = b.toInt) : a = b := Int32.toInt_inj.mp h
/-- the mask of who is so -/
def tbMk (f : Nat → Bool) : Nat → Nat
  | 0 => 0
  | j + 1 => tbMk f j + if f j then 2 ^ j else 0
theorem tbMk_lt {f : Nat → Bool} : ∀ {n : Nat}, tbMk f n < 2 ^ n
  | 0 => Nat.zero_lt_one
  | n + 1 => by
    have := tbMk_lt (f := f) (n := n)
    show tbMk f n + _ < _
    rw [Nat.pow_succ]
    split <;> omega
theorem tb_or_bit : ∀ j, j < 8 → ∀ a, a < 2 ^ j → nI a ||| (1 <<< (nI j &&& 31)) = nI (a + 2 ^ j) := by decide +kernel
theorem tb_those_mk {w : Nat → Int32} {what : Int32} : ∀ {n : Nat}, n ≤ 8 → tb_those w what n = nI (tbMk (fun j => decide (w j = what)) n)
  | 0, _ => rfl
  | n + 1, h => by
    show tb_those w what n ||| _ = nI (tbMk _ n + _)
    rw [tb_those_mk (by omega)]
    by_cases e : w n = what
    · rw [if_pos e, if_pos (by simpa using e), tb_or_bit n (by omega) _ tbMk_lt]
    · rw [if_neg e, if_neg (by simpa using e)]
      rw [Nat.add_zero]
      exact Int32.or_zero
/-- how many -/
def tbPop (a : Nat) : Nat := a % 2 + a / 2 % 2 + a / 4 % 2 + a / 8 % 2 + a / 16 % 2 + a / 32 % 2 + a / 64 % 2 + a / 128 % 2
theorem tb_bits_pop : ∀ a, a < 256 → tb_bits (nI a) = nI (tbPop a) := by decide +kernel
theorem tbPop_le (a : Nat) : tbPop a ≤ 8 := by
  unfold tbPop
  omega
theorem rThose_mk {n : Nat} {r : Nat → Int32} {what : Int32} (hn : n ≤ 8) : ∃ a, a < 256 ∧ rThose n r what = nI a ∧ a = tbMk (fun j => decide (r (8 + j) = what)) n := by
  refine ⟨_, ?_, tb_those_mk hn, rfl⟩
  refine Nat.lt_of_lt_of_le tbMk_lt ?_
  exact Nat.pow_le_pow_right (by decide) hn
/-- the bounds of a row, its day at most D -/
def rB (D : Nat) (r : Nat → Int32) : Prop := (∀ j, j < 8 → 0 ≤ (r j).toInt ∧ (r j).toInt ≤ 99) ∧ (∀ j, j < 8 → r (8 + j) = 0 ∨ r (8 + j) = 1 ∨ r (8 + j) = 2) ∧ (0 ≤ (r 16).toInt ∧ (r 16).toInt ≤ 999) ∧ (0 ≤ (r 17).toInt ∧ (r 17).toInt ≤ 99) ∧ (0 ≤ (r 18).toInt ∧ (r 18).toInt ≤ 9) ∧ (0 ≤ (r 19).toInt ∧ (r 19).toInt ≤ 9) ∧ (0 ≤ (r 20).toInt ∧ (r 20).toInt ≤ D) ∧ ∀ j, 21 ≤ j → r j = 0
theorem rB.day0 {D : Nat} {r : Nat → Int32} (h : rB D r) : ¬ r 20 < 0 := by
  rw [Int32.lt_iff_toInt_lt]
  have := h.2.2.2.2.2.2.1
  have e : (0 : Int32).toInt = 0 := rfl
  omega
theorem rNeed_i {D n : Nat} {r : Nat → Int32} (h : rB D r) (hn : n ≤ 8) : 0 ≤ (rNeed n r).toInt ∧ (rNeed n r).toInt ≤ 963 := by
  obtain ⟨a, h1, h2, -⟩ := rThose_mk (r := r) (what := 0) hn
  unfold rNeed
  rw [h2, tb_bits_pop a h1]
  have hp := tbPop_le a
  have e : (nI (tbPop a)).toInt = tbPop a := nI_toInt (by omega)
  obtain ⟨-, -, -, ⟨b1, b2⟩, ⟨c1, c2⟩, ⟨d1, d2⟩, -⟩ := h
  have m1 : 0 ≤ (r 18).toInt * (nI (tbPop a)).toInt ∧ (r 18).toInt * (nI (tbPop a)).toInt ≤ 9 * 8 := by
    rw [e]
    exact ⟨Int.mul_nonneg c1 (by omega), Int.mul_le_mul c2 (by omega) (by omega) (by omega)⟩
  have m2 : 0 ≤ (r 19).toInt * (r 17).toInt ∧ (r 19).toInt * (r 17).toInt ≤ 9 * 99 := ⟨Int.mul_nonneg d1 b1, Int.mul_le_mul d2 b2 b1 (by omega)⟩
  have f1 := tb_mul_i (a := r 18) (b := nI (tbPop a)) (by omega) (by omega)
  have f2 := tb_mul_i (a := r 19) (b := r 17) (by omega) (by omega)
  have f3 := tb_add_i (a := r 18 * nI (tbPop a)) (b := r 19 * r 17) (by omega) (by omega)
  omega
theorem rB.give {D n : Nat} {r : Nat → Int32} (h : rB D r) (hn : n ≤ 8) : rB D (rGive n r) := by
  have hN := rNeed_i h hn
  unfold rGive
  split
  · rename_i hle
    have hle := Int32.le_iff_toInt_le.mp hle
    obtain ⟨a1, a2, a3, a4, a5, a6, a7, a8⟩ := h
    have f := tb_sub_i (a := r 16) (b := rNeed n r) (by omega) (by omega)
    refine ⟨fun j hj => by rw [pk_un (by omega)]; exact a1 j hj, fun j hj => by rw [pk_un (by omega)]; exact a2 j hj, by rw [pk_us]; omega, by rw [pk_un (by decide)]; exact a4, by rw [pk_un (by decide)]; exact a5, by rw [pk_un (by decide)]; exact a6, by rw [pk_un (by decide)]; exact a7, fun j hj => by rw [pk_un (by omega)]; exact a8 j hj⟩
  · exact h
theorem rB.trees {D : Nat} {r : Nat → Int32} (h : rB D r) {x : Int32} (h1 : 0 ≤ x.toInt) (h2 : x.toInt ≤ 99) : rB D (upd r 17 x) := by
  obtain ⟨a1, a2, a3, a4, a5, a6, a7, a8⟩ := h
  exact ⟨fun j hj => by rw [pk_un (by omega)]; exact a1 j hj, fun j hj => by rw [pk_un (by omega)]; exact a2 j hj, by rw [pk_un (by decide)]; exact a3, by rw [pk_us]; exact ⟨h1, h2⟩, by rw [pk_un (by decide)]; exact a5, by rw [pk_un (by decide)]; exact a6, by rw [pk_un (by decide)]; exact a7, fun j hj => by rw [pk_un (by omega)]; exact a8 j hj⟩
theorem rB.water {D : Nat} {r : Nat → Int32} (h : rB D r) {x : Int32} (h1 : 0 ≤ x.toInt) (h2 : x.toInt ≤ 999) : rB D (upd r 16 x) := by
  obtain ⟨a1, a2, a3, a4, a5, a6, a7, a8⟩ := h
  exact ⟨fun j hj => by rw [pk_un (by omega)]; exact a1 j hj, fun j hj => by rw [pk_un (by omega)]; exact a2 j hj, by rw [pk_us]; exact ⟨h1, h2⟩, by rw [pk_un (by decide)]; exact a4, by rw [pk_un (by decide)]; exact a5, by rw [pk_un (by decide)]; exact a6, by rw [pk_un (by decide)]; exact a7, fun j hj => by rw [pk_un (by omega)]; exact a8 j hj⟩
theorem rB.forMan {D : Nat} {r : Nat → Int32} (h : rB D r) {x : Int32} (h1 : 0 ≤ x.toInt) (h2 : x.toInt ≤ 9) : rB D (upd r 18 x) := by
  obtain ⟨a1, a2, a3, a4, a5, a6, a7, a8⟩ := h
  exact ⟨fun j hj => by rw [pk_un (by omega)]; exact a1 j hj, fun j hj => by rw [pk_un (by omega)]; exact a2 j hj, by rw [pk_un (by decide)]; exact a3, by rw [pk_un (by decide)]; exact a4, by rw [pk_us]; exact ⟨h1, h2⟩, by rw [pk_un (by decide)]; exact a6, by rw [pk_un (by decide)]; exact a7, fun j hj => by rw [pk_un (by omega)]; exact a8 j hj⟩
theorem rB.forTree {D : Nat} {r : Nat → Int32} (h : rB D r) {x : Int32} (h1 : 0 ≤ x.toInt) (h2 : x.toInt ≤ 9) : rB D (upd r 19 x) := by
  obtain ⟨a1, a2, a3, a4, a5, a6, a7, a8⟩ := h
  exact ⟨fun j hj => by rw [pk_un (by omega)]; exact a1 j hj, fun j hj => by rw [pk_un (by omega)]; exact a2 j hj, by rw [pk_un (by decide)]; exact a3, by rw [pk_un (by decide)]; exact a4, by rw [pk_un (by decide)]; exact a5, by rw [pk_us]; exact ⟨h1, h2⟩, by rw [pk_un (by decide)]; exact a7, fun j hj => by rw [pk_un (by omega)]; exact a8 j hj⟩
theorem rB.dayUp {D D' : Nat} {r : Nat → Int32} (h : rB D r) {x : Int32} (h1 : 0 ≤ x.toInt) (h2 : x.toInt ≤ D') : rB D' (upd r 20 x) := by
  obtain ⟨a1, a2, a3, a4, a5, a6, a7, a8⟩ := h
  exact ⟨fun j hj => by rw [pk_un (by omega)]; exact a1 j hj, fun j hj => by rw [pk_un (by omega)]; exact a2 j hj, by rw [pk_un (by decide)]; exact a3, by rw [pk_un (by decide)]; exact a4, by rw [pk_un (by decide)]; exact a5, by rw [pk_un (by decide)]; exact a6, by rw [pk_us]; exact ⟨h1, h2⟩, fun j hj => by rw [pk_un (by omega)]; exact a8 j hj⟩
theorem rB.grudge {D j : Nat} {r : Nat → Int32} (h : rB D r) (hj : j < 8) {x : Int32} (h1 : 0 ≤ x.toInt) (h2 : x.toInt ≤ 99) : rB D (upd r j x) := by
  obtain ⟨a1, a2, a3, a4, a5, a6, a7, a8⟩ := h
  refine ⟨fun i hi => ?_, fun i hi => by rw [pk_un (by omega)]; exact a2 i hi, by rw [pk_un (by omega)]; exact a3, by rw [pk_un (by omega)]; exact a4, by rw [pk_un (by omega)]; exact a5, by rw [pk_un (by omega)]; exact a6, by rw [pk_un (by omega)]; exact a7, fun i hi => by rw [pk_un (by omega)]; exact a8 i hi⟩
  rw [tb_upd]
  split
  · exact ⟨h1, h2⟩
  · exact a1 i hi
theorem rB.where {D j : Nat} {r : Nat → Int32} (h : rB D r) (hj : j < 8) {x : Int32} (h1 : x = 0 ∨ x = 1 ∨ x = 2) : rB D (upd r (8 + j) x) := by
  obtain ⟨a1, a2, a3, a4, a5, a6, a7, a8⟩ := h
  refine ⟨fun i hi => by rw [pk_un (by omega)]; exact a1 i hi, fun i hi => ?_, by rw [pk_un (by omega)]; exact a3, by rw [pk_un (by omega)]; exact a4, by rw [pk_un (by omega)]; exact a5, by rw [pk_un (by omega)]; exact a6, by rw [pk_un (by omega)]; exact a7, fun i hi => by rw [pk_un (by omega)]; exact a8 i hi⟩
  rw [tb_upd]
  split
  · exact h1
  · exact a2 i hi
theorem rB.more {D D' : Nat} {r : Nat → Int32} (h : rB D r) (hD : D ≤ D') : rB D' r := by
  obtain ⟨a1, a2, a3, a4, a5, a6, a7, a8⟩ := h
  exact ⟨a1, a2, a3, a4, a5, a6, by omega, a8⟩
theorem tbC_b (x : Int32) : 0 ≤ (tbC x).toInt ∧ (tbC x).toInt ≤ 99 := by
  rw [tbC_i]
  split
  · omega
  · split <;> omega
theorem rB.ang {D : Nat} {had : Int32} {r : Nat → Int32} (h : rB D r) : ∀ {n : Nat}, n ≤ 8 → rB D (rAng had n r)
  | 0, _ => h
  | n + 1, hn => by
    have ih := rB.ang (had := had) h (n := n) (by omega)
    show rB D (if _ then _ else _)
    split
    · exact ih.grudge (by omega) (tbC_b _).1 (tbC_b _).2
    · exact ih
theorem rDeaths_i {L D : Nat} {sk : Nat → Int32} {ru : tbRu} {r : Nat → Int32} {b : Int32} (h : rB D r) : 0 ≤ (rDeaths L sk ru r b).toInt ∧ (rDeaths L sk ru r b).toInt ≤ (r 17).toInt := by
  have := h.2.2.2.1
  unfold rDeaths
  rw [tbMax_i, tbMin_i, show (0 : Int32).toInt = 0 from rfl]
  split <;> split <;> omega
theorem rB.die {n L D : Nat} {sk : Nat → Int32} {ru : tbRu} {r : Nat → Int32} (h : rB D r) (hn : n ≤ 8) : rB D (rDie n L sk ru r) := by
  have hg := h.give hn
  have hd := rDeaths_i (L := L) (sk := sk) (ru := ru) (b := if rNeed n r ≤ r 16 then rGive n r 19 else 0) hg
  have h17 := hg.2.2.2.1
  have f := tb_sub_i (a := rGive n r 17) (b := rDeaths L sk ru (rGive n r) (if rNeed n r ≤ r 16 then rGive n r 19 else 0)) (by omega) (by omega)
  exact hg.trees (by omega) (by omega)
theorem rB.fill {D : Nat} {r : Nat → Int32} {v : Int32} (h : rB D r) (h1 : 0 ≤ v.toInt) (h2 : v.toInt ≤ 999) : rB D (rFill r v) := by
  have h16 := h.2.2.1
  have f := tb_add_i (a := r 16) (b := v) (by omega) (by omega)
  have e : (999 : Int32).toInt = 999 := rfl
  refine h.water ?_ ?_
  · rw [tbMin_i, f, e]
    split <;> omega
  · rw [tbMin_i, f, e]
    split <;> omega
theorem rB.goDay {n L D : Nat} {sk : Nat → Int32} {ru : tbRu} {r : Nat → Int32} (h : rB D r) (hn : n ≤ 8) (hD : D < 2000000000) : rB (D + 1) (rDay n L sk ru r) := by
  have hm : rB D (rMad n L sk ru r) := (h.die hn).ang hn
  have hr : rB D (rRain n L sk ru r) := by
    unfold rRain
    split
    · exact hm.fill (by decide) (by decide)
    · exact hm
  have h20 := hr.2.2.2.2.2.2.1
  have e : (1 : Int32).toInt = 1 := rfl
  have f := tb_add_i (a := rRain n L sk ru r 20) (b := 1) (by omega) (by omega)
  exact hr.dayUp (D' := D + 1) (by omega) (by omega)
