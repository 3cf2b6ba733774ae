/-! WHO RISES: the least set that is closed -/
set_option maxRecDepth 100000
theorem tb_hasM : ∀ a, a < 256 → ∀ k, k < 8 → tb_hasI (nI a) (nI k) = if a.testBit k then 1 else 0 := by decide +kernel
theorem tb_orM : ∀ a, a < 256 → ∀ k, k < 8 → nI a ||| (1 <<< (nI k &&& 31)) = nI (a ||| 2 ^ k) ∧ (a ||| 2 ^ k) < 256 := by decide +kernel
/-- without one -/
def tbDel (a k : Nat) : Nat := if a.testBit k then a - 2 ^ k else a
theorem tb_delM : ∀ a, a < 256 → ∀ k, k < 8 → nI a &&& ((1 <<< (nI k &&& 31)) ^^^ (-1)) = nI (tbDel a k) ∧ tbDel a k < 256 ∧ tbPop (tbDel a k) = (if a.testBit k then tbPop a - 1 else tbPop a) := by decide +kernel
theorem tb_del0 : ∀ a, a < 256 → nI a &&& ((0 : Int32) ^^^ (-1)) = nI a := by decide +kernel
def tbCnt (a : Nat) : Nat → Nat
  | 0 => 0
  | j + 1 => tbCnt a j + if a.testBit j then 1 else 0
theorem tbPop_cnt : ∀ a, a < 256 → tbPop a = tbCnt a 8 := by decide +kernel
theorem tbCnt_mono {a b : Nat} (h : ∀ j, a.testBit j = true → b.testBit j = true) : ∀ {n : Nat}, tbCnt a n ≤ tbCnt b n
  | 0 => Nat.le_refl _
  | n + 1 => by
    have ih := tbCnt_mono h (n := n)
    show tbCnt a n + _ ≤ tbCnt b n + _
    cases e : a.testBit n with
    | false =>
      rw [if_neg (by decide)]
      omega
    | true =>
      rw [h n e, if_pos rfl]
      omega
theorem tbCnt_lt {a b k : Nat} (h : ∀ j, a.testBit j = true → b.testBit j = true) (h1 : a.testBit k = false) (h2 : b.testBit k = true) : ∀ {n : Nat}, k < n → tbCnt a n < tbCnt b n
  | 0, hk => absurd hk (Nat.not_lt_zero _)
  | n + 1, hk => by
    show tbCnt a n + _ < tbCnt b n + _
    by_cases e : k = n
    · subst e
      have := tbCnt_mono h (n := k)
      rw [h1, h2, if_neg (by decide), if_pos rfl]
      omega
    · have ih := tbCnt_lt h h1 h2 (n := n) (by omega)
      cases e2 : a.testBit n with
      | false =>
        rw [if_neg (by decide)]
        omega
      | true =>
        rw [h n e2, if_pos rfl]
        omega
theorem tb_bit8 {a j : Nat} (ha : a < 256) (h : a.testBit j = true) : j < 8 := by
  by_cases e : j < 8
  · exact e
  · rw [Nat.testBit_lt_two_pow (Nat.lt_of_lt_of_le ha (Nat.pow_le_pow_right (n := 2) (by decide) (show 8 ≤ j by omega)))] at h
    cases h
theorem tb_bit_eq {a b : Nat} (h : ∀ j, a.testBit j = b.testBit j) : a = b := Nat.eq_of_testBit_eq h
theorem tb_or_bitT {a k j : Nat} : (a ||| 2 ^ k).testBit j = (a.testBit j || decide (k = j)) := by
  rw [Nat.testBit_or, Nat.testBit_two_pow]
/-- whether m joins the set a -/
def rJ (tm nd kd r : Nat → Int32) (a m : Nat) : Prop := tbJ (kd m) (tm m) (nd m) (r m) (r 17) (nI (tbPop a)) = 1
def rClosed (n : Nat) (tm nd kd r : Nat → Int32) (al a : Nat) : Prop := ∀ m, m < n → al.testBit m = true → a.testBit m = false → ¬ rJ tm nd kd r a m
def tbSub (a b : Nat) : Prop := ∀ j, a.testBit j = true → b.testBit j = true
def rLeast (n : Nat) (tm nd kd r : Nat → Int32) (al so a : Nat) : Prop := a < 256 ∧ tbSub so a ∧ rClosed n tm nd kd r al a ∧ ∀ t, t < 256 → tbSub so t → rClosed n tm nd kd r al t → tbSub a t
noncomputable def rRise (n : Nat) (tm nd kd r : Nat → Int32) (al so : Nat) : Nat := Classical.epsilon (rLeast n tm nd kd r al so)
theorem rLeast.eq {n al so a b : Nat} {tm nd kd r : Nat → Int32} (h : rLeast n tm nd kd r al so a) (h2 : rLeast n tm nd kd r al so b) : a = b := by
  refine tb_bit_eq fun j => ?_
  have e1 := h.2.2.2 b h2.1 h2.2.1 h2.2.2.1 j
  have e2 := h2.2.2.2 a h.1 h.2.1 h.2.2.1 j
  cases ha : a.testBit j <;> cases hb : b.testBit j
  · rfl
  · exact absurd (e2 hb) (by rw [ha]; decide)
  · exact absurd (e1 ha) (by rw [hb]; decide)
  · rfl
theorem rLeast.rise {n al so a : Nat} {tm nd kd r : Nat → Int32} (h : rLeast n tm nd kd r al so a) : rRise n tm nd kd r al so = a :=
  rLeast.eq (Classical.epsilon_spec (p := rLeast n tm nd kd r al so) ⟨a, h⟩) h
theorem tbJ_mono {k t nd g tr : Int32} {p q : Nat} (h : p ≤ q) (hq : q ≤ 8) (hJ : tbJ k t nd g tr (nI p) = 1) : tbJ k t nd g tr (nI q) = 1 := by
  have l1 : nI p ≤ nI q := nI_le h (by omega)
  have l2 : nI p - 1 ≤ nI q - 1 := by
    have e1 : (1 : Int32).toInt = 1 := rfl
    have ep : (nI p).toInt = p := nI_toInt (by omega)
    have eq : (nI q).toInt = q := nI_toInt (by omega)
    have f1 := tb_sub_i (a := nI p) (b := 1) (by omega) (by omega)
    have f2 := tb_sub_i (a := nI q) (b := 1) (by omega) (by omega)
    rw [Int32.le_iff_toInt_le]
    omega
  have hd : ∀ {x y : Int32}, x ≤ y → tbDraw nd x = 1 → tbDraw nd y = 1 := by
    intro x y hxy h
    unfold tbDraw at h ⊢
    by_cases e : 0 < nd ∧ nd ≤ x
    · exact if_pos ⟨e.1, Int32.le_trans e.2 hxy⟩
    · rw [if_neg e] at h
      exact absurd h (by decide)
  have hp : ∀ {x y : Int32}, x ≤ y → tbPl t nd g x = 1 → tbPl t nd g y = 1 := by
    intro x y hxy h
    unfold tbPl at h ⊢
    by_cases e : 5 * t ≤ g ∨ (0 < nd ∧ nd ≤ x)
    · exact if_pos (e.imp id fun z => ⟨z.1, Int32.le_trans z.2 hxy⟩)
    · rw [if_neg e] at h
      exact absurd h (by decide)
  unfold tbJ at hJ ⊢
  by_cases k1 : k = 1
  · rw [if_pos k1] at hJ ⊢
    exact hd l1 hJ
  · rw [if_neg k1] at hJ ⊢
    by_cases k2 : k = 2
    · rw [if_pos k2] at hJ
      exact absurd hJ (by decide)
    · rw [if_neg k2] at hJ ⊢
      by_cases k3 : k = 3
      · rw [if_pos k3] at hJ ⊢
        exact hp l2 hJ
      · rw [if_neg k3] at hJ ⊢
        by_cases k4 : k = 4
        · rw [if_pos k4] at hJ ⊢
          by_cases e : tr < 10
          · exact if_pos e
          · rw [if_neg e] at hJ ⊢
            exact hp l1 hJ
        · rw [if_neg k4] at hJ ⊢
          exact hp l1 hJ
theorem rJ_mono {tm nd kd r : Nat → Int32} {a b m : Nat} (ha : a < 256) (hb : b < 256) (h : tbSub a b) (hJ : rJ tm nd kd r a m) : rJ tm nd kd r b m := by
  refine tbJ_mono ?_ (tbPop_le b) hJ
  rw [tbPop_cnt a ha, tbPop_cnt b hb]
  exact tbCnt_mono h
theorem tbPop_lt {a b : Nat} (ha : a < 256) (hb : b < 256) (h : tbSub a b) (hne : ¬ b = a) : tbPop a < tbPop b := by
  rw [tbPop_cnt a ha, tbPop_cnt b hb]
  have : ∃ k, a.testBit k = false ∧ b.testBit k = true := by
    refine Classical.byContradiction fun hn => hne (tb_bit_eq fun j => ?_)
    cases e1 : a.testBit j <;> cases e2 : b.testBit j
    · rfl
    · exact absurd ⟨j, e1, e2⟩ hn
    · exact absurd (h j e1) (by rw [e2]; decide)
    · rfl
  obtain ⟨k, k1, k2⟩ := this
  exact tbCnt_lt h k1 k2 (tb_bit8 hb k2)
