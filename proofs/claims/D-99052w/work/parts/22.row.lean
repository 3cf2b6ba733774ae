/-! ROWS OF A VOYAGE, what changes, numbers -/
set_option maxRecDepth 100000
/-- a voyage as a row of 21: grudges, where men are, water, trees, for a man, for a tree, the day -/
def rV (s : tbS) (k : Nat) : Nat → Int32 := fun j => if j < 8 then s.1 7 k j else if j < 16 then s.1 8 k (j - 8) else if j < 21 then s.1 6 k (j - 14) else 0
/-- of x's things but a voyage's row nothing changed (of its rule: place, what was given) -/
def xU (s s' : tbS) (k : Nat) (r : Nat → Int32) : Prop := s'.2 = s.2 ∧ (∀ c, c ≠ 6 → c ≠ 7 → c ≠ 8 → c ≠ 32 → s'.1 c = s.1 c) ∧ (∀ n j, j ≠ 3 → j ≠ 5 → s'.1 32 n j = s.1 32 n j) ∧ ∀ v, rV s' v = if v = k then r else rV s v
/-- of m's things but an array's ints (and the stack, what is asked) nothing changed -/
def mU (s s' : tbS) (c : Nat) (r : Nat → Int32) : Prop := s'.2 = s.2 ∧ (∀ c', c' ≠ c → c' ≠ 58 → c' ≠ 59 → s'.1 c' = s.1 c') ∧ s'.1 c 0 = r
theorem tb_Fix.eq2 {T : Nat → Nat → Option (Nat → tbA)} {s s' : tbS} (h : tb_Fix T s) (e : s'.2 = s.2) : tb_Fix T s' := by
  intro c k a t ht hk
  rw [e] at hk ⊢
  exact h c k a t ht hk
theorem xU.fix {s s' : tbS} {k : Nat} {r : Nat → Int32} (h : xU s s' k r) {T : Nat → Nat → Option (Nat → tbA)} (hF : tb_Fix T s) : tb_Fix T s' := hF.eq2 h.1
theorem mU.fix {s s' : tbS} {k : Nat} {r : Nat → Int32} (h : mU s s' k r) {T : Nat → Nat → Option (Nat → tbA)} (hF : tb_Fix T s) : tb_Fix T s' := hF.eq2 h.1
theorem xU.rf {s : tbS} {k : Nat} : xU s s k (rV s k) := by
  refine ⟨rfl, fun _ _ _ _ _ => rfl, fun _ _ _ _ => rfl, fun v => ?_⟩
  by_cases h : v = k
  · rw [if_pos h, h]
  · rw [if_neg h]
theorem xU.tr {s s' s2 : tbS} {k : Nat} {r r2 : Nat → Int32} (h : xU s s' k r) (h2 : xU s' s2 k r2) : xU s s2 k r2 := by
  refine ⟨h2.1.trans h.1, fun c a1 a2 a3 a4 => (h2.2.1 c a1 a2 a3 a4).trans (h.2.1 c a1 a2 a3 a4), fun n j a1 a2 => (h2.2.2.1 n j a1 a2).trans (h.2.2.1 n j a1 a2), fun v => ?_⟩
  rw [h2.2.2.2 v]
  by_cases e : v = k
  · rw [if_pos e, if_pos e]
  · rw [if_neg e, if_neg e, h.2.2.2 v, if_neg e]
theorem xU.at {s s' : tbS} {k : Nat} {r : Nat → Int32} (h : xU s s' k r) : rV s' k = r := (h.2.2.2 k).trans (if_pos rfl)
theorem xU.off {s s' : tbS} {k v : Nat} {r : Nat → Int32} (h : xU s s' k r) (hv : v ≠ k) : rV s' v = rV s v := (h.2.2.2 v).trans (if_neg hv)
theorem xU.I {s s' : tbS} {k : Nat} {r : Nat → Int32} (h : xU s s' k r) {c : Nat} (h1 : c ≠ 6 := by decide) (h2 : c ≠ 7 := by decide) (h3 : c ≠ 8 := by decide) (h4 : c ≠ 32 := by decide) : s'.1 c = s.1 c := h.2.1 c h1 h2 h3 h4
theorem mU.rf {s : tbS} {c : Nat} : mU s s c (s.1 c 0) := ⟨rfl, fun _ _ _ _ => rfl, rfl⟩
theorem mU.tr {s s' s2 : tbS} {c : Nat} {r r2 : Nat → Int32} (h : mU s s' c r) (h2 : mU s' s2 c r2) : mU s s2 c r2 :=
  ⟨h2.1.trans h.1, fun c a1 a2 a3 => (h2.2.1 c a1 a2 a3).trans (h.2.1 c a1 a2 a3), h2.2.2⟩
theorem mU.at {s s' : tbS} {c : Nat} {r : Nat → Int32} (h : mU s s' c r) : s'.1 c 0 = r := h.2.2
theorem mU.I {s s' : tbS} {c : Nat} {r : Nat → Int32} (h : mU s s' c r) {c' : Nat} (h1 : c' ≠ c) (h2 : c' ≠ 58 := by decide) (h3 : c' ≠ 59 := by decide) : s'.1 c' = s.1 c' := h.2.1 c' h1 h2 h3
theorem tb_upd {f : Nat → Int32} {k : Nat} {x : Int32} (j : Nat) : upd f k x j = if j = k then x else f j := by
  by_cases h : j = k
  · rw [if_pos h, h]; exact pk_us
  · rw [if_neg h]; exact pk_un h
theorem rV_7 {s : tbS} {k j : Nat} (h : j < 8) : rV s k j = s.1 7 k j := if_pos h
theorem rV_8 {s : tbS} {k j : Nat} (h : j < 8) : rV s k (8 + j) = s.1 8 k j := by
  unfold rV
  rw [if_neg (by omega), if_pos (by omega), show 8 + j - 8 = j by omega]
theorem tb_sI_get {s : tbS} {c k j c' k' j' : Nat} {v : Int32} : (tb_sI s c k j v).1 c' k' j' = if c' = c ∧ k' = k ∧ j' = j then v else s.1 c' k' j' := rfl
theorem tb_sI_ne {s : tbS} {c k j c' : Nat} {v : Int32} (h : c' ≠ c) : (tb_sI s c k j v).1 c' = s.1 c' := by
  funext n i
  exact if_neg fun z => h z.1
theorem tb_sF_get {s : tbS} {c k c' k' j' : Nat} {f : Nat → Int32} : (tb_sF s c k f).1 c' k' j' = if c' = c ∧ k' = k then f j' else s.1 c' k' j' := rfl
theorem tb_sF_ne {s : tbS} {c k c' : Nat} {f : Nat → Int32} (h : c' ≠ c) : (tb_sF s c k f).1 c' = s.1 c' := by
  funext n i
  exact if_neg fun z => h z.1
theorem rV_get {s : tbS} {k j : Nat} : rV s k j = if j < 8 then s.1 7 k j else if j < 16 then s.1 8 k (j - 8) else if j < 21 then s.1 6 k (j - 14) else 0 := rfl
theorem xU_sI7 {s : tbS} {k j : Nat} {x : Int32} (hj : j < 8) : xU s (tb_sI s 7 k j x) k (upd (rV s k) j x) := by
  refine ⟨rfl, fun c h6 h7 h8 _ => tb_sI_ne (by assumption), fun n i _ _ => by rw [tb_sI_ne (by decide)], fun v => ?_⟩
  funext i
  by_cases hv : v = k
  · subst hv
    rw [if_pos rfl]
    rw [tb_upd]
    rw [rV_get, rV_get, tb_sI_get, tb_sI_get, tb_sI_get]
    repeat' split
    all_goals first | rfl | omega
  · rw [if_neg hv, rV_get, rV_get, tb_sI_get, tb_sI_get, tb_sI_get]
    simp [hv]
theorem xU_sI8 {s : tbS} {k j : Nat} {x : Int32} (hj : j < 8) : xU s (tb_sI s 8 k j x) k (upd (rV s k) (8 + j) x) := by
  refine ⟨rfl, fun c h6 h7 h8 _ => tb_sI_ne (by assumption), fun n i _ _ => by rw [tb_sI_ne (by decide)], fun v => ?_⟩
  funext i
  by_cases hv : v = k
  · subst hv
    rw [if_pos rfl]
    rw [tb_upd]
    rw [rV_get, rV_get, tb_sI_get, tb_sI_get, tb_sI_get]
    repeat' split
    all_goals first | rfl | omega
  · rw [if_neg hv, rV_get, rV_get, tb_sI_get, tb_sI_get, tb_sI_get]
    simp [hv]
theorem xU_sI6 {s : tbS} {k j : Nat} {x : Int32} (h2 : 2 ≤ j) (hj : j < 7) : xU s (tb_sI s 6 k j x) k (upd (rV s k) (14 + j) x) := by
  refine ⟨rfl, fun c h6 h7 h8 _ => tb_sI_ne (by assumption), fun n i _ _ => by rw [tb_sI_ne (by decide)], fun v => ?_⟩
  funext i
  by_cases hv : v = k
  · subst hv
    rw [if_pos rfl]
    rw [tb_upd]
    rw [rV_get, rV_get, tb_sI_get, tb_sI_get, tb_sI_get]
    repeat' split
    all_goals first | rfl | omega
  · rw [if_neg hv, rV_get, rV_get, tb_sI_get, tb_sI_get, tb_sI_get]
    simp [hv]
theorem xU_sF7 {s : tbS} {k : Nat} {f : Nat → Int32} : xU s (tb_sF s 7 k f) k (fun j => if j < 8 then f j else rV s k j) := by
  refine ⟨rfl, fun c h6 h7 h8 _ => tb_sF_ne (by assumption), fun n i _ _ => by rw [tb_sF_ne (by decide)], fun v => ?_⟩
  funext i
  by_cases hv : v = k
  · subst hv
    rw [if_pos rfl]
    rw [rV_get, rV_get, tb_sF_get, tb_sF_get, tb_sF_get]
    repeat' split
    all_goals first | rfl | omega
  · rw [if_neg hv, rV_get, rV_get, tb_sF_get, tb_sF_get, tb_sF_get]
    simp [hv]
theorem xU_sF8 {s : tbS} {k : Nat} {f : Nat → Int32} : xU s (tb_sF s 8 k f) k (fun j => if j < 8 then rV s k j else if j < 16 then f (j - 8) else rV s k j) := by
  refine ⟨rfl, fun c h6 h7 h8 _ => tb_sF_ne (by assumption), fun n i _ _ => by rw [tb_sF_ne (by decide)], fun v => ?_⟩
  funext i
  by_cases hv : v = k
  · subst hv
    rw [if_pos rfl]
    rw [rV_get, rV_get, tb_sF_get, tb_sF_get, tb_sF_get]
    repeat' split
    all_goals first | rfl | omega
  · rw [if_neg hv, rV_get, rV_get, tb_sF_get, tb_sF_get, tb_sF_get]
    simp [hv]
theorem mU_sI {s : tbS} {c j : Nat} {x : Int32} : mU s (tb_sI s c 0 j x) c (upd (s.1 c 0) j x) := by
  refine ⟨rfl, fun c' h _ _ => ?_, ?_⟩
  · funext n i
    exact if_neg (fun z => h z.1)
  · exact tb_sI_self
/-- longs in a row -/
theorem tb_lgc {a b : Int64} : (lg_cmp a b < 0 ↔ a < b) ∧ (0 < lg_cmp a b ↔ b < a) ∧ (lg_cmp a b = 0 ↔ a = b) := by
  unfold lg_cmp
  by_cases h1 : a > b
  · rw [if_pos h1]
    have h1' := Int64.lt_iff_toInt_lt.mp h1
    refine ⟨⟨fun h => absurd h (by decide), fun h => ?_⟩, ⟨fun _ => h1, fun _ => by decide⟩, ⟨fun h => absurd h (by decide), fun h => ?_⟩⟩
    · have := Int64.lt_iff_toInt_lt.mp h
      omega
    · rw [h] at h1'
      omega
  · rw [if_neg h1]
    by_cases h2 : a = b
    · rw [if_pos h2]
      refine ⟨⟨fun h => absurd h (by decide), fun h => ?_⟩, ⟨fun h => absurd h (by decide), fun h => absurd h h1⟩, ⟨fun _ => h2, fun _ => rfl⟩⟩
      have := Int64.lt_iff_toInt_lt.mp h
      rw [h2] at this
      omega
    · rw [if_neg h2]
      refine ⟨⟨fun _ => ?_, fun _ => by decide⟩, ⟨fun h => absurd h (by decide), fun h => absurd h h1⟩, ⟨fun h => absurd h (by decide), fun h => absurd h h2⟩⟩
      refine Int64.lt_iff_toInt_lt.mpr ?_
      have h3 : ¬ b.toInt < a.toInt := fun h => h1 (Int64.lt_iff_toInt_lt.mpr h)
      have h4 : a.toInt ≠ b.toInt := fun h => h2 (Int64.toInt_inj.mp h)
      omega
theorem tb_l32 (x : Int32) : x.toInt64.toInt = x.toInt := Int32.toInt_toInt64 x
theorem tb_l32_le {x z : Int32} : x.toInt64 ≤ z.toInt64 ↔ x ≤ z := by
  rw [Int64.le_iff_toInt_le, Int32.le_iff_toInt_le, tb_l32, tb_l32]
/-- in(x, low, high) -/
def tb_inI (x lo hi : Int32) : Int32 := if lo ≤ x ∧ x ≤ hi then 1 else 0
def tb_inL (x lo hi : Int64) : Int32 := if lo ≤ x ∧ x ≤ hi then 1 else 0
theorem tb_inL_I (x lo hi : Int32) : tb_inL x.toInt64 lo.toInt64 hi.toInt64 = tb_inI x lo hi := by
  unfold tb_inL tb_inI
  simp only [tb_l32_le]
theorem tb_i64lt {a b : Int64} : ¬ a < b ↔ b ≤ a := by
  rw [Int64.lt_iff_toInt_lt, Int64.le_iff_toInt_le]
  omega
theorem tb_i32lt {a b : Int32} : ¬ a < b ↔ b ≤ a := by
  rw [Int32.lt_iff_toInt_lt, Int32.le_iff_toInt_le]
  omega
theorem tb_i32le {a b : Int32} : ¬ a ≤ b ↔ b < a := by
  rw [Int32.lt_iff_toInt_lt, Int32.le_iff_toInt_le]
  omega
theorem tb_inL_01 (x lo hi : Int64) : tb_inL x lo hi = 0 ∨ tb_inL x lo hi = 1 := by
  unfold tb_inL
  by_cases h : lo ≤ x ∧ x ≤ hi
  · rw [if_pos h]; exact Or.inr rfl
  · rw [if_neg h]; exact Or.inl rfl
theorem tb_inI_01 (x lo hi : Int32) : tb_inI x lo hi = 0 ∨ tb_inI x lo hi = 1 := by
  rw [← tb_inL_I]; exact tb_inL_01 _ _ _
theorem tb_inI_t {x lo hi : Int32} : ¬ tb_inI x lo hi = 0 ↔ lo ≤ x ∧ x ≤ hi := by
  unfold tb_inI
  by_cases h : lo ≤ x ∧ x ≤ hi
  · rw [if_pos h]; exact ⟨fun _ => h, fun _ => by decide⟩
  · rw [if_neg h]; exact ⟨fun z => absurd rfl z, fun z => absurd z h⟩
theorem tb_inI_f {x lo hi : Int32} : tb_inI x lo hi = 0 ↔ ¬ (lo ≤ x ∧ x ≤ hi) := by
  rw [← tb_inI_t, Decidable.not_not]
theorem tb_narB {x : Int32} (h : x = 0 ∨ x = 1) : narrow .boolean (.int x) = .int x := by
  rcases h with rfl | rfl <;> rfl
theorem tb_i64le {a b : Int64} : ¬ a ≤ b ↔ b < a := by
  rw [Int64.lt_iff_toInt_lt, Int64.le_iff_toInt_le]
  omega
def tb_bits (x : Int32) : Int32 := (fun a : Int32 => (fun b : Int32 => (fun c : Int32 => (fun e : Int32 => (fun f : Int32 => f &&& 63) (e + (e.toUInt32 >>> ((16 : Int32).toUInt32 &&& Int32.toUInt32 31)).toInt32)) (c + (c.toUInt32 >>> ((8 : Int32).toUInt32 &&& Int32.toUInt32 31)).toInt32)) ((b + (b.toUInt32 >>> ((4 : Int32).toUInt32 &&& Int32.toUInt32 31)).toInt32) &&& 252645135)) ((a &&& 858993459) + ((a.toUInt32 >>> ((2 : Int32).toUInt32 &&& Int32.toUInt32 31)).toInt32 &&& 858993459))) (x - ((x.toUInt32 >>> ((1 : Int32).toUInt32 &&& Int32.toUInt32 31)).toInt32 &&& 1431655765))
def tbC (x : Int32) : Int32 := tbMax 0 (tbMin 99 x)
def tb_those (w : Nat → Int32) (what : Int32) : Nat → Int32
  | 0 => 0
  | j + 1 => tb_those w what j ||| (if w j = what then 1 <<< (nI j &&& 31) else 0)
/-- of a row: who is where -/
def rThose (n : Nat) (r : Nat → Int32) (what : Int32) : Int32 := tb_those (fun j => r (8 + j)) what n
theorem tb_those_congr {w w' : Nat → Int32} {what : Int32} : ∀ {n : Nat}, (∀ j, j < n → w j = w' j) → tb_those w what n = tb_those w' what n
  | 0, _ => rfl
  | n + 1, h => by
    show _ ||| _ = _ ||| _
    rw [tb_those_congr (fun j hj => h j (Nat.lt_succ_of_lt hj)), h n (Nat.lt_succ_self n)]
theorem rThose_V {s : tbS} {k n : Nat} {what : Int32} (hn : n ≤ 8) : tb_those (s.1 8 k) what n = rThose n (rV s k) what := tb_those_congr fun j hj => (rV_8 (by omega)).symm
def rNeed (n : Nat) (r : Nat → Int32) : Int32 := r 18 * tb_bits (rThose n r 0) + r 19 * r 17
/-- has(bits, k) -/
def tb_hasI (b k : Int32) : Int32 := if b >>> (k &&& 31) &&& 1 = 1 then 1 else 0
theorem tb_hasI_01 (b k : Int32) : tb_hasI b k = 0 ∨ tb_hasI b k = 1 := by
  unfold tb_hasI
  by_cases h : b >>> (k &&& 31) &&& 1 = 1
  · rw [if_pos h]; exact Or.inr rfl
  · rw [if_neg h]; exact Or.inl rfl
