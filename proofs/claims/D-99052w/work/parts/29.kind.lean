/-! KINDS OF MEN: who joins -/
set_option maxRecDepth 100000
def tbDraw (nd o : Int32) : Int32 := if 0 < nd ∧ nd ≤ o then 1 else 0
def tbPl (t nd g o : Int32) : Int32 := if 5 * t ≤ g ∨ (0 < nd ∧ nd ≤ o) then 1 else 0
/-- whether a man joins: kind, temper, whom he needs, his grudge, trees, the others -/
def tbJ (k t nd g tr o : Int32) : Int32 := if k = 1 then tbDraw nd o else if k = 2 then 0 else if k = 3 then tbPl t nd g (o - 1) else if k = 4 then (if tr < 10 then 1 else tbPl t nd g o) else tbPl t nd g o
theorem tbDraw_01 (nd o : Int32) : tbDraw nd o = 0 ∨ tbDraw nd o = 1 := by
  unfold tbDraw
  split
  · exact Or.inr rfl
  · exact Or.inl rfl
theorem tbPl_01 (t nd g o : Int32) : tbPl t nd g o = 0 ∨ tbPl t nd g o = 1 := by
  unfold tbPl
  split
  · exact Or.inr rfl
  · exact Or.inl rfl
theorem tbJ_01 (k t nd g tr o : Int32) : tbJ k t nd g tr o = 0 ∨ tbJ k t nd g tr o = 1 := by
  unfold tbJ
  split
  · exact tbDraw_01 _ _
  · split
    · exact Or.inl rfl
    · split
      · exact tbPl_01 _ _ _ _
      · split
        · split
          · exact Or.inr rfl
          · exact tbPl_01 _ _ _ _
        · exact tbPl_01 _ _ _ _
theorem x2_isDrawn {γ : tbG} {d c m : Nat} {o : Int32} {s : tbS} (hF : tb_Fix (tb_T []) s) (hm : m < 8) (hc : c = 1 ∨ c = 2 ∨ c = 4 ∨ c = 5) : MX γ d 0 0 mX2_isDrawn [rR c 0, .inl (nI m), .inl o] s (ans (.inl (tbDraw (s.1 12 0 m) o)) s) := by
  rcases hc with rfl | rfl | rfl | rfl
  all_goals
    refine MX.intro (by decide +kernel) rfl oX2_isDrawn (Nat.le_of_ble_eq_true rfl) (Nat.le_of_ble_eq_true rfl) rfl ?_
    refine Ex.run 4 hF rfl ?_
    refine tb_ialdN (j := m) (rfl) (rfl) (hm) ?_
    refine tb_if_le (fun h9 => ?_) (fun h9 => ?_)
    · skip
      refine Ex.run 1 hF rfl ?_
      refine tb_jmp ?_
      refine tb_ireturn rfl rfl (by omega) (by omega) (?_)
      unfold tbDraw
      by_cases e1 : 0 < s.1 12 0 m
      · by_cases e2 : s.1 12 0 m ≤ o
        · rw [if_pos ⟨e1, e2⟩]
          first | exact ⟨rfl, rfl⟩ | exact absurd e2 (tb_i32le.mpr h22) | exact absurd h9 (tb_i32le.mpr e1)
        · rw [if_neg (fun q => e2 q.2)]
          first | exact ⟨rfl, rfl⟩ | exact absurd (tb_i32lt.mp h22) e2 | exact absurd h9 (tb_i32le.mpr e1)
      · rw [if_neg (fun q => e1 q.1)]
        first | exact ⟨rfl, rfl⟩ | exact absurd (tb_i32le.mp h9) e1
    · skip
      refine Ex.run 5 hF rfl ?_
      refine tb_ialdN (j := m) (rfl) (rfl) (hm) ?_
      refine tb_icmp_lt (fun h22 => ?_) (fun h22 => ?_)
      · skip
        refine Ex.run 1 hF rfl ?_
        refine tb_jmp ?_
        refine tb_ireturn rfl rfl (by omega) (by omega) (?_)
        unfold tbDraw
        by_cases e1 : 0 < s.1 12 0 m
        · by_cases e2 : s.1 12 0 m ≤ o
          · rw [if_pos ⟨e1, e2⟩]
            first | exact ⟨rfl, rfl⟩ | exact absurd e2 (tb_i32le.mpr h22) | exact absurd h9 (tb_i32le.mpr e1)
          · rw [if_neg (fun q => e2 q.2)]
            first | exact ⟨rfl, rfl⟩ | exact absurd (tb_i32lt.mp h22) e2 | exact absurd h9 (tb_i32le.mpr e1)
        · rw [if_neg (fun q => e1 q.1)]
          first | exact ⟨rfl, rfl⟩ | exact absurd (tb_i32le.mp h9) e1
      · skip
        refine Ex.run 1 hF rfl ?_
        refine tb_goto ?_
        refine tb_ireturn rfl rfl (by omega) (by omega) (?_)
        unfold tbDraw
        by_cases e1 : 0 < s.1 12 0 m
        · by_cases e2 : s.1 12 0 m ≤ o
          · rw [if_pos ⟨e1, e2⟩]
            first | exact ⟨rfl, rfl⟩ | exact absurd e2 (tb_i32le.mpr h22) | exact absurd h9 (tb_i32le.mpr e1)
          · rw [if_neg (fun q => e2 q.2)]
            first | exact ⟨rfl, rfl⟩ | exact absurd (tb_i32lt.mp h22) e2 | exact absurd h9 (tb_i32le.mpr e1)
        · rw [if_neg (fun q => e1 q.1)]
          first | exact ⟨rfl, rfl⟩ | exact absurd (tb_i32le.mp h9) e1
theorem x3_doesRise {γ : tbG} {d c m v : Nat} {o : Int32} {s : tbS} (hF : tb_Fix (tb_T []) s) (hm : m < 8) (hc : c = 1 ∨ c = 4 ∨ c = 5) : MX γ (d + 1) 0 0 mX3_doesRise [rR c 0, rR 6 v, .inl (nI m), .inl o] s (ans (.inl (tbPl (s.1 11 0 m) (s.1 12 0 m) (rV s v m) o)) s) := by
  have ed : tbDraw (s.1 12 0 m) o = 0 ↔ ¬ (0 < s.1 12 0 m ∧ s.1 12 0 m ≤ o) := by
    unfold tbDraw
    by_cases e : 0 < s.1 12 0 m ∧ s.1 12 0 m ≤ o
    · rw [if_pos e]
      exact ⟨fun q => absurd q (by decide), fun q => absurd e q⟩
    · rw [if_neg e]
      exact ⟨fun _ => e, fun _ => rfl⟩
  rcases hc with rfl | rfl | rfl
  · skip
    refine MX.intro (by decide +kernel) rfl oX3_doesRise (Nat.le_of_ble_eq_true rfl) (Nat.le_of_ble_eq_true rfl) rfl ?_
    refine Ex.run 3 hF rfl ?_
    refine tb_ialdN (j := m) (rfl) (rfl) (hm) ?_
    refine Ex.run 5 hF rfl ?_
    refine tb_ialdN (j := m) (rfl) (rfl) (hm) ?_
    refine Ex.run 1 hF rfl ?_
    refine tb_icmp_ge (fun h17 => ?_) (fun h17 => ?_)
    · skip
      refine Ex.run 1 hF rfl ?_
      refine tb_goto ?_
      refine tb_ireturn rfl rfl (by omega) (by omega) (?_)
      unfold tbPl
      rw [rV_7 hm]
      by_cases e : 5 * s.1 11 0 m ≤ s.1 7 v m ∨ (0 < s.1 12 0 m ∧ s.1 12 0 m ≤ o)
      · rw [if_pos e]
        first | exact ⟨rfl, rfl⟩ | exact absurd e (fun q => q.elim h17 (ed.mp h26))
      · rw [if_neg e]
        first | exact ⟨rfl, rfl⟩ | exact absurd (Or.inl h17) e | exact absurd (ed.mpr (fun q => e (Or.inr q))) h26
    · skip
      refine Ex.run 3 hF rfl ?_
      refine Ex.call1 kX3_24_1 (x2_isDrawn (d := d) hF hm (by omega)) rfl rfl rfl ⟨rfl, _, _, rfl⟩ (Nat.le_of_ble_eq_true rfl) (by omega) (by omega) (by omega) ?_
      refine tb_if_eq (fun h26 => ?_) (fun h26 => ?_)
      · skip
        refine Ex.run 1 hF rfl ?_
        refine tb_jmp ?_
        refine tb_ireturn rfl rfl (by omega) (by omega) (?_)
        unfold tbPl
        rw [rV_7 hm]
        by_cases e : 5 * s.1 11 0 m ≤ s.1 7 v m ∨ (0 < s.1 12 0 m ∧ s.1 12 0 m ≤ o)
        · rw [if_pos e]
          first | exact ⟨rfl, rfl⟩ | exact absurd e (fun q => q.elim h17 (ed.mp h26))
        · rw [if_neg e]
          first | exact ⟨rfl, rfl⟩ | exact absurd (Or.inl h17) e | exact absurd (ed.mpr (fun q => e (Or.inr q))) h26
      · skip
        refine tb_jmp ?_
        refine Ex.run 1 hF rfl ?_
        refine tb_goto ?_
        refine tb_ireturn rfl rfl (by omega) (by omega) (?_)
        unfold tbPl
        rw [rV_7 hm]
        by_cases e : 5 * s.1 11 0 m ≤ s.1 7 v m ∨ (0 < s.1 12 0 m ∧ s.1 12 0 m ≤ o)
        · rw [if_pos e]
          first | exact ⟨rfl, rfl⟩ | exact absurd e (fun q => q.elim h17 (ed.mp h26))
        · rw [if_neg e]
          first | exact ⟨rfl, rfl⟩ | exact absurd (Or.inl h17) e | exact absurd (ed.mpr (fun q => e (Or.inr q))) h26
  · skip
    refine MX.intro (by decide +kernel) rfl oX3_doesRise (Nat.le_of_ble_eq_true rfl) (Nat.le_of_ble_eq_true rfl) rfl ?_
    refine Ex.run 3 hF rfl ?_
    refine tb_ialdN (j := m) (rfl) (rfl) (hm) ?_
    refine Ex.run 5 hF rfl ?_
    refine tb_ialdN (j := m) (rfl) (rfl) (hm) ?_
    refine Ex.run 1 hF rfl ?_
    refine tb_icmp_ge (fun h17 => ?_) (fun h17 => ?_)
    · skip
      refine Ex.run 1 hF rfl ?_
      refine tb_goto ?_
      refine tb_ireturn rfl rfl (by omega) (by omega) (?_)
      unfold tbPl
      rw [rV_7 hm]
      by_cases e : 5 * s.1 11 0 m ≤ s.1 7 v m ∨ (0 < s.1 12 0 m ∧ s.1 12 0 m ≤ o)
      · rw [if_pos e]
        first | exact ⟨rfl, rfl⟩ | exact absurd e (fun q => q.elim h17 (ed.mp h26))
      · rw [if_neg e]
        first | exact ⟨rfl, rfl⟩ | exact absurd (Or.inl h17) e | exact absurd (ed.mpr (fun q => e (Or.inr q))) h26
    · skip
      refine Ex.run 3 hF rfl ?_
      refine Ex.call1 kX3_24_4 (x2_isDrawn (d := d) hF hm (by omega)) rfl rfl rfl ⟨rfl, _, _, rfl⟩ (Nat.le_of_ble_eq_true rfl) (by omega) (by omega) (by omega) ?_
      refine tb_if_eq (fun h26 => ?_) (fun h26 => ?_)
      · skip
        refine Ex.run 1 hF rfl ?_
        refine tb_jmp ?_
        refine tb_ireturn rfl rfl (by omega) (by omega) (?_)
        unfold tbPl
        rw [rV_7 hm]
        by_cases e : 5 * s.1 11 0 m ≤ s.1 7 v m ∨ (0 < s.1 12 0 m ∧ s.1 12 0 m ≤ o)
        · rw [if_pos e]
          first | exact ⟨rfl, rfl⟩ | exact absurd e (fun q => q.elim h17 (ed.mp h26))
        · rw [if_neg e]
          first | exact ⟨rfl, rfl⟩ | exact absurd (Or.inl h17) e | exact absurd (ed.mpr (fun q => e (Or.inr q))) h26
      · skip
        refine tb_jmp ?_
        refine Ex.run 1 hF rfl ?_
        refine tb_goto ?_
        refine tb_ireturn rfl rfl (by omega) (by omega) (?_)
        unfold tbPl
        rw [rV_7 hm]
        by_cases e : 5 * s.1 11 0 m ≤ s.1 7 v m ∨ (0 < s.1 12 0 m ∧ s.1 12 0 m ≤ o)
        · rw [if_pos e]
          first | exact ⟨rfl, rfl⟩ | exact absurd e (fun q => q.elim h17 (ed.mp h26))
        · rw [if_neg e]
          first | exact ⟨rfl, rfl⟩ | exact absurd (Or.inl h17) e | exact absurd (ed.mpr (fun q => e (Or.inr q))) h26
  · skip
    refine MX.intro (by decide +kernel) rfl oX3_doesRise (Nat.le_of_ble_eq_true rfl) (Nat.le_of_ble_eq_true rfl) rfl ?_
    refine Ex.run 3 hF rfl ?_
    refine tb_ialdN (j := m) (rfl) (rfl) (hm) ?_
    refine Ex.run 5 hF rfl ?_
    refine tb_ialdN (j := m) (rfl) (rfl) (hm) ?_
    refine Ex.run 1 hF rfl ?_
    refine tb_icmp_ge (fun h17 => ?_) (fun h17 => ?_)
    · skip
      refine Ex.run 1 hF rfl ?_
      refine tb_goto ?_
      refine tb_ireturn rfl rfl (by omega) (by omega) (?_)
      unfold tbPl
      rw [rV_7 hm]
      by_cases e : 5 * s.1 11 0 m ≤ s.1 7 v m ∨ (0 < s.1 12 0 m ∧ s.1 12 0 m ≤ o)
      · rw [if_pos e]
        first | exact ⟨rfl, rfl⟩ | exact absurd e (fun q => q.elim h17 (ed.mp h26))
      · rw [if_neg e]
        first | exact ⟨rfl, rfl⟩ | exact absurd (Or.inl h17) e | exact absurd (ed.mpr (fun q => e (Or.inr q))) h26
    · skip
      refine Ex.run 3 hF rfl ?_
      refine Ex.call1 kX3_24_5 (x2_isDrawn (d := d) hF hm (by omega)) rfl rfl rfl ⟨rfl, _, _, rfl⟩ (Nat.le_of_ble_eq_true rfl) (by omega) (by omega) (by omega) ?_
      refine tb_if_eq (fun h26 => ?_) (fun h26 => ?_)
      · skip
        refine Ex.run 1 hF rfl ?_
        refine tb_jmp ?_
        refine tb_ireturn rfl rfl (by omega) (by omega) (?_)
        unfold tbPl
        rw [rV_7 hm]
        by_cases e : 5 * s.1 11 0 m ≤ s.1 7 v m ∨ (0 < s.1 12 0 m ∧ s.1 12 0 m ≤ o)
        · rw [if_pos e]
          first | exact ⟨rfl, rfl⟩ | exact absurd e (fun q => q.elim h17 (ed.mp h26))
        · rw [if_neg e]
          first | exact ⟨rfl, rfl⟩ | exact absurd (Or.inl h17) e | exact absurd (ed.mpr (fun q => e (Or.inr q))) h26
      · skip
        refine tb_jmp ?_
        refine Ex.run 1 hF rfl ?_
        refine tb_goto ?_
        refine tb_ireturn rfl rfl (by omega) (by omega) (?_)
        unfold tbPl
        rw [rV_7 hm]
        by_cases e : 5 * s.1 11 0 m ≤ s.1 7 v m ∨ (0 < s.1 12 0 m ∧ s.1 12 0 m ≤ o)
        · rw [if_pos e]
          first | exact ⟨rfl, rfl⟩ | exact absurd e (fun q => q.elim h17 (ed.mp h26))
        · rw [if_neg e]
          first | exact ⟨rfl, rfl⟩ | exact absurd (Or.inl h17) e | exact absurd (ed.mpr (fun q => e (Or.inr q))) h26
theorem x4_doesRise {γ : tbG} {d m v : Nat} {o : Int32} {s : tbS} (hF : tb_Fix (tb_T []) s) (hm : m < 8) : MX γ (d + 1) 0 0 mX4_doesRise [rR 2 0, rR 6 v, .inl (nI m), .inl o] s (ans (.inl (tbDraw (s.1 12 0 m) o)) s) := by
  refine MX.intro (by decide +kernel) rfl oX4_doesRise (Nat.le_of_ble_eq_true rfl) (Nat.le_of_ble_eq_true rfl) rfl ?_
  refine Ex.run 3 hF rfl ?_
  refine Ex.call1 kX4_13_2 (x2_isDrawn (d := d) hF hm (by omega)) rfl rfl rfl ⟨rfl, _, _, rfl⟩ (Nat.le_of_ble_eq_true rfl) (by omega) (by omega) (by omega) ?_
  exact tb_ireturn rfl (tb_narB (tbDraw_01 _ _)) (by omega) (by omega) (⟨rfl, rfl⟩)
theorem x5_doesRise {γ : tbG} {d v : Nat} {m o : Int32} {s : tbS} (hF : tb_Fix (tb_T []) s) : MX γ d 0 0 mX5_doesRise [rR 3 0, rR 6 v, .inl m, .inl o] s (ans (.inl 0) s) := by
  refine MX.intro (by decide +kernel) rfl oX5_doesRise (Nat.le_of_ble_eq_true rfl) (Nat.le_of_ble_eq_true rfl) rfl ?_
  refine Ex.run 1 hF rfl ?_
  exact tb_ireturn rfl rfl (by omega) (by omega) (⟨rfl, rfl⟩)
theorem x6_doesRise {γ : tbG} {d m v : Nat} {o : Int32} {s : tbS} (hF : tb_Fix (tb_T []) s) (hm : m < 8) : MX γ (d + 2) 0 0 mX6_doesRise [rR 4 0, rR 6 v, .inl (nI m), .inl o] s (ans (.inl (tbPl (s.1 11 0 m) (s.1 12 0 m) (rV s v m) (o - 1))) s) := by
  refine MX.intro (by decide +kernel) rfl oX6_doesRise (Nat.le_of_ble_eq_true rfl) (Nat.le_of_ble_eq_true rfl) rfl ?_
  refine Ex.run 6 hF rfl ?_
  refine Ex.call1 kX6_13_4 (x3_doesRise (d := d) hF hm (by omega)) rfl rfl rfl ⟨rfl, _, _, rfl⟩ (Nat.le_of_ble_eq_true rfl) (by omega) (by omega) (by omega) ?_
  exact tb_ireturn rfl (tb_narB (tbPl_01 _ _ _ _)) (by omega) (by omega) (⟨rfl, rfl⟩)
theorem x7_doesRise {γ : tbG} {d m v : Nat} {o : Int32} {s : tbS} (hF : tb_Fix (tb_T []) s) (hm : m < 8) : MX γ (d + 2) 0 0 mX7_doesRise [rR 5 0, rR 6 v, .inl (nI m), .inl o] s (ans (.inl (if rV s v 17 < 10 then 1 else tbPl (s.1 11 0 m) (s.1 12 0 m) (rV s v m) o)) s) := by
  have e01 := tbPl_01 (s.1 11 0 m) (s.1 12 0 m) (rV s v m) o
  refine MX.intro (by decide +kernel) rfl oX7_doesRise (Nat.le_of_ble_eq_true rfl) (Nat.le_of_ble_eq_true rfl) rfl ?_
  refine Ex.run 3 hF rfl ?_
  refine tb_icmp_lt (fun h6 => ?_) (fun h6 => ?_)
  · skip
    refine Ex.run 1 hF rfl ?_
    refine tb_goto ?_
    refine tb_ireturn rfl rfl (by omega) (by omega) (?_)
    by_cases e : rV s v 17 < 10
    · rw [if_pos e]
      first | exact ⟨rfl, rfl⟩ | exact absurd e h6
    · rw [if_neg e]
      first | exact absurd h6 e | (rw [h16]; exact ⟨rfl, rfl⟩) | (rw [e01.resolve_left h16]; exact ⟨rfl, rfl⟩)
  · skip
    refine Ex.run 4 hF rfl ?_
    refine Ex.call1 kX7_19_5 (x3_doesRise (d := d) hF hm (by omega)) rfl rfl rfl ⟨rfl, _, _, rfl⟩ (Nat.le_of_ble_eq_true rfl) (by omega) (by omega) (by omega) ?_
    refine tb_if_eq (fun h16 => ?_) (fun h16 => ?_)
    · skip
      refine Ex.run 1 hF rfl ?_
      refine tb_jmp ?_
      refine tb_ireturn rfl rfl (by omega) (by omega) (?_)
      by_cases e : rV s v 17 < 10
      · rw [if_pos e]
        first | exact ⟨rfl, rfl⟩ | exact absurd e h6
      · rw [if_neg e]
        first | exact absurd h6 e | (rw [h16]; exact ⟨rfl, rfl⟩) | (rw [e01.resolve_left h16]; exact ⟨rfl, rfl⟩)
    · skip
      refine tb_jmp ?_
      refine Ex.run 1 hF rfl ?_
      refine tb_goto ?_
      refine tb_ireturn rfl rfl (by omega) (by omega) (?_)
      by_cases e : rV s v 17 < 10
      · rw [if_pos e]
        first | exact ⟨rfl, rfl⟩ | exact absurd e h6
      · rw [if_neg e]
        first | exact absurd h6 e | (rw [h16]; exact ⟨rfl, rfl⟩) | (rw [e01.resolve_left h16]; exact ⟨rfl, rfl⟩)
