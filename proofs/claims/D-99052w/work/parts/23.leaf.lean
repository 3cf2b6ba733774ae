/-! LEAVES: in, has, flag, tells, bits, a voyage's own methods -/
set_option maxRecDepth 100000
theorem j_bits {γ : tbG} {d : Nat} {x : Int32} {s : tbS} (hF : tb_Fix (tb_T []) s) : MX γ d 0 0 mJ10_bitCount [.inl x] s (ans (.inl (tb_bits x)) s) := by
  refine MX.intro (by decide +kernel) rfl oJ10_bitCount (Nat.le_of_ble_eq_true rfl) (Nat.le_of_ble_eq_true rfl) rfl ?_
  refine Ex.run 41 hF rfl ?_
  exact tb_ireturn rfl rfl (by omega) (by omega) (⟨rfl, rfl⟩)
theorem tb_in_a {x lo hi : Int64} (h : lg_cmp x lo < 0) : (Sum.inl (some (Sum.inl 0)) : tbO) = .inl (some (.inl (tb_inL x lo hi))) := by
  unfold tb_inL
  rw [if_neg (fun q => absurd (tb_lgc.1.mp h) (tb_i64lt.mpr q.1))]
theorem tb_in_b {x lo hi : Int64} (h : 0 < lg_cmp x hi) : (Sum.inl (some (Sum.inl 0)) : tbO) = .inl (some (.inl (tb_inL x lo hi))) := by
  unfold tb_inL
  rw [if_neg (fun q => absurd (tb_lgc.2.1.mp h) (tb_i64lt.mpr q.2))]
theorem tb_in_c {x lo hi : Int64} (h : ¬ lg_cmp x lo < 0) (h2 : ¬ 0 < lg_cmp x hi) : (Sum.inl (some (Sum.inl 1)) : tbO) = .inl (some (.inl (tb_inL x lo hi))) := by
  unfold tb_inL
  rw [tb_lgc.1, tb_i64lt] at h
  rw [tb_lgc.2.1, tb_i64lt] at h2
  rw [if_pos ⟨h, h2⟩]
theorem x1_in {γ : tbG} {d : Nat} {x lo hi : Int64} {s : tbS} (hF : tb_Fix (tb_T []) s) : MX γ d 0 0 mX1_in [.inr (.inl x), .inr (.inl lo), .inr (.inl hi)] s (ans (.inl (tb_inL x lo hi)) s) := by
  refine MX.intro (by decide +kernel) rfl oX1_in (Nat.le_of_ble_eq_true rfl) (Nat.le_of_ble_eq_true rfl) rfl ?_
  refine Ex.run 3 hF rfl ?_
  refine tb_if_lt (fun h3 => ?_) (fun h3 => ?_)
  · skip
    refine Ex.run 1 hF rfl ?_
    refine tb_jmp ?_
    exact tb_ireturn rfl rfl (by omega) (by omega) (⟨by first | exact tb_in_c h3 h10 | exact tb_in_b h10 | exact tb_in_a h3, rfl⟩)
  · skip
    refine Ex.run 3 hF rfl ?_
    refine tb_if_gt (fun h10 => ?_) (fun h10 => ?_)
    · skip
      refine Ex.run 1 hF rfl ?_
      refine tb_jmp ?_
      exact tb_ireturn rfl rfl (by omega) (by omega) (⟨by first | exact tb_in_c h3 h10 | exact tb_in_b h10 | exact tb_in_a h3, rfl⟩)
    · skip
      refine Ex.run 1 hF rfl ?_
      refine tb_goto ?_
      exact tb_ireturn rfl rfl (by omega) (by omega) (⟨by first | exact tb_in_c h3 h10 | exact tb_in_b h10 | exact tb_in_a h3, rfl⟩)
theorem x9_in {γ : tbG} {d : Nat} {x lo hi : Int64} {s : tbS} (hF : tb_Fix (tb_T []) s) : MX γ d 0 0 mX9_in [.inr (.inl x), .inr (.inl lo), .inr (.inl hi)] s (ans (.inl (tb_inL x lo hi)) s) := by
  refine MX.intro (by decide +kernel) rfl oX9_in (Nat.le_of_ble_eq_true rfl) (Nat.le_of_ble_eq_true rfl) rfl ?_
  refine Ex.run 3 hF rfl ?_
  refine tb_if_lt (fun h3 => ?_) (fun h3 => ?_)
  · skip
    refine Ex.run 1 hF rfl ?_
    refine tb_jmp ?_
    exact tb_ireturn rfl rfl (by omega) (by omega) (⟨by first | exact tb_in_c h3 h10 | exact tb_in_b h10 | exact tb_in_a h3, rfl⟩)
  · skip
    refine Ex.run 3 hF rfl ?_
    refine tb_if_gt (fun h10 => ?_) (fun h10 => ?_)
    · skip
      refine Ex.run 1 hF rfl ?_
      refine tb_jmp ?_
      exact tb_ireturn rfl rfl (by omega) (by omega) (⟨by first | exact tb_in_c h3 h10 | exact tb_in_b h10 | exact tb_in_a h3, rfl⟩)
    · skip
      refine Ex.run 1 hF rfl ?_
      refine tb_goto ?_
      exact tb_ireturn rfl rfl (by omega) (by omega) (⟨by first | exact tb_in_c h3 h10 | exact tb_in_b h10 | exact tb_in_a h3, rfl⟩)
theorem x1_has {γ : tbG} {d : Nat} {x k : Int32} {s : tbS} (hF : tb_Fix (tb_T []) s) : MX γ d 0 0 mX1_has [.inl x, .inl k] s (ans (.inl (tb_hasI x k)) s) := by
  refine MX.intro (by decide +kernel) rfl oX1_has (Nat.le_of_ble_eq_true rfl) (Nat.le_of_ble_eq_true rfl) rfl ?_
  refine Ex.run 6 hF rfl ?_
  refine tb_icmp_ne (fun h6 => ?_) (fun h6 => ?_)
  · skip
    refine Ex.run 1 hF rfl ?_
    refine tb_jmp ?_
    exact tb_ireturn rfl rfl (by omega) (by omega) (⟨by unfold tb_hasI; first | rw [if_pos h6] | rw [if_neg h6], rfl⟩)
  · skip
    refine Ex.run 1 hF rfl ?_
    refine tb_goto ?_
    exact tb_ireturn rfl rfl (by omega) (by omega) (⟨by unfold tb_hasI; first | rw [if_pos h6] | rw [if_neg h6], rfl⟩)
theorem x9_has {γ : tbG} {d : Nat} {x k : Int32} {s : tbS} (hF : tb_Fix (tb_T []) s) : MX γ d 0 0 mX9_has [.inl x, .inl k] s (ans (.inl (tb_hasI x k)) s) := by
  refine MX.intro (by decide +kernel) rfl oX9_has (Nat.le_of_ble_eq_true rfl) (Nat.le_of_ble_eq_true rfl) rfl ?_
  refine Ex.run 6 hF rfl ?_
  refine tb_icmp_ne (fun h6 => ?_) (fun h6 => ?_)
  · skip
    refine Ex.run 1 hF rfl ?_
    refine tb_jmp ?_
    exact tb_ireturn rfl rfl (by omega) (by omega) (⟨by unfold tb_hasI; first | rw [if_pos h6] | rw [if_neg h6], rfl⟩)
  · skip
    refine Ex.run 1 hF rfl ?_
    refine tb_goto ?_
    exact tb_ireturn rfl rfl (by omega) (by omega) (⟨by unfold tb_hasI; first | rw [if_pos h6] | rw [if_neg h6], rfl⟩)
theorem x9_flag {γ : tbG} {d : Nat} {x : Int32} {s : tbS} (hF : tb_Fix (tb_T []) s) : MX γ d 0 0 mX9_flag [.inl x] s (ans (.inl (if x = 0 then 0 else 1)) s) := by
  refine MX.intro (by decide +kernel) rfl oX9_flag (Nat.le_of_ble_eq_true rfl) (Nat.le_of_ble_eq_true rfl) rfl ?_
  refine Ex.run 1 hF rfl ?_
  refine tb_if_eq (fun h1 => ?_) (fun h1 => ?_)
  · skip
    refine Ex.run 1 hF rfl ?_
    refine tb_jmp ?_
    exact tb_ireturn rfl rfl (by omega) (by omega) (⟨by first | rw [if_pos h1] | rw [if_neg h1], rfl⟩)
  · skip
    refine Ex.run 1 hF rfl ?_
    refine tb_goto ?_
    exact tb_ireturn rfl rfl (by omega) (by omega) (⟨by first | rw [if_pos h1] | rw [if_neg h1], rfl⟩)
theorem x1_isMan {γ : tbG} {d : Nat} {x : Int32} {s : tbS} (hF : tb_Fix (tb_T []) s) : MX γ (d + 1) 0 0 mX1_isMan [rR 0 0, .inl x] s (ans (.inl (tb_inI x 0 (s.1 0 0 18 - 1))) s) := by
  refine MX.intro (by decide +kernel) rfl oX1_isMan (Nat.le_of_ble_eq_true rfl) (Nat.le_of_ble_eq_true rfl) rfl ?_
  refine Ex.run 8 hF rfl ?_
  refine Ex.call1 kX1_129 (x1_in (d := d) hF) rfl rfl rfl trivial (Nat.le_of_ble_eq_true rfl) (by omega) (by omega) (by omega) ?_
  exact tb_ireturn rfl (tb_narB (tb_inL_01 _ _ _)) (by omega) (by omega) (⟨by rw [← tb_inL_I]; rfl, rfl⟩)
theorem x9_isMan {γ : tbG} {d : Nat} {x : Int32} {s : tbS} (hF : tb_Fix (tb_T []) s) : MX γ (d + 1) 0 0 mX9_isMan [rR 42 0, .inl x] s (ans (.inl (tb_inI x 0 (s.1 42 0 3 - 1))) s) := by
  refine MX.intro (by decide +kernel) rfl oX9_isMan (Nat.le_of_ble_eq_true rfl) (Nat.le_of_ble_eq_true rfl) rfl ?_
  refine Ex.run 8 hF rfl ?_
  refine Ex.call1 kX9_129 (x9_in (d := d) hF) rfl rfl rfl trivial (Nat.le_of_ble_eq_true rfl) (by omega) (by omega) (by omega) ?_
  exact tb_ireturn rfl (tb_narB (tb_inL_01 _ _ _)) (by omega) (by omega) (⟨by rw [← tb_inL_I]; rfl, rfl⟩)
/-- x and m tell -/
def xTell (s : tbS) (v : Int64) : tbS := tb_sI (tb_sL s 20 0 (s.1 0 0 27).toNatClampNeg v) 0 0 27 (s.1 0 0 27 + 1)
def mTell (s : tbS) (v : Int64) : tbS := tb_sI (tb_sL s 43 0 (s.1 42 0 1).toNatClampNeg v) 42 0 1 (s.1 42 0 1 + 1)
theorem x1_tell {γ : tbG} {d : Nat} {v : Int64} {s : tbS} (hF : tb_Fix (tb_T []) s) (h : vp_in (s.1 0 0 27) 16) : MX γ d 0 0 mX1_tell [rR 0 0, .inr (.inl v)] s (don (xTell s v)) := by
  refine MX.intro (by decide +kernel) rfl oX1_tell (Nat.le_of_ble_eq_true rfl) (Nat.le_of_ble_eq_true rfl) rfl ?_
  refine Ex.run 5 hF rfl ?_
  refine tb_last rfl (h) ?_
  refine Ex.run 6 hF rfl ?_
  exact tb_return rfl (by omega) (by omega) (⟨rfl, rfl⟩)
theorem x9_enters {γ : tbG} {d : Nat} {v : Int64} {s : tbS} (hF : tb_Fix (tb_T []) s) (h : vp_in (s.1 42 0 1) 24) : MX γ d 0 0 mX9_enters [rR 42 0, .inr (.inl v)] s (don (mTell s v)) := by
  refine MX.intro (by decide +kernel) rfl oX9_enters (Nat.le_of_ble_eq_true rfl) (Nat.le_of_ble_eq_true rfl) rfl ?_
  refine Ex.run 5 hF rfl ?_
  refine tb_last rfl (h) ?_
  refine Ex.run 6 hF rfl ?_
  exact tb_return rfl (by omega) (by omega) (⟨rfl, rfl⟩)
