/-! A VOYAGE's METHODS -/
set_option maxRecDepth 100000
set_option maxHeartbeats 1000000 in
theorem x8_those_loop {γ : tbG} {d k n : Nat} {what : Int32} {s : tbS} {Q : tbO → tbS → Prop} (hF : tb_Fix (tb_T []) s) (hn : n ≤ 8) (hQ : Q (.inl (some (.inl (tb_those (s.1 8 k) what n)))) s) :
    ∀ r j, j + r = n → Ex γ mX8_those d 0 0 Q 0 0 (cod mX8_those 1) [some (rR 6 k), some (.inl (nI n)), some (.inl what), some (.inl (tb_those (s.1 8 k) what j)), some (.inl (nI j))] [] s := by
  intro r
  induction r with
  | zero =>
    intro j hj
    obtain rfl : j = n := by omega
    refine Ex.run 2 hF rfl ?_
    refine tb_icmp_ge (fun h8 => ?_) (fun h8 => absurd (Int32.le_refl _) h8 )
    refine Ex.run 1 hF rfl ?_
    exact tb_ireturn rfl rfl (by omega) (by omega) (hQ)
  | succ r ih =>
    intro j hj
    have ih := ih (j + 1) (by omega)
    have e1 : tb_those (s.1 8 k) what (j + 1) = tb_those (s.1 8 k) what j ||| (if s.1 8 k j = what then 1 <<< (nI j &&& 31) else 0) := rfl
    refine Ex.run 2 hF rfl ?_
    refine tb_icmp_ge (fun h8 => absurd h8 (nI_ge (by omega) (by omega)) ) (fun h8 => ?_)
    refine Ex.run 4 hF rfl ?_
    refine tb_iald rfl (vp_in_nI (N := 8) (by omega) (by decide)) ?_
    rw [nI_clamp (by omega)]
    refine Ex.run 1 hF rfl ?_
    refine tb_icmp_ne (fun h20 => ?_) (fun h20 => ?_)
    · skip
      refine Ex.run 1 hF rfl ?_
      refine tb_jmp ?_
      refine Ex.run 3 hF rfl ?_
      refine tb_goto ?_
      first | rw [if_neg h20] at e1 | rw [if_pos h20] at e1
      rw [← e1, nI_1]
      exact ih
    · skip
      refine Ex.run 3 hF rfl ?_
      refine tb_goto ?_
      refine Ex.run 3 hF rfl ?_
      refine tb_goto ?_
      first | rw [if_neg h20] at e1 | rw [if_pos h20] at e1
      rw [← e1, nI_1]
      exact ih
theorem x8_those {γ : tbG} {d k n : Nat} {what : Int32} {s : tbS} (hF : tb_Fix (tb_T []) s) (hn : n ≤ 8) : MX γ d 0 0 mX8_those [rR 6 k, .inl (nI n), .inl what] s (ans (.inl (rThose n (rV s k) what)) s) := by
  rw [← rThose_V hn]
  refine MX.intro (by decide +kernel) rfl oX8_those (Nat.le_of_ble_eq_true rfl) (Nat.le_of_ble_eq_true rfl) rfl ?_
  refine Ex.run 4 hF rfl ?_
  refine tb_jmp ?_
  exact x8_those_loop hF hn ⟨rfl, rfl⟩ n 0 (by omega)
theorem x8_angers {γ : tbG} {d k j : Nat} {v : Int32} {s : tbS} (hF : tb_Fix (tb_T []) s) (hj : j < 8) : MX γ (d + 1) 0 0 mX8_angers [rR 6 k, .inl (nI j), .inl v] s (fun o s' => o = .inl none ∧ xU s s' k (upd (rV s k) j (tbC (rV s k j + v)))) := by
  refine MX.intro (by decide +kernel) rfl oX8_angers (Nat.le_of_ble_eq_true rfl) (Nat.le_of_ble_eq_true rfl) rfl ?_
  refine Ex.run 8 hF rfl ?_
  refine tb_iald rfl (vp_in_nI (N := 8) hj (by decide)) ?_
  rw [nI_clamp (by omega)]
  refine Ex.run 2 hF rfl ?_
  refine tb_min q803 (Nat.le_of_ble_eq_true rfl) (by omega) (by omega) (by omega) ?_
  refine tb_max q804 (Nat.le_of_ble_eq_true rfl) (by omega) (by omega) (by omega) ?_
  refine tb_iast rfl (vp_in_nI (N := 8) hj (by decide)) ?_
  rw [nI_clamp (by omega)]
  exact tb_return rfl (by omega) (by omega) (⟨rfl, by rw [rV_7 hj]; exact xU_sI7 hj⟩)
theorem x8_fill {γ : tbG} {d k : Nat} {v : Int32} {s : tbS} (hF : tb_Fix (tb_T []) s) : MX γ (d + 1) 0 0 mX8_fill [rR 6 k, .inl v] s (fun o s' => o = .inl (some (.inl (tbMin 999 (rV s k 16 + v)))) ∧ xU s s' k (upd (rV s k) 16 (tbMin 999 (rV s k 16 + v)))) := by
  refine MX.intro (by decide +kernel) rfl oX8_fill (Nat.le_of_ble_eq_true rfl) (Nat.le_of_ble_eq_true rfl) rfl ?_
  refine Ex.run 6 hF rfl ?_
  refine tb_min q803 (Nat.le_of_ble_eq_true rfl) (by omega) (by omega) (by omega) ?_
  refine Ex.run 3 hF rfl ?_
  exact tb_ireturn rfl rfl (by omega) (by omega) (⟨by rw [tb_sI_self, pk_us]; rfl, xU_sI6 (j := 2) (by decide) (by decide)⟩)
theorem x8_gives {γ : tbG} {d k n : Nat} {s : tbS} (hF : tb_Fix (tb_T []) s) (hn : n ≤ 8) : MX γ (d + 1) 0 0 mX8_gives [rR 6 k, .inl (nI n)] s (fun o s' => o = .inl (some (.inl (if rNeed n (rV s k) ≤ rV s k 16 then 1 else 0))) ∧ xU s s' k (if rNeed n (rV s k) ≤ rV s k 16 then upd (rV s k) 16 (rV s k 16 - rNeed n (rV s k)) else rV s k)) := by
  refine MX.intro (by decide +kernel) rfl oX8_gives (Nat.le_of_ble_eq_true rfl) (Nat.le_of_ble_eq_true rfl) rfl ?_
  refine Ex.run 5 hF rfl ?_
  refine Ex.call1 kX8_49_6 (x8_those (d := d) hF hn) rfl rfl rfl ⟨rfl, _, _, rfl⟩ (Nat.le_of_ble_eq_true rfl) (by omega) (by omega) (by omega) ?_
  refine Ex.call1 kX8_52 (j_bits (d := d) hF) rfl rfl rfl trivial (Nat.le_of_ble_eq_true rfl) (by omega) (by omega) (by omega) ?_
  refine Ex.run 11 hF rfl ?_
  refine tb_icmp_ge (fun h30 => ?_) (fun h30 => ?_)
  · skip
    refine Ex.run 7 hF rfl ?_
    refine tb_ireturn rfl rfl (by omega) (by omega) (?_)
    have h30 : rNeed n (rV s k) ≤ rV s k 16 := h30
    rw [if_pos h30, if_pos h30]
    exact ⟨rfl, xU_sI6 (j := 2) (by decide) (by decide)⟩
  · skip
    refine Ex.run 1 hF rfl ?_
    refine tb_ireturn rfl rfl (by omega) (by omega) (?_)
    have h30 : ¬ rNeed n (rV s k) ≤ rV s k 16 := h30
    rw [if_neg h30, if_neg h30]
    exact ⟨rfl, xU.rf⟩
theorem xU.p7 {s s' : tbS} {k j : Nat} {r : Nat → Int32} {x : Int32} (h : xU s s' k r) (hj : j < 8) : xU s (tb_sI s' 7 k j x) k (upd r j x) := by
  have h2 := xU_sI7 (s := s') (k := k) (x := x) hj
  rw [h.at] at h2
  exact h.tr h2
theorem xU.p8 {s s' : tbS} {k j : Nat} {r : Nat → Int32} {x : Int32} (h : xU s s' k r) (hj : j < 8) : xU s (tb_sI s' 8 k j x) k (upd r (8 + j) x) := by
  have h2 := xU_sI8 (s := s') (k := k) (x := x) hj
  rw [h.at] at h2
  exact h.tr h2
theorem xU.p6 {s s' : tbS} {k j : Nat} {r : Nat → Int32} {x : Int32} (h : xU s s' k r) (h2 : 2 ≤ j) (hj : j < 7) : xU s (tb_sI s' 6 k j x) k (upd r (14 + j) x) := by
  have h2 := xU_sI6 (s := s') (k := k) (x := x) h2 hj
  rw [h.at] at h2
  exact h.tr h2
theorem xU.f7 {s s' : tbS} {k : Nat} {r f : Nat → Int32} (h : xU s s' k r) : xU s (tb_sF s' 7 k f) k (fun j => if j < 8 then f j else r j) := by
  have h2 := xU_sF7 (s := s') (k := k) (f := f)
  rw [h.at] at h2
  exact h.tr h2
theorem xU.f8 {s s' : tbS} {k : Nat} {r f : Nat → Int32} (h : xU s s' k r) : xU s (tb_sF s' 8 k f) k (fun j => if j < 8 then r j else if j < 16 then f (j - 8) else r j) := by
  have h2 := xU_sF8 (s := s') (k := k) (f := f)
  rw [h.at] at h2
  exact h.tr h2
theorem xU.eqR {s s' : tbS} {k : Nat} {r r' : Nat → Int32} (h : xU s s' k r) (e : ∀ j, r j = r' j) : xU s s' k r' := by
  have e : r = r' := funext e
  rw [← e]
  exact h
theorem x8_be {γ : tbG} {d k o : Nat} {s : tbS} (hF : tb_Fix (tb_T []) s) : MX γ (d + 2) 0 0 mX8_be [rR 6 k, rR 6 o] s (fun q s' => q = .inl none ∧ xU s s' k (rV s o)) := by
  refine MX.intro (by decide +kernel) rfl oX8_be (Nat.le_of_ble_eq_true rfl) (Nat.le_of_ble_eq_true rfl) rfl ?_
  refine Ex.run 7 hF rfl ?_
  refine tb_copy q713 (Or.inl rfl) rfl rfl (by decide) (by decide) (by decide) (Nat.le_of_ble_eq_true rfl) (Nat.le_of_ble_eq_true rfl) (fun h => absurd h (by decide)) (Nat.le_of_ble_eq_true rfl) (by omega) ?_
  refine Ex.run 7 hF rfl ?_
  refine tb_copy q713 (Or.inl rfl) rfl rfl (by decide) (by decide) (by decide) (Nat.le_of_ble_eq_true rfl) (Nat.le_of_ble_eq_true rfl) (fun h => absurd h (by decide)) (Nat.le_of_ble_eq_true rfl) (by omega) ?_
  refine Ex.run 20 hF rfl ?_
  refine tb_return rfl (by omega) (by omega) ⟨rfl, ?_⟩
  refine ((((((xU.rf.f7.f8.p6 (j := 2) (by decide) (by decide)).p6 (j := 3) (by decide) (by decide)).p6 (j := 4) (by decide) (by decide)).p6 (j := 5) (by decide) (by decide)).p6 (j := 6) (by decide) (by decide))).eqR fun i => ?_
  have e0 : Int32.toNatClampNeg 0 = 0 := by decide
  have e8 : Int32.toNatClampNeg 8 = 8 := by decide
  by_cases h1 : i < 16
  · by_cases h2 : i < 8
    · simp [tb_upd, tb_sI_get, tb_sF_get, va_cpy, rV_get, e0, e8, h1, h2, show i ≠ 16 by omega, show i ≠ 17 by omega, show i ≠ 18 by omega, show i ≠ 19 by omega, show i ≠ 20 by omega]
    · have h3 : i - 8 < 8 := by omega
      simp [tb_upd, tb_sI_get, tb_sF_get, va_cpy, rV_get, e0, e8, h1, h2, h3, show i ≠ 16 by omega, show i ≠ 17 by omega, show i ≠ 18 by omega, show i ≠ 19 by omega, show i ≠ 20 by omega]
  · by_cases h2 : i < 21
    · rcases (show i = 16 ∨ i = 17 ∨ i = 18 ∨ i = 19 ∨ i = 20 by omega) with rfl | rfl | rfl | rfl | rfl <;> simp [tb_upd, tb_sI_get, tb_sF_get, va_cpy, rV_get, e0, e8]
    · simp [tb_upd, tb_sI_get, tb_sF_get, va_cpy, rV_get, e0, e8, h1, h2, show ¬ i < 8 by omega, show i ≠ 16 by omega, show i ≠ 17 by omega, show i ≠ 18 by omega, show i ≠ 19 by omega, show i ≠ 20 by omega]
