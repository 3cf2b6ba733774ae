/-! x's risesOf, m's risen -/
set_option maxRecDepth 100000
theorem tb_bt {c : Bool} : (if c = true then (1 : Int32) else 0) = 0 ↔ c = false := by
  cases c <;> decide
theorem tb_btn {c : Bool} : ¬ (if c = true then (1 : Int32) else 0) = 0 ↔ c = true := by
  cases c <;> decide
/-- what stands while a pass over the men goes on: from a, now b, before man j -/
def rPass (n : Nat) (tm nd kd r : Nat → Int32) (al so a b j : Nat) : Prop := b < 256 ∧ tbSub a b ∧ (∀ t, t < 256 → tbSub so t → rClosed n tm nd kd r al t → tbSub b t) ∧ (∀ m, m < j → al.testBit m = true → a.testBit m = false → rJ tm nd kd r a m → b.testBit m = true) ∧ ∀ i, j ≤ i → b.testBit i = a.testBit i
theorem rPass.skip {n al so a b j : Nat} {tm nd kd r : Nat → Int32} (h : rPass n tm nd kd r al so a b j) (hno : al.testBit j = false ∨ b.testBit j = true ∨ ¬ rJ tm nd kd r a j) : rPass n tm nd kd r al so a b (j + 1) := by
  obtain ⟨h1, h2, h3, h4, h5⟩ := h
  refine ⟨h1, h2, h3, fun m hm q1 q2 q3 => ?_, fun i hi => h5 i (by omega)⟩
  by_cases e : m < j
  · exact h4 m e q1 q2 q3
  · obtain rfl : m = j := by omega
    rcases hno with z | z | z
    · rw [z] at q1
      cases q1
    · exact z
    · exact absurd q3 z
theorem rPass.add {n al so a b j : Nat} {tm nd kd r : Nat → Int32} (h : rPass n tm nd kd r al so a b j) (ha : a < 256) (hj : j < n) (hn : n ≤ 8) (e1 : al.testBit j = true) (e3 : rJ tm nd kd r a j) : rPass n tm nd kd r al so a (b ||| 2 ^ j) (j + 1) := by
  obtain ⟨h1, h2, h3, h4, h5⟩ := h
  refine ⟨(tb_orM b h1 j (by omega)).2, fun i hi => ?_, fun t t1 t2 t3 i hi => ?_, fun m hm q1 q2 q3 => ?_, fun i hi => ?_⟩
  · rw [tb_or_bitT, h2 i hi]
    rfl
  · rw [tb_or_bitT, Bool.or_eq_true] at hi
    rcases hi with hi | hi
    · exact h3 t t1 t2 t3 i hi
    · have hi := of_decide_eq_true hi
      subst hi
      refine Classical.byContradiction fun hc => ?_
      have hc : t.testBit j = false := by
        cases z : t.testBit j
        · rfl
        · exact absurd z hc
      have hsub : tbSub a t := fun i hi => h3 t t1 t2 t3 i (h2 i hi)
      exact t3 j hj e1 hc (rJ_mono ha t1 hsub e3)
  · rw [tb_or_bitT, Bool.or_eq_true]
    by_cases e : m < j
    · exact Or.inl (h4 m e q1 q2 q3)
    · exact Or.inr (decide_eq_true (by omega))
  · rw [tb_or_bitT, h5 i (by omega), show decide (j = i) = false from decide_eq_false (by omega), Bool.or_false]
theorem x1_rises_in {γ : tbG} {d n v a al so : Nat} {so9 nv : Int32} {s : tbS} {Q : tbO → tbS → Prop} (hF : tb_Fix (tb_T []) s) (hm : s.1 0 0 18 = nI n) (hn : n ≤ 8) (hk : ∀ m, m < n → tbK5 (s.1 13 0 m)) (ha : a < 256) (hal : al < 256)
    (K : ∀ b, rPass n (s.1 11 0) (s.1 12 0) (s.1 13 0) (rV s v) al so a b n → Ex γ mX1_risesOf (d + 3) 0 0 Q 0 0 (cod mX1_risesOf 4) [some (rR 0 0), some (rR 6 v), some (.inl so9), some (.inl nv), some (.inl (nI b)), some (.inl (nI a)), some (.inl (nI al)), some (.inl (nI n))] [] s) :
    ∀ r j b, j + r = n → rPass n (s.1 11 0) (s.1 12 0) (s.1 13 0) (rV s v) al so a b j → Ex γ mX1_risesOf (d + 3) 0 0 Q 0 0 (cod mX1_risesOf 2) [some (rR 0 0), some (rR 6 v), some (.inl so9), some (.inl nv), some (.inl (nI b)), some (.inl (nI a)), some (.inl (nI al)), some (.inl (nI j))] [] s := by
  intro r
  induction r with
  | zero =>
    intro j b hj hP
    obtain rfl : j = n := by omega
    refine Ex.run 3 hF rfl ?_
    rw [hm]
    refine tb_icmp_ge (fun h41 => ?_) (fun h41 => absurd (Int32.le_refl _) h41 )
    exact K b hP
  | succ r ih =>
    intro j b hj hP
    have hj8 : j < 8 := by omega
    have hJ : tbJ (s.1 13 0 j) (s.1 11 0 j) (s.1 12 0 j) (rV s v j) (rV s v 17) (nI (tbPop a)) = 0 ↔ ¬ rJ (s.1 11 0) (s.1 12 0) (s.1 13 0) (rV s v) a j := by
      unfold rJ
      rcases tbJ_01 (s.1 13 0 j) (s.1 11 0 j) (s.1 12 0 j) (rV s v j) (rV s v 17) (nI (tbPop a)) with z | z
      · rw [z]
        exact ⟨fun _ => by decide, fun _ => rfl⟩
      · rw [z]
        exact ⟨fun q => absurd q (by decide), fun q => absurd rfl q⟩
    refine Ex.run 3 hF rfl ?_
    rw [hm]
    refine tb_icmp_ge (fun h41 => absurd h41 (nI_ge (by omega) (by omega)) ) (fun h41 => ?_)
    refine Ex.run 2 hF rfl ?_
    refine Ex.call1 kX1_221 (x1_has (d := d + 2) hF) rfl rfl rfl trivial (Nat.le_of_ble_eq_true rfl) (by omega) (by omega) (by omega) ?_
    rw [tb_hasM al hal j hj8]
    refine tb_if_eq (fun h51 => ?_) (fun h51 => ?_)
    · skip
      refine Ex.run 1 hF rfl ?_
      refine tb_goto ?_
      rw [nI_1]
      first
        | exact ih (j + 1) _ (by omega) (hP.add ha (by omega) hn (tb_btn.mp h51) (Classical.byContradiction fun z => h81 (hJ.mpr z)))
        | exact ih (j + 1) _ (by omega) (hP.skip (Or.inl (tb_bt.mp h51)))
        | exact ih (j + 1) _ (by omega) (hP.skip (Or.inr (Or.inl (tb_btn.mp h61))))
        | exact ih (j + 1) _ (by omega) (hP.skip (Or.inr (Or.inr (hJ.mp h81))))
    · skip
      refine Ex.run 2 hF rfl ?_
      refine Ex.call1 kX1_221 (x1_has (d := d + 2) hF) rfl rfl rfl trivial (Nat.le_of_ble_eq_true rfl) (by omega) (by omega) (by omega) ?_
      rw [tb_hasM b hP.1 j hj8]
      refine tb_if_ne (fun h61 => ?_) (fun h61 => ?_)
      · skip
        refine Ex.run 1 hF rfl ?_
        refine tb_goto ?_
        rw [nI_1]
        first
          | exact ih (j + 1) _ (by omega) (hP.add ha (by omega) hn (tb_btn.mp h51) (Classical.byContradiction fun z => h81 (hJ.mpr z)))
          | exact ih (j + 1) _ (by omega) (hP.skip (Or.inl (tb_bt.mp h51)))
          | exact ih (j + 1) _ (by omega) (hP.skip (Or.inr (Or.inl (tb_btn.mp h61))))
          | exact ih (j + 1) _ (by omega) (hP.skip (Or.inr (Or.inr (hJ.mp h81))))
      · skip
        refine Ex.run 2 hF rfl ?_
        refine Ex.call1 kX1_225_0 (x1_kindOf (d := d + 2) hF hj8 (hk j (by omega))) rfl rfl rfl ⟨rfl, _, _, rfl⟩ (Nat.le_of_ble_eq_true rfl) (by omega) (by omega) (by omega) ?_
        refine Ex.run 3 hF rfl ?_
        refine Ex.call1 kX1_229 (j_bits (d := d + 2) hF) rfl rfl rfl trivial (Nat.le_of_ble_eq_true rfl) (by omega) (by omega) (by omega) ?_
        rw [tb_bits_pop a ha]
        refine x1_dispatch hF hj8 rfl (hk j (by omega)) (Nat.le_of_ble_eq_true rfl) (by omega) (by omega) ?_
        refine tb_if_eq (fun h81 => ?_) (fun h81 => ?_)
        · skip
          refine Ex.run 1 hF rfl ?_
          refine tb_goto ?_
          rw [nI_1]
          first
            | exact ih (j + 1) _ (by omega) (hP.add ha (by omega) hn (tb_btn.mp h51) (Classical.byContradiction fun z => h81 (hJ.mpr z)))
            | exact ih (j + 1) _ (by omega) (hP.skip (Or.inl (tb_bt.mp h51)))
            | exact ih (j + 1) _ (by omega) (hP.skip (Or.inr (Or.inl (tb_btn.mp h61))))
            | exact ih (j + 1) _ (by omega) (hP.skip (Or.inr (Or.inr (hJ.mp h81))))
        · skip
          refine Ex.run 4 hF rfl ?_
          refine Ex.run 2 hF rfl ?_
          rw [(tb_orM b hP.1 j hj8).1]
          refine tb_jmp ?_
          refine Ex.run 1 hF rfl ?_
          refine tb_goto ?_
          rw [nI_1]
          first
            | exact ih (j + 1) _ (by omega) (hP.add ha (by omega) hn (tb_btn.mp h51) (Classical.byContradiction fun z => h81 (hJ.mpr z)))
            | exact ih (j + 1) _ (by omega) (hP.skip (Or.inl (tb_bt.mp h51)))
            | exact ih (j + 1) _ (by omega) (hP.skip (Or.inr (Or.inl (tb_btn.mp h61))))
            | exact ih (j + 1) _ (by omega) (hP.skip (Or.inr (Or.inr (hJ.mp h81))))
theorem x1_rises_out {γ : tbG} {d n v al so : Nat} {so9 nv : Int32} {s : tbS} {Q : tbO → tbS → Prop} (hF : tb_Fix (tb_T []) s) (hm : s.1 0 0 18 = nI n) (hn : n ≤ 8) (hk : ∀ m, m < n → tbK5 (s.1 13 0 m)) (hal : al < 256)
    (hQ : ∀ a, rLeast n (s.1 11 0) (s.1 12 0) (s.1 13 0) (rV s v) al so a → Q (.inl (some (.inl (nI a)))) s) :
    ∀ f a L x7, 9 - tbPop a < f → a < 256 → tbSub so a → (∀ t, t < 256 → tbSub so t → rClosed n (s.1 11 0) (s.1 12 0) (s.1 13 0) (rV s v) al t → tbSub a t) → (nI a = L → rClosed n (s.1 11 0) (s.1 12 0) (s.1 13 0) (rV s v) al a) →
    Ex γ mX1_risesOf (d + 3) 0 0 Q 0 0 (cod mX1_risesOf 1) [some (rR 0 0), some (rR 6 v), some (.inl so9), some (.inl nv), some (.inl (nI a)), some (.inl L), some (.inl (nI al)), x7] [] s := by
  intro f
  induction f with
  | zero =>
    intro a L x7 hf
    omega
  | succ f ih =>
    intro a L x7 hf ha h1 h2 h3
    have fin : ∀ x7, rClosed n (s.1 11 0) (s.1 12 0) (s.1 13 0) (rV s v) al a → Ex γ mX1_risesOf (d + 3) 0 0 Q 0 0 (cod mX1_risesOf 1) [some (rR 0 0), some (rR 6 v), some (.inl so9), some (.inl nv), some (.inl (nI a)), some (.inl (nI a)), some (.inl (nI al)), x7] [] s := by
      intro x7 hc
      refine Ex.run 2 hF rfl ?_
      refine tb_icmp_eq (fun h25 => ?_) (fun h25 => absurd rfl h25 )
      refine Ex.run 1 hF rfl ?_
      exact tb_ireturn rfl rfl (by omega) (by omega) (hQ a ⟨ha, h1, hc, h2⟩)
    by_cases hL : nI a = L
    · subst hL
      exact fin x7 (h3 rfl)
    · skip
      refine Ex.run 2 hF rfl ?_
      refine tb_icmp_eq (fun h25 => absurd h25 hL ) (fun h25 => ?_)
      refine Ex.run 4 hF rfl ?_
      refine tb_jmp ?_
      refine x1_rises_in hF hm hn hk ha hal ?_ n 0 a (by omega) ⟨ha, fun _ h => h, h2, fun m hm => absurd hm (Nat.not_lt_zero _), fun _ _ => rfl⟩
      intro b hP
      refine tb_goto ?_
      by_cases e : b = a
      · subst e
        refine fin _ fun m q1 q2 q3 q4 => ?_
        have := hP.2.2.2.1 m q1 q2 q3 q4
        rw [q3] at this
        cases this
      · refine ih b (nI a) _ ?_ hP.1 (fun j hj => hP.2.1 j (h1 j hj)) hP.2.2.1 (fun z => ?_)
        · have := tbPop_lt ha hP.1 hP.2.1 e
          have := tbPop_le b
          omega
        · have z := (nI_eq (by have := hP.1; omega) (by omega)).mp z
          exact absurd z e
theorem x1_risesOf {γ : tbG} {d n v al so : Nat} {nv : Int32} {s : tbS} (hF : tb_Fix (tb_T []) s) (hm : s.1 0 0 18 = nI n) (hn : n ≤ 8) (hk : ∀ m, m < n → tbK5 (s.1 13 0 m)) (hso : so < 256) (hal : al < 256) (ea : rThose n (rV s v) 0 &&& (nv ^^^ (-1)) = nI al) :
    MX γ (d + 3) 0 0 mX1_risesOf [rR 0 0, rR 6 v, .inl (nI so), .inl nv] s (ans (.inl (nI (rRise n (s.1 11 0) (s.1 12 0) (s.1 13 0) (rV s v) al so))) s) := by
  refine MX.intro (by decide +kernel) rfl oX1_risesOf (Nat.le_of_ble_eq_true rfl) (Nat.le_of_ble_eq_true rfl) rfl ?_
  refine Ex.run 4 hF rfl ?_
  refine Ex.run 4 hF rfl ?_
  rw [hm]
  refine Ex.call1 kX1_217_6 (x8_those (d := d + 2) hF hn) rfl rfl rfl ⟨rfl, _, _, rfl⟩ (Nat.le_of_ble_eq_true rfl) (by omega) (by omega) (by omega) ?_
  refine Ex.run 3 hF rfl ?_
  refine Ex.run 2 hF rfl ?_
  rw [ea]
  refine tb_jmp ?_
  refine x1_rises_out hF hm hn hk hal (fun a h => ⟨by rw [h.rise], rfl⟩) 10 so (-1) _ (by omega) hso (fun _ h => h) (fun t _ h _ => h) (fun z => ?_)
  have e : (nI so).toInt = so := nI_toInt (by omega)
  rw [z] at e
  have e1 : (-1 : Int32).toInt = -1 := rfl
  omega
