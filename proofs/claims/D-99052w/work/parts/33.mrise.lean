/-! m's risen -/
set_option maxRecDepth 100000
def mPass (n : Nat) (tm nd kd r : Nat → Int32) (al so a b j : Nat) : Prop := b < 256 ∧ tbSub a b ∧ (∀ t, t < 256 → tbSub so t → rClosed n tm nd kd r al t → tbSub b t) ∧ (b = a → ∀ m, m < j → al.testBit m = true → a.testBit m = false → ¬ rJ tm nd kd r a m)
theorem mPass.skip {n al so a b j : Nat} {tm nd kd r : Nat → Int32} (h : mPass n tm nd kd r al so a b j) (hno : ¬ (al.testBit j = true ∧ rJ tm nd kd r (tbDel b j) j)) : mPass n tm nd kd r al so a b (j + 1) := by
  obtain ⟨h1, h2, h3, h4⟩ := h
  refine ⟨h1, h2, h3, fun e m hm q1 q2 q3 => ?_⟩
  by_cases z : m < j
  · exact h4 e m z q1 q2 q3
  · obtain rfl : m = j := by omega
    refine hno ⟨q1, ?_⟩
    rw [e]
    unfold tbDel
    rw [q2, if_neg (by decide)]
    exact q3
theorem mPass.add {n al so a b j : Nat} {tm nd kd r : Nat → Int32} (h : mPass n tm nd kd r al so a b j) (ha : a < 256) (hj : j < n) (hn : n ≤ 8) (e1 : al.testBit j = true) (e3 : rJ tm nd kd r (tbDel b j) j) : mPass n tm nd kd r al so a (b ||| 2 ^ j) (j + 1) := by
  obtain ⟨h1, h2, h3, h4⟩ := h
  refine ⟨(tb_orM b h1 j (by omega)).2, fun i hi => ?_, fun t t1 t2 t3 i hi => ?_, fun e m hm q1 q2 q3 => ?_⟩
  · rw [tb_or_bitT, h2 i hi]
    rfl
  · rw [tb_or_bitT, Bool.or_eq_true] at hi
    rcases hi with hi | hi
    · exact h3 t t1 t2 t3 i hi
    · have hi := of_decide_eq_true hi
      subst hi
      refine Classical.byContradiction fun hc => ?_
      have hc : t.testBit j = false := by
        cases z : t.testBit j
        · rfl
        · exact absurd z hc
      have hb : b.testBit j = false := by
        cases z : b.testBit j
        · rfl
        · exact absurd (h3 t t1 t2 t3 j z) (by rw [hc]; decide)
      have e3 : rJ tm nd kd r b j := by
        unfold tbDel at e3
        rw [hb, if_neg (by decide)] at e3
        exact e3
      exact t3 j hj e1 hc (rJ_mono h1 t1 (h3 t t1 t2 t3) e3)
  · have hj2 : a.testBit j = true := by
      rw [← e, tb_or_bitT, show decide (j = j) = true from decide_eq_true rfl, Bool.or_true]
    have hsub : b = a := tb_bit_eq fun i => by
      cases z : b.testBit i with
      | true =>
        have : (b ||| 2 ^ j).testBit i = true := by rw [tb_or_bitT, z]; rfl
        rw [e] at this
        exact this.symm
      | false =>
        cases z2 : a.testBit i with
        | false => rfl
        | true => exact absurd (h2 i z2) (by rw [z]; decide)
    by_cases z : m < j
    · exact h4 hsub m z q1 q2 q3
    · obtain rfl : m = j := by omega
      rw [hj2] at q2
      cases q2
theorem x9_risen_in {γ : tbG} {d n c a ab al so : Nat} {so9 asl x6 : Int32} {s : tbS} {Q : tbO → tbS → Prop} (hF : tb_Fix (tb_T []) s) (hc : tb_role c = (1, 0, 22)) (hm : s.1 42 0 3 = nI n) (hn : n ≤ 8) (hk : ∀ m, m < n → tbK5 (s.1 47 0 m)) (ha : a < 256) (hab : ab < 256) (hal : ∀ m, m < n → (al.testBit m = true ↔ ab.testBit m = true ∧ ¬ nI m = asl))
    (K : ∀ b o, mPass n (s.1 45 0) (s.1 46 0) (s.1 47 0) (s.1 c 0) al so a b n → Ex γ mX9_risen (d + 3) 0 0 Q 0 0 (cod mX9_risen 7) [some (rR 42 0), some (rR c 0), some (.inl so9), some (.inl asl), some (.inl (nI ab)), some (.inl (nI b)), some (.inl x6), some (.inl (nI a)), some (.inl (nI n)), o] [] s) :
    ∀ r j b o, j + r = n → mPass n (s.1 45 0) (s.1 46 0) (s.1 47 0) (s.1 c 0) al so a b j → Ex γ mX9_risen (d + 3) 0 0 Q 0 0 (cod mX9_risen 2) [some (rR 42 0), some (rR c 0), some (.inl so9), some (.inl asl), some (.inl (nI ab)), some (.inl (nI b)), some (.inl x6), some (.inl (nI a)), some (.inl (nI j)), o] [] s := by
  intro r
  induction r with
  | zero =>
    intro j b o hj hP
    obtain rfl : j = n := by omega
    refine Ex.run 3 hF rfl ?_
    rw [hm]
    refine tb_icmp_ge (fun h32 => ?_) (fun h32 => absurd (Int32.le_refl _) h32 )
    exact K b o hP
  | succ r ih =>
    intro j b o hj hP
    have hj8 : j < 8 := by omega
    have hdel := tb_delM b hP.1 j hj8
    have hpop : tbPop (tbDel b j) ≤ 8 := tbPop_le _
    have hcan : (if (if ab.testBit j = true then (1 : Int32) else 0) = 0 then (0 : Int32) else if nI j = asl then 0 else if tbJ (s.1 47 0 j) (s.1 45 0 j) (s.1 46 0 j) (s.1 c 0 j) (s.1 c 0 17) (nI (tbPop (tbDel b j))) = 0 then 0 else 1) = 0 ↔ ¬ (al.testBit j = true ∧ rJ (s.1 45 0) (s.1 46 0) (s.1 47 0) (s.1 c 0) (tbDel b j) j) := by
      rw [hal j (by omega)]
      unfold rJ
      cases e1 : ab.testBit j with
      | false => simp
      | true =>
        by_cases e2 : nI j = asl
        · simp [e2]
        · rcases tbJ_01 (s.1 47 0 j) (s.1 45 0 j) (s.1 46 0 j) (s.1 c 0 j) (s.1 c 0 17) (nI (tbPop (tbDel b j))) with z | z
          · rw [z]
            simp [e2]
          · rw [z]
            simp [e2]
    refine Ex.run 3 hF rfl ?_
    rw [hm]
    refine tb_icmp_ge (fun h32 => absurd h32 (nI_ge (by omega) (by omega)) ) (fun h32 => ?_)
    refine Ex.run 2 hF rfl ?_
    refine Ex.call1 kX9_257 (x9_has (d := d + 2) hF) rfl rfl rfl trivial (Nat.le_of_ble_eq_true rfl) (by omega) (by omega) (by omega) ?_
    rw [tb_hasM ab hab j hj8]
    refine tb_if_eq_J 4 (0) (if nI j = asl then 0 else if tbJ (s.1 47 0 j) (s.1 45 0 j) (s.1 46 0 j) (s.1 c 0 j) (s.1 c 0 17) (nI (tbPop (tbDel b j))) = 0 then 0 else 1) (fun K42 => ?_) (fun K42 => ?_) ?_
    · skip
      refine Ex.run 1 hF rfl ?_
      refine tb_jmp ?_
      exact K42
    · skip
      refine Ex.run 2 hF rfl ?_
      refine tb_icmp_eq_J 4 (0) (if tbJ (s.1 47 0 j) (s.1 45 0 j) (s.1 46 0 j) (s.1 c 0 j) (s.1 c 0 17) (nI (tbPop (tbDel b j))) = 0 then 0 else 1) (fun K48 => ?_) (fun K48 => ?_) ?_
      · skip
        refine Ex.run 1 hF rfl ?_
        refine tb_jmp ?_
        exact K48
      · skip
        refine Ex.run 10 hF rfl ?_
        rw [hdel.1]
        refine Ex.call1 kX9_261 (j_bits (d := d + 2) hF) rfl rfl rfl trivial (Nat.le_of_ble_eq_true rfl) (by omega) (by omega) (by omega) ?_
        rw [tb_bits_pop _ hdel.2.1]
        refine Ex.call1 kX9_266_7 (x9_joins (d := d + 2) hF hc hj8 (hk j (by omega)) (by rw [nI_toInt (by omega)]; omega)) rfl rfl rfl ⟨rfl, _, _, rfl⟩ (Nat.le_of_ble_eq_true rfl) (by omega) (by omega) (by omega) ?_
        refine tb_if_eq_J 4 (0) (1) (fun K70 => ?_) (fun K70 => ?_) ?_
        · skip
          refine Ex.run 1 hF rfl ?_
          refine tb_jmp ?_
          exact K70
        · skip
          refine Ex.run 1 hF rfl ?_
          refine tb_goto ?_
          exact K70
        exact K48
      exact K42
    refine Ex.run 3 hF rfl ?_
    refine tb_if_eq (fun h84 => ?_) (fun h84 => ?_)
    · skip
      refine Ex.run 1 hF rfl ?_
      refine tb_jmp ?_
      refine Ex.run 3 hF rfl ?_
      refine tb_goto ?_
      rw [nI_1]
      first
        | (rw [Int32.or_zero]; exact ih (j + 1) _ _ (by omega) (hP.skip (hcan.mp h84)))
        | (rw [(tb_orM b hP.1 j hj8).1]
           have h84 := Classical.not_not.mp (fun z => h84 (hcan.mpr z))
           exact ih (j + 1) _ _ (by omega) (hP.add ha (by omega) hn h84.1 h84.2))
    · skip
      refine Ex.run 3 hF rfl ?_
      refine tb_goto ?_
      refine Ex.run 3 hF rfl ?_
      refine tb_goto ?_
      rw [nI_1]
      first
        | (rw [Int32.or_zero]; exact ih (j + 1) _ _ (by omega) (hP.skip (hcan.mp h84)))
        | (rw [(tb_orM b hP.1 j hj8).1]
           have h84 := Classical.not_not.mp (fun z => h84 (hcan.mpr z))
           exact ih (j + 1) _ _ (by omega) (hP.add ha (by omega) hn h84.1 h84.2))
theorem x9_risen_out {γ : tbG} {d n c ab al so : Nat} {so9 asl : Int32} {s : tbS} {Q : tbO → tbS → Prop} (hF : tb_Fix (tb_T []) s) (hc : tb_role c = (1, 0, 22)) (hm : s.1 42 0 3 = nI n) (hn : n ≤ 8) (hk : ∀ m, m < n → tbK5 (s.1 47 0 m)) (hab : ab < 256) (hal : ∀ m, m < n → (al.testBit m = true ↔ ab.testBit m = true ∧ ¬ nI m = asl))
    (hQ : ∀ a, rLeast n (s.1 45 0) (s.1 46 0) (s.1 47 0) (s.1 c 0) al so a → Q (.inl (some (.inl (nI a)))) s) :
    ∀ f a x6 o7 o8 o9, 9 - tbPop a < f → a < 256 → tbSub so a → (∀ t, t < 256 → tbSub so t → rClosed n (s.1 45 0) (s.1 46 0) (s.1 47 0) (s.1 c 0) al t → tbSub a t) → (x6 = 0 → rClosed n (s.1 45 0) (s.1 46 0) (s.1 47 0) (s.1 c 0) al a) →
    Ex γ mX9_risen (d + 3) 0 0 Q 0 0 (cod mX9_risen 1) [some (rR 42 0), some (rR c 0), some (.inl so9), some (.inl asl), some (.inl (nI ab)), some (.inl (nI a)), some (.inl x6), o7, o8, o9] [] s := by
  intro f
  induction f with
  | zero =>
    intro a x6 o7 o8 o9 hf
    omega
  | succ f ih =>
    intro a x6 o7 o8 o9 hf ha h1 h2 h3
    have fin : ∀ x6 o7 o8 o9, x6 = 0 → rClosed n (s.1 45 0) (s.1 46 0) (s.1 47 0) (s.1 c 0) al a → Ex γ mX9_risen (d + 3) 0 0 Q 0 0 (cod mX9_risen 1) [some (rR 42 0), some (rR c 0), some (.inl so9), some (.inl asl), some (.inl (nI ab)), some (.inl (nI a)), some (.inl x6), o7, o8, o9] [] s := by
      intro x6 o7 o8 o9 h6 hcl
      refine Ex.run 1 hF rfl ?_
      refine tb_if_eq (fun h16 => ?_) (fun h16 => absurd h6 h16 )
      refine Ex.run 1 hF rfl ?_
      exact tb_ireturn rfl rfl (by omega) (by omega) (hQ a ⟨ha, h1, hcl, h2⟩)
    by_cases hL : x6 = 0
    · exact fin x6 o7 o8 o9 hL (h3 hL)
    · skip
      refine Ex.run 1 hF rfl ?_
      refine tb_if_eq (fun h16 => absurd h16 hL ) (fun h16 => ?_)
      refine Ex.run 4 hF rfl ?_
      refine tb_jmp ?_
      refine x9_risen_in hF hc hm hn hk ha hab hal ?_ n 0 a _ (by omega) ⟨ha, fun _ h => h, h2, fun _ m hm => absurd hm (Nat.not_lt_zero _)⟩
      intro b o hP
      refine Ex.run 2 hF rfl ?_
      refine tb_icmp_eq_J 9 (0) (1) (fun K108 => ?_) (fun K108 => ?_) ?_
      · skip
        refine Ex.run 1 hF rfl ?_
        refine tb_jmp ?_
        exact K108
      · skip
        refine Ex.run 1 hF rfl ?_
        refine tb_goto ?_
        exact K108
      refine Ex.run 1 hF rfl ?_
      refine tb_goto ?_
      by_cases e : b = a
      · subst e
        refine fin _ _ _ _ (if_pos rfl) fun m q1 q2 q3 => hP.2.2.2 rfl m q1 q2 q3
      · refine ih b _ _ _ _ ?_ hP.1 (fun j hj => hP.2.1 j (h1 j hj)) hP.2.2.1 (fun z => ?_)
        · have := tbPop_lt ha hP.1 hP.2.1 e
          have := tbPop_le b
          omega
        · by_cases z2 : nI b = nI a
          · exact absurd ((nI_eq (by have := hP.1; omega) (by omega)).mp z2) e
          · rw [if_neg z2] at z
            exact absurd z (by decide)
theorem x9_risen {γ : tbG} {d n c ab al so : Nat} {asl : Int32} {s : tbS} (hF : tb_Fix (tb_T []) s) (hc : tb_role c = (1, 0, 22)) (hm : s.1 42 0 3 = nI n) (hn : n ≤ 8) (hk : ∀ m, m < n → tbK5 (s.1 47 0 m)) (hso : so < 256) (hab : ab < 256) (ea : rThose n (s.1 c 0) 0 = nI ab) (hal : ∀ m, m < n → (al.testBit m = true ↔ ab.testBit m = true ∧ ¬ nI m = asl)) :
    MX γ (d + 3) 0 0 mX9_risen [rR 42 0, rR c 0, .inl (nI so), .inl asl] s (ans (.inl (nI (rRise n (s.1 45 0) (s.1 46 0) (s.1 47 0) (s.1 c 0) al so))) s) := by
  refine MX.intro (by decide +kernel) rfl oX9_risen (Nat.le_of_ble_eq_true rfl) (Nat.le_of_ble_eq_true rfl) rfl ?_
  refine Ex.run 3 hF rfl ?_
  refine Ex.call1 kX9_253_7 (x9_those (d := d + 2) hF hc hm hn) rfl rfl rfl ⟨rfl, _, _, rfl⟩ (Nat.le_of_ble_eq_true rfl) (by omega) (by omega) (by omega) ?_
  rw [ea]
  refine Ex.run 5 hF rfl ?_
  refine tb_jmp ?_
  exact x9_risen_out hF hc hm hn hk hab hal (fun a h => ⟨by rw [h.rise], rfl⟩) 10 so 1 _ _ _ (by omega) hso (fun _ h => h) (fun t _ h _ => h) (fun z => absurd z (by decide))
