/-! WHO RISES: the calls -/
set_option maxRecDepth 100000
/-- the object of a kind -/
def tbKo (k : Int32) : Nat := if k = 1 then 2 else if k = 2 then 3 else if k = 3 then 4 else if k = 4 then 5 else 1
def tbK5 (k : Int32) : Prop := k = 0 ∨ k = 1 ∨ k = 2 ∨ k = 3 ∨ k = 4
theorem x1_kindOf {γ : tbG} {d m : Nat} {s : tbS} (hF : tb_Fix (tb_T []) s) (hm : m < 8) (hk : tbK5 (s.1 13 0 m)) : MX γ d 0 0 mX1_kindOf [rR 0 0, .inl (nI m)] s (ans (rR (tbKo (s.1 13 0 m)) 0) s) := by
  refine MX.intro (by decide +kernel) rfl oX1_kindOf (Nat.le_of_ble_eq_true rfl) (Nat.le_of_ble_eq_true rfl) rfl ?_
  refine Ex.run 3 hF rfl ?_
  refine tb_ialdN (j := m) (rfl) (rfl) (hm) ?_
  rcases hk with e6 | e6 | e6 | e6 | e6
  · skip
    rw [e6]
    refine tb_switch ?_
    rw [show tb_swt 5 1 [1, 2, 3, 4] (0 : Int32) = 5 from by decide]
    refine Ex.run 2 hF rfl ?_
    exact tb_areturn rfl (by first | exact Or.inl ⟨_, rfl⟩ | exact Or.inr ⟨_, rfl⟩) (by omega) (by omega) (⟨rfl, rfl⟩)
  · skip
    rw [e6]
    refine tb_switch ?_
    rw [show tb_swt 5 1 [1, 2, 3, 4] (1 : Int32) = 1 from by decide]
    refine Ex.run 2 hF rfl ?_
    exact tb_areturn rfl (by first | exact Or.inl ⟨_, rfl⟩ | exact Or.inr ⟨_, rfl⟩) (by omega) (by omega) (⟨rfl, rfl⟩)
  · skip
    rw [e6]
    refine tb_switch ?_
    rw [show tb_swt 5 1 [1, 2, 3, 4] (2 : Int32) = 2 from by decide]
    refine Ex.run 2 hF rfl ?_
    exact tb_areturn rfl (by first | exact Or.inl ⟨_, rfl⟩ | exact Or.inr ⟨_, rfl⟩) (by omega) (by omega) (⟨rfl, rfl⟩)
  · skip
    rw [e6]
    refine tb_switch ?_
    rw [show tb_swt 5 1 [1, 2, 3, 4] (3 : Int32) = 3 from by decide]
    refine Ex.run 2 hF rfl ?_
    exact tb_areturn rfl (by first | exact Or.inl ⟨_, rfl⟩ | exact Or.inr ⟨_, rfl⟩) (by omega) (by omega) (⟨rfl, rfl⟩)
  · skip
    rw [e6]
    refine tb_switch ?_
    rw [show tb_swt 5 1 [1, 2, 3, 4] (4 : Int32) = 4 from by decide]
    refine Ex.run 2 hF rfl ?_
    exact tb_areturn rfl (by first | exact Or.inl ⟨_, rfl⟩ | exact Or.inr ⟨_, rfl⟩) (by omega) (by omega) (⟨rfl, rfl⟩)
theorem x1_dispatch {γ : tbG} {d mc ms nc ns pc m v : Nat} {k o : Int32} {a b : Nat} {l : List Nat} {vv : tbV} {cs : List tbI} {ls : tbL} {st : List tbV} {s : tbS} {Q : tbO → tbS → Prop} (hF : tb_Fix (tb_T []) s) (hm : m < 8) (ek : s.1 13 0 m = k) (hk : tbK5 k) (hs : tb_sum st ≤ 8) (h1 : nc ≤ mc) (h2 : ns ≤ ms)
    (kk : Ex γ mX1_risesOf (d + 3) mc ms Q (nc + 0) (ns + 0) cs ls (.inl (tbJ k (s.1 11 0 m) (s.1 12 0 m) (rV s v m) (rV s v 17) o) :: st) s) :
    Ex γ mX1_risesOf (d + 3) mc ms Q nc ns ((pc, .invokevirtual 234, a, b, l, vv) :: cs) ls (.inl o :: .inl (nI m) :: rR 6 v :: rR (tbKo k) 0 :: st) s := by
  rcases hk with rfl | rfl | rfl | rfl | rfl
  · exact Ex.call1 kX1_234_1 (x3_doesRise (d := d + 1) (c := 1) hF hm (by omega)) rfl rfl rfl ⟨rfl, _, _, rfl⟩ hs (by omega) (by omega) (by omega) kk
  · exact Ex.call1 kX1_234_2 (x4_doesRise (d := d + 1) hF hm) rfl rfl rfl ⟨rfl, _, _, rfl⟩ hs (by omega) (by omega) (by omega) kk
  · exact Ex.call1 kX1_234_3 (x5_doesRise (d := d + 1) hF) rfl rfl rfl ⟨rfl, _, _, rfl⟩ hs (by omega) (by omega) (by omega) kk
  · exact Ex.call1 kX1_234_4 (x6_doesRise (d := d) hF hm) rfl rfl rfl ⟨rfl, _, _, rfl⟩ hs (by omega) (by omega) (by omega) kk
  · exact Ex.call1 kX1_234_5 (x7_doesRise (d := d) hF hm) rfl rfl rfl ⟨rfl, _, _, rfl⟩ hs (by omega) (by omega) (by omega) kk
theorem x9_joins {γ : tbG} {d c m : Nat} {o : Int32} {s : tbS} (hF : tb_Fix (tb_T []) s) (hc : tb_role c = (1, 0, 22)) (hm : m < 8) (hk : tbK5 (s.1 47 0 m)) (ho : 0 ≤ o.toInt ∧ o.toInt ≤ 100) :
    MX γ d 0 0 mX9_joins [rR 42 0, rR c 0, .inl (nI m), .inl o] s (ans (.inl (tbJ (s.1 47 0 m) (s.1 45 0 m) (s.1 46 0 m) (s.1 c 0 m) (s.1 c 0 17) o)) s) := by
  have eo : s.1 46 0 m ≤ o - 1 ↔ s.1 46 0 m < o := by
    have f := tb_sub_i (a := o) (b := 1) (by rw [show (1 : Int32).toInt = 1 from rfl]; omega) (by rw [show (1 : Int32).toInt = 1 from rfl]; omega)
    rw [Int32.le_iff_toInt_le, Int32.lt_iff_toInt_lt, f, show (1 : Int32).toInt = 1 from rfl]
    omega
  have pa : ∀ g t : Int32, (if g < t then (0 : Int32) else 1) = 0 ↔ ¬ t ≤ g := by
    intro g t
    by_cases h : g < t
    · rw [if_pos h]
      exact ⟨fun _ => tb_i32le.mpr h, fun _ => rfl⟩
    · rw [if_neg h]
      exact ⟨fun q => absurd q (by decide), fun q => absurd (tb_i32lt.mp h) q⟩
  have pe : (if ¬ (if s.1 c 0 m < 5 * s.1 45 0 m then (0 : Int32) else 1) = 0 then (1 : Int32) else if s.1 46 0 m ≤ 0 then 0 else if o < s.1 46 0 m then 0 else 1) = tbPl (s.1 45 0 m) (s.1 46 0 m) (s.1 c 0 m) o := by
    unfold tbPl
    simp only [pa, Decidable.not_not]
    by_cases e1 : 5 * s.1 45 0 m ≤ s.1 c 0 m
    · rw [if_pos e1, if_pos (Or.inl e1)]
    · rw [if_neg e1]
      by_cases e2 : s.1 46 0 m ≤ 0
      · rw [if_pos e2, if_neg (fun q => q.elim e1 (fun q => tb_i32le.mpr q.1 e2))]
      · rw [if_neg e2]
        by_cases e3 : o < s.1 46 0 m
        · rw [if_pos e3, if_neg (fun q => q.elim e1 (fun q => tb_i32le.mpr e3 q.2))]
        · rw [if_neg e3, if_pos (Or.inr ⟨tb_i32le.mp e2, tb_i32lt.mp e3⟩)]
  have hp := tbPl_01 (s.1 45 0 m) (s.1 46 0 m) (s.1 c 0 m) o
  refine MX.intro (by decide +kernel) rfl oX9_joins (Nat.le_of_ble_eq_true rfl) (Nat.le_of_ble_eq_true rfl) rfl ?_
  refine Ex.run 2 hF rfl ?_
  refine tb_ialdN (j := m) (hc) (rfl) (by omega) ?_
  refine Ex.run 4 hF rfl ?_
  refine tb_ialdN (j := m) (rfl) (rfl) (hm) ?_
  refine Ex.run 1 hF rfl ?_
  refine tb_icmp_lt_J 2 (0) (1) (fun K11 => ?_) (fun K11 => ?_) ?_
  · skip
    refine Ex.run 1 hF rfl ?_
    refine tb_jmp ?_
    exact K11
  · skip
    refine Ex.run 1 hF rfl ?_
    refine tb_goto ?_
    exact K11
  refine Ex.run 2 hF rfl ?_
  refine tb_if_ne_J 5 (1) (if s.1 46 0 m ≤ 0 then 0 else if o < s.1 46 0 m then 0 else 1) (fun K23 => ?_) (fun K23 => ?_) ?_
  · skip
    refine Ex.run 1 hF rfl ?_
    refine tb_goto ?_
    exact K23
  · skip
    refine Ex.run 3 hF rfl ?_
    refine tb_ialdN (j := m) (rfl) (rfl) (hm) ?_
    refine tb_if_le_J 5 (0) (if o < s.1 46 0 m then 0 else 1) (fun K32 => ?_) (fun K32 => ?_) ?_
    · skip
      refine Ex.run 1 hF rfl ?_
      refine tb_jmp ?_
      exact K32
    · skip
      refine Ex.run 4 hF rfl ?_
      refine tb_ialdN (j := m) (rfl) (rfl) (hm) ?_
      refine tb_icmp_lt_J 5 (0) (1) (fun K42 => ?_) (fun K42 => ?_) ?_
      · skip
        refine Ex.run 1 hF rfl ?_
        refine tb_jmp ?_
        exact K42
      · skip
        refine tb_jmp ?_
        refine Ex.run 1 hF rfl ?_
        refine tb_goto ?_
        exact K42
      exact K32
    exact K23
  rw [pe]
  refine Ex.run 4 hF rfl ?_
  refine tb_ialdN (j := m) (rfl) (rfl) (hm) ?_
  rcases hk with e58 | e58 | e58 | e58 | e58
  · skip
    rw [e58]
    refine tb_switch ?_
    rw [show tb_swt 18 0 [6, 7, 18, 10, 14] (0 : Int32) = 6 from by decide]
    refine Ex.run 1 hF rfl ?_
    exact tb_ireturn rfl (tb_narB (hp)) (by omega) (by omega) (⟨rfl, rfl⟩)
  · skip
    rw [e58]
    refine tb_switch ?_
    rw [show tb_swt 18 0 [6, 7, 18, 10, 14] (1 : Int32) = 7 from by decide]
    refine Ex.run 3 hF rfl ?_
    refine tb_ialdN (j := m) (rfl) (rfl) (hm) ?_
    refine tb_if_le (fun h101 => ?_) (fun h101 => ?_)
    · skip
      refine Ex.run 1 hF rfl ?_
      refine tb_jmp ?_
      refine tb_ireturn rfl rfl (by omega) (by omega) (?_)
      show ans (.inl (tbDraw (s.1 46 0 m) o)) s _ s
      unfold tbDraw
      by_cases e1 : 0 < s.1 46 0 m
      · by_cases e2 : s.1 46 0 m ≤ o
        · rw [if_pos ⟨e1, e2⟩]
          first | exact ⟨rfl, rfl⟩ | exact absurd e2 (tb_i32le.mpr h111) | exact absurd h101 (tb_i32le.mpr e1)
        · rw [if_neg (fun q => e2 q.2)]
          first | exact ⟨rfl, rfl⟩ | exact absurd (tb_i32lt.mp h111) e2 | exact absurd h101 (tb_i32le.mpr e1)
      · rw [if_neg (fun q => e1 q.1)]
        first | exact ⟨rfl, rfl⟩ | exact absurd (tb_i32le.mp h101) e1
    · skip
      refine Ex.run 4 hF rfl ?_
      refine tb_ialdN (j := m) (rfl) (rfl) (hm) ?_
      refine tb_icmp_lt (fun h111 => ?_) (fun h111 => ?_)
      · skip
        refine Ex.run 1 hF rfl ?_
        refine tb_jmp ?_
        refine tb_ireturn rfl rfl (by omega) (by omega) (?_)
        show ans (.inl (tbDraw (s.1 46 0 m) o)) s _ s
        unfold tbDraw
        by_cases e1 : 0 < s.1 46 0 m
        · by_cases e2 : s.1 46 0 m ≤ o
          · rw [if_pos ⟨e1, e2⟩]
            first | exact ⟨rfl, rfl⟩ | exact absurd e2 (tb_i32le.mpr h111) | exact absurd h101 (tb_i32le.mpr e1)
          · rw [if_neg (fun q => e2 q.2)]
            first | exact ⟨rfl, rfl⟩ | exact absurd (tb_i32lt.mp h111) e2 | exact absurd h101 (tb_i32le.mpr e1)
        · rw [if_neg (fun q => e1 q.1)]
          first | exact ⟨rfl, rfl⟩ | exact absurd (tb_i32le.mp h101) e1
      · skip
        refine Ex.run 1 hF rfl ?_
        refine tb_goto ?_
        refine tb_ireturn rfl rfl (by omega) (by omega) (?_)
        show ans (.inl (tbDraw (s.1 46 0 m) o)) s _ s
        unfold tbDraw
        by_cases e1 : 0 < s.1 46 0 m
        · by_cases e2 : s.1 46 0 m ≤ o
          · rw [if_pos ⟨e1, e2⟩]
            first | exact ⟨rfl, rfl⟩ | exact absurd e2 (tb_i32le.mpr h111) | exact absurd h101 (tb_i32le.mpr e1)
          · rw [if_neg (fun q => e2 q.2)]
            first | exact ⟨rfl, rfl⟩ | exact absurd (tb_i32lt.mp h111) e2 | exact absurd h101 (tb_i32le.mpr e1)
        · rw [if_neg (fun q => e1 q.1)]
          first | exact ⟨rfl, rfl⟩ | exact absurd (tb_i32le.mp h101) e1
  · skip
    rw [e58]
    refine tb_switch ?_
    rw [show tb_swt 18 0 [6, 7, 18, 10, 14] (2 : Int32) = 18 from by decide]
    refine Ex.run 1 hF rfl ?_
    exact tb_ireturn rfl rfl (by omega) (by omega) (⟨rfl, rfl⟩)
  · skip
    rw [e58]
    refine tb_switch ?_
    rw [show tb_swt 18 0 [6, 7, 18, 10, 14] (3 : Int32) = 10 from by decide]
    refine Ex.run 1 hF rfl ?_
    refine tb_if_ne (fun h122 => ?_) (fun h122 => ?_)
    · skip
      refine Ex.run 1 hF rfl ?_
      refine tb_goto ?_
      refine tb_ireturn rfl rfl (by omega) (by omega) (?_)
      show ans (.inl (tbPl (s.1 45 0 m) (s.1 46 0 m) (s.1 c 0 m) (o - 1))) s _ s
      unfold tbPl
      rw [pa] at h122
      simp only [eo]
      by_cases e : 5 * s.1 45 0 m ≤ s.1 c 0 m ∨ (0 < s.1 46 0 m ∧ s.1 46 0 m < o)
      · rw [if_pos e]
        first | exact ⟨rfl, rfl⟩ | exact absurd e (fun q => q.elim h122 (fun q => tb_i32le.mpr q.1 h131)) | exact absurd e (fun q => q.elim h122 (fun q => tb_i32le.mpr q.2 h141))
      · rw [if_neg e]
        first | exact ⟨rfl, rfl⟩ | exact absurd (Or.inl (Decidable.not_not.mp h122)) e | exact absurd (Or.inr ⟨tb_i32le.mp h131, tb_i32le.mp h141⟩) e
    · skip
      refine Ex.run 3 hF rfl ?_
      refine tb_ialdN (j := m) (rfl) (rfl) (hm) ?_
      refine tb_if_le (fun h131 => ?_) (fun h131 => ?_)
      · skip
        refine Ex.run 1 hF rfl ?_
        refine tb_jmp ?_
        refine tb_ireturn rfl rfl (by omega) (by omega) (?_)
        show ans (.inl (tbPl (s.1 45 0 m) (s.1 46 0 m) (s.1 c 0 m) (o - 1))) s _ s
        unfold tbPl
        rw [pa] at h122
        simp only [eo]
        by_cases e : 5 * s.1 45 0 m ≤ s.1 c 0 m ∨ (0 < s.1 46 0 m ∧ s.1 46 0 m < o)
        · rw [if_pos e]
          first | exact ⟨rfl, rfl⟩ | exact absurd e (fun q => q.elim h122 (fun q => tb_i32le.mpr q.1 h131)) | exact absurd e (fun q => q.elim h122 (fun q => tb_i32le.mpr q.2 h141))
        · rw [if_neg e]
          first | exact ⟨rfl, rfl⟩ | exact absurd (Or.inl (Decidable.not_not.mp h122)) e | exact absurd (Or.inr ⟨tb_i32le.mp h131, tb_i32le.mp h141⟩) e
      · skip
        refine Ex.run 4 hF rfl ?_
        refine tb_ialdN (j := m) (rfl) (rfl) (hm) ?_
        refine tb_icmp_le (fun h141 => ?_) (fun h141 => ?_)
        · skip
          refine Ex.run 1 hF rfl ?_
          refine tb_jmp ?_
          refine tb_ireturn rfl rfl (by omega) (by omega) (?_)
          show ans (.inl (tbPl (s.1 45 0 m) (s.1 46 0 m) (s.1 c 0 m) (o - 1))) s _ s
          unfold tbPl
          rw [pa] at h122
          simp only [eo]
          by_cases e : 5 * s.1 45 0 m ≤ s.1 c 0 m ∨ (0 < s.1 46 0 m ∧ s.1 46 0 m < o)
          · rw [if_pos e]
            first | exact ⟨rfl, rfl⟩ | exact absurd e (fun q => q.elim h122 (fun q => tb_i32le.mpr q.1 h131)) | exact absurd e (fun q => q.elim h122 (fun q => tb_i32le.mpr q.2 h141))
          · rw [if_neg e]
            first | exact ⟨rfl, rfl⟩ | exact absurd (Or.inl (Decidable.not_not.mp h122)) e | exact absurd (Or.inr ⟨tb_i32le.mp h131, tb_i32le.mp h141⟩) e
        · skip
          refine tb_jmp ?_
          refine Ex.run 1 hF rfl ?_
          refine tb_goto ?_
          refine tb_ireturn rfl rfl (by omega) (by omega) (?_)
          show ans (.inl (tbPl (s.1 45 0 m) (s.1 46 0 m) (s.1 c 0 m) (o - 1))) s _ s
          unfold tbPl
          rw [pa] at h122
          simp only [eo]
          by_cases e : 5 * s.1 45 0 m ≤ s.1 c 0 m ∨ (0 < s.1 46 0 m ∧ s.1 46 0 m < o)
          · rw [if_pos e]
            first | exact ⟨rfl, rfl⟩ | exact absurd e (fun q => q.elim h122 (fun q => tb_i32le.mpr q.1 h131)) | exact absurd e (fun q => q.elim h122 (fun q => tb_i32le.mpr q.2 h141))
          · rw [if_neg e]
            first | exact ⟨rfl, rfl⟩ | exact absurd (Or.inl (Decidable.not_not.mp h122)) e | exact absurd (Or.inr ⟨tb_i32le.mp h131, tb_i32le.mp h141⟩) e
  · skip
    rw [e58]
    refine tb_switch ?_
    rw [show tb_swt 18 0 [6, 7, 18, 10, 14] (4 : Int32) = 14 from by decide]
    refine Ex.run 1 hF rfl ?_
    refine tb_if_ne (fun h152 => ?_) (fun h152 => ?_)
    · skip
      refine Ex.run 1 hF rfl ?_
      refine tb_goto ?_
      refine tb_ireturn rfl rfl (by omega) (by omega) (?_)
      show ans (.inl (if s.1 c 0 17 < 10 then 1 else tbPl (s.1 45 0 m) (s.1 46 0 m) (s.1 c 0 m) o)) s _ s
      by_cases e : s.1 c 0 17 < 10
      · rw [if_pos e]
        first | exact ⟨rfl, rfl⟩ | exact absurd e (tb_i32lt.mpr h161)
      · rw [if_neg e]
        first | (rw [h152]; exact ⟨rfl, rfl⟩) | (rw [hp.resolve_left h152]; exact ⟨rfl, rfl⟩) | exact absurd (tb_i32lt.mp e) h161
    · skip
      refine Ex.run 2 hF rfl ?_
      refine tb_ialdN (j := 17) (hc) (by decide) (by decide) ?_
      refine Ex.run 1 hF rfl ?_
      refine tb_icmp_ge (fun h161 => ?_) (fun h161 => ?_)
      · skip
        refine Ex.run 1 hF rfl ?_
        refine tb_jmp ?_
        refine tb_ireturn rfl rfl (by omega) (by omega) (?_)
        show ans (.inl (if s.1 c 0 17 < 10 then 1 else tbPl (s.1 45 0 m) (s.1 46 0 m) (s.1 c 0 m) o)) s _ s
        by_cases e : s.1 c 0 17 < 10
        · rw [if_pos e]
          first | exact ⟨rfl, rfl⟩ | exact absurd e (tb_i32lt.mpr h161)
        · rw [if_neg e]
          first | (rw [h152]; exact ⟨rfl, rfl⟩) | (rw [hp.resolve_left h152]; exact ⟨rfl, rfl⟩) | exact absurd (tb_i32lt.mp e) h161
      · skip
        refine tb_jmp ?_
        refine Ex.run 1 hF rfl ?_
        refine tb_goto ?_
        refine tb_ireturn rfl rfl (by omega) (by omega) (?_)
        show ans (.inl (if s.1 c 0 17 < 10 then 1 else tbPl (s.1 45 0 m) (s.1 46 0 m) (s.1 c 0 m) o)) s _ s
        by_cases e : s.1 c 0 17 < 10
        · rw [if_pos e]
          first | exact ⟨rfl, rfl⟩ | exact absurd e (tb_i32lt.mpr h161)
        · rw [if_neg e]
          first | (rw [h152]; exact ⟨rfl, rfl⟩) | (rw [hp.resolve_left h152]; exact ⟨rfl, rfl⟩) | exact absurd (tb_i32lt.mp e) h161
