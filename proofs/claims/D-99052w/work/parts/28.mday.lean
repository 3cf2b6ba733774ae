/-! A DAY, m's side -/
set_option maxRecDepth 100000
section TBN
variable {γ : tbG} {y : tbM} {d mc ms : Nat} {Q : tbO → tbS → Prop} {nc ns pc a b : Nat} {cs : List tbI} {ls : tbL} {st : List tbV} {s : tbS} {l : List Nat} {v : tbV}
theorem tb_ialdN {c k N j : Nat} {i : Int32} (hr : tb_role c = (1, 0, N + 1)) (hi : i = nI j) (hj : j < N) (kk : Ex γ y d mc ms Q nc ns cs ls (.inl (s.1 c k j) :: st) s) (hN : N < 2 ^ 31 := by decide) : Ex γ y d mc ms Q nc ns ((pc, .iaload, a, b, l, v) :: cs) ls (.inl i :: .inr (.inr (some (c, k))) :: st) s := by
  have hl : tb_len s c k = N := by
    unfold tb_len
    rw [hr]
  subst hi
  refine tb_iald hr (by rw [hl]; exact vp_in_nI hj hN) ?_
  rw [nI_clamp (by omega)]
  exact kk
theorem tb_baldN {c k N j : Nat} {i : Int32} (hr : tb_role c = (1, 1, N + 1)) (hi : i = nI j) (hj : j < N) (kk : Ex γ y d mc ms Q nc ns cs ls (.inl (s.1 c k j) :: st) s) (hN : N < 2 ^ 31 := by decide) : Ex γ y d mc ms Q nc ns ((pc, .baload, a, b, l, v) :: cs) ls (.inl i :: .inr (.inr (some (c, k))) :: st) s := by
  have hl : tb_len s c k = N := by
    unfold tb_len
    rw [hr]
  subst hi
  refine tb_bald hr (by rw [hl]; exact vp_in_nI hj hN) ?_
  rw [nI_clamp (by omega)]
  exact kk
theorem tb_zaldN {c k N j : Nat} {i : Int32} (hr : tb_role c = (1, 5, N + 1)) (hi : i = nI j) (hj : j < N) (kk : Ex γ y d mc ms Q nc ns cs ls (.inl (s.1 c k j) :: st) s) (hN : N < 2 ^ 31 := by decide) : Ex γ y d mc ms Q nc ns ((pc, .baload, a, b, l, v) :: cs) ls (.inl i :: .inr (.inr (some (c, k))) :: st) s := by
  have hl : tb_len s c k = N := by
    unfold tb_len
    rw [hr]
  subst hi
  refine tb_zald hr (by rw [hl]; exact vp_in_nI hj hN) ?_
  rw [nI_clamp (by omega)]
  exact kk
theorem tb_caldN {c k N j : Nat} {i : Int32} (hr : tb_role c = (1, 4, N + 1)) (hi : i = nI j) (hj : j < N) (kk : Ex γ y d mc ms Q nc ns cs ls (.inl (s.1 c k j) :: st) s) (hN : N < 2 ^ 31 := by decide) : Ex γ y d mc ms Q nc ns ((pc, .caload, a, b, l, v) :: cs) ls (.inl i :: .inr (.inr (some (c, k))) :: st) s := by
  have hl : tb_len s c k = N := by
    unfold tb_len
    rw [hr]
  subst hi
  refine tb_cald hr (by rw [hl]; exact vp_in_nI hj hN) ?_
  rw [nI_clamp (by omega)]
  exact kk
theorem tb_laldN {c k N j : Nat} {i : Int32} (hr : tb_role c = (1, 2, N + 1)) (hi : i = nI j) (hj : j < N) (kk : Ex γ y d mc ms Q nc ns cs ls (.inr (.inl (s.2.1 c k j)) :: st) s) (hN : N < 2 ^ 31 := by decide) : Ex γ y d mc ms Q nc ns ((pc, .laload, a, b, l, v) :: cs) ls (.inl i :: .inr (.inr (some (c, k))) :: st) s := by
  have hl : tb_len s c k = N := by
    unfold tb_len
    rw [hr]
  subst hi
  refine tb_lald hr (by rw [hl]; exact vp_in_nI hj hN) ?_
  rw [nI_clamp (by omega)]
  exact kk
theorem tb_iastN {c k N j : Nat} {i : Int32} {x : Int32} (hr : tb_role c = (1, 0, N + 1)) (hi : i = nI j) (hj : j < N) (kk : Ex γ y d mc ms Q nc ns cs ls st (tb_sI s c k j x)) (hN : N < 2 ^ 31 := by decide) : Ex γ y d mc ms Q nc ns ((pc, .iastore, a, b, l, v) :: cs) ls (.inl x :: .inl i :: .inr (.inr (some (c, k))) :: st) s := by
  have hl : tb_len s c k = N := by
    unfold tb_len
    rw [hr]
  subst hi
  refine tb_iast hr (by rw [hl]; exact vp_in_nI hj hN) ?_
  rw [nI_clamp (by omega)]
  exact kk
theorem tb_bastN {c k N j : Nat} {i : Int32} {x : Int32} (hr : tb_role c = (1, 1, N + 1)) (hi : i = nI j) (hj : j < N) (kk : Ex γ y d mc ms Q nc ns cs ls st (tb_sI s c k j (vp_nar .byte x))) (hN : N < 2 ^ 31 := by decide) : Ex γ y d mc ms Q nc ns ((pc, .bastore, a, b, l, v) :: cs) ls (.inl x :: .inl i :: .inr (.inr (some (c, k))) :: st) s := by
  have hl : tb_len s c k = N := by
    unfold tb_len
    rw [hr]
  subst hi
  refine tb_bast hr (by rw [hl]; exact vp_in_nI hj hN) ?_
  rw [nI_clamp (by omega)]
  exact kk
theorem tb_zastN {c k N j : Nat} {i : Int32} {x : Int32} (hr : tb_role c = (1, 5, N + 1)) (hi : i = nI j) (hj : j < N) (kk : Ex γ y d mc ms Q nc ns cs ls st (tb_sI s c k j (vp_nar .boolean x))) (hN : N < 2 ^ 31 := by decide) : Ex γ y d mc ms Q nc ns ((pc, .bastore, a, b, l, v) :: cs) ls (.inl x :: .inl i :: .inr (.inr (some (c, k))) :: st) s := by
  have hl : tb_len s c k = N := by
    unfold tb_len
    rw [hr]
  subst hi
  refine tb_zast hr (by rw [hl]; exact vp_in_nI hj hN) ?_
  rw [nI_clamp (by omega)]
  exact kk
theorem tb_castN {c k N j : Nat} {i : Int32} {x : Int32} (hr : tb_role c = (1, 4, N + 1)) (hi : i = nI j) (hj : j < N) (kk : Ex γ y d mc ms Q nc ns cs ls st (tb_sI s c k j (vp_nar .char x))) (hN : N < 2 ^ 31 := by decide) : Ex γ y d mc ms Q nc ns ((pc, .castore, a, b, l, v) :: cs) ls (.inl x :: .inl i :: .inr (.inr (some (c, k))) :: st) s := by
  have hl : tb_len s c k = N := by
    unfold tb_len
    rw [hr]
  subst hi
  refine tb_cast hr (by rw [hl]; exact vp_in_nI hj hN) ?_
  rw [nI_clamp (by omega)]
  exact kk
theorem tb_lastN {c k N j : Nat} {i : Int32} {x : Int64} (hr : tb_role c = (1, 2, N + 1)) (hi : i = nI j) (hj : j < N) (kk : Ex γ y d mc ms Q nc ns cs ls st (tb_sL s c k j x)) (hN : N < 2 ^ 31 := by decide) : Ex γ y d mc ms Q nc ns ((pc, .lastore, a, b, l, v) :: cs) ls (.inr (.inl x) :: .inl i :: .inr (.inr (some (c, k))) :: st) s := by
  have hl : tb_len s c k = N := by
    unfold tb_len
    rw [hr]
  subst hi
  refine tb_last hr (by rw [hl]; exact vp_in_nI hj hN) ?_
  rw [nI_clamp (by omega)]
  exact kk
end TBN
theorem x9_those_loop {γ : tbG} {d c n : Nat} {what : Int32} {s : tbS} {Q : tbO → tbS → Prop} (hF : tb_Fix (tb_T []) s) (hc : tb_role c = (1, 0, 22)) (hm : s.1 42 0 3 = nI n) (hn : n ≤ 8) (hQ : Q (.inl (some (.inl (rThose n (s.1 c 0) what)))) s) :
    ∀ r j, j + r = n → Ex γ mX9_those d 0 0 Q 0 0 (cod mX9_those 1) [some (rR 42 0), some (rR c 0), some (.inl what), some (.inl (rThose j (s.1 c 0) what)), some (.inl (nI j))] [] s := by
  have hl : tb_len s c 0 = 21 := by
    unfold tb_len
    rw [hc]
  intro r
  induction r with
  | zero =>
    intro j hj
    obtain rfl : j = n := by omega
    refine Ex.run 3 hF rfl ?_
    rw [hm]
    refine tb_icmp_ge (fun h11 => ?_) (fun h11 => absurd (Int32.le_refl _) h11 )
    refine Ex.run 1 hF rfl ?_
    exact tb_ireturn rfl rfl (by omega) (by omega) (hQ)
  | succ r ih =>
    intro j hj
    have ih := ih (j + 1) (by omega)
    have e1 : rThose (j + 1) (s.1 c 0) what = rThose j (s.1 c 0) what ||| (if s.1 c 0 (8 + j) = what then 1 <<< (nI j &&& 31) else 0) := rfl
    have ea : (8 : Int32) + nI j = nI (8 + j) := nI_add 8 j
    refine Ex.run 3 hF rfl ?_
    rw [hm]
    refine tb_icmp_ge (fun h11 => absurd h11 (nI_ge (by omega) (by omega)) ) (fun h11 => ?_)
    refine Ex.run 5 hF rfl ?_
    refine tb_ialdN (j := 8 + j) (hc) (ea) (by omega) ?_
    refine Ex.run 1 hF rfl ?_
    refine tb_icmp_ne (fun h23 => ?_) (fun h23 => ?_)
    · skip
      refine Ex.run 1 hF rfl ?_
      refine tb_jmp ?_
      refine Ex.run 3 hF rfl ?_
      refine tb_goto ?_
      first | rw [if_neg h23] at e1 | rw [if_pos h23] at e1
      rw [← e1, nI_1]
      exact ih
    · skip
      refine Ex.run 3 hF rfl ?_
      refine tb_goto ?_
      refine Ex.run 3 hF rfl ?_
      refine tb_goto ?_
      first | rw [if_neg h23] at e1 | rw [if_pos h23] at e1
      rw [← e1, nI_1]
      exact ih
theorem x9_those {γ : tbG} {d c n : Nat} {what : Int32} {s : tbS} (hF : tb_Fix (tb_T []) s) (hc : tb_role c = (1, 0, 22)) (hm : s.1 42 0 3 = nI n) (hn : n ≤ 8) : MX γ d 0 0 mX9_those [rR 42 0, rR c 0, .inl what] s (ans (.inl (rThose n (s.1 c 0) what)) s) := by
  refine MX.intro (by decide +kernel) rfl oX9_those (Nat.le_of_ble_eq_true rfl) (Nat.le_of_ble_eq_true rfl) rfl ?_
  refine Ex.run 4 hF rfl ?_
  refine tb_jmp ?_
  exact x9_those_loop hF hc hm hn ⟨rfl, rfl⟩ n 0 (by omega)
theorem x9_canGive {γ : tbG} {d c n : Nat} {s : tbS} (hF : tb_Fix (tb_T []) s) (hc : tb_role c = (1, 0, 22)) (hm : s.1 42 0 3 = nI n) (hn : n ≤ 8) : MX γ (d + 1) 0 0 mX9_canGive [rR 42 0, rR c 0] s (ans (.inl (if rNeed n (s.1 c 0) ≤ s.1 c 0 16 then 1 else 0)) s) := by
  refine MX.intro (by decide +kernel) rfl oX9_canGive (Nat.le_of_ble_eq_true rfl) (Nat.le_of_ble_eq_true rfl) rfl ?_
  refine Ex.run 2 hF rfl ?_
  refine tb_ialdN (j := 16) (hc) (by decide) (by decide) ?_
  refine Ex.run 2 hF rfl ?_
  refine tb_ialdN (j := 18) (hc) (by decide) (by decide) ?_
  refine Ex.run 3 hF rfl ?_
  refine Ex.call1 kX9_253_7 (x9_those (d := d) hF hc hm hn) rfl rfl rfl ⟨rfl, _, _, rfl⟩ (Nat.le_of_ble_eq_true rfl) (by omega) (by omega) (by omega) ?_
  refine Ex.call1 kX9_261 (j_bits (d := d) hF) rfl rfl rfl trivial (Nat.le_of_ble_eq_true rfl) (by omega) (by omega) (by omega) ?_
  refine Ex.run 3 hF rfl ?_
  refine tb_ialdN (j := 19) (hc) (by decide) (by decide) ?_
  refine Ex.run 2 hF rfl ?_
  refine tb_ialdN (j := 17) (hc) (by decide) (by decide) ?_
  refine Ex.run 2 hF rfl ?_
  refine tb_icmp_lt (fun h28 => ?_) (fun h28 => ?_)
  · skip
    refine Ex.run 1 hF rfl ?_
    refine tb_jmp ?_
    refine tb_ireturn rfl rfl (by omega) (by omega) (?_)
    by_cases e : rNeed n (s.1 c 0) ≤ s.1 c 0 16
    · rw [if_pos e]
      first | exact ⟨rfl, rfl⟩ | exact absurd h28 (tb_i32lt.mpr e)
    · rw [if_neg e]
      first | exact ⟨rfl, rfl⟩ | exact absurd (tb_i32le.mp e) h28
  · skip
    refine Ex.run 1 hF rfl ?_
    refine tb_goto ?_
    refine tb_ireturn rfl rfl (by omega) (by omega) (?_)
    by_cases e : rNeed n (s.1 c 0) ≤ s.1 c 0 16
    · rw [if_pos e]
      first | exact ⟨rfl, rfl⟩ | exact absurd h28 (tb_i32lt.mpr e)
    · rw [if_neg e]
      first | exact ⟨rfl, rfl⟩ | exact absurd (tb_i32le.mp e) h28
/-- nothing of m's ints changed but roles of a list -/
def mK (s s' : tbS) (l : List Nat) : Prop := s'.2 = s.2 ∧ ∀ c, c ∉ l → s'.1 c = s.1 c
theorem mU.k {s s' : tbS} {c : Nat} {r : Nat → Int32} (h : mU s s' c r) : mK s s' [c, 58, 59] := ⟨h.1, fun c' hc => h.2.1 c' (fun e => hc (by rw [e]; simp)) (fun e => hc (by rw [e]; simp)) (fun e => hc (by rw [e]; simp))⟩
/-- what m's rule comes to -/
def mRu (γ : tbG) (D : Nat) (ru : tbRu) (s : tbS) : Prop := ∀ s', s'.2 = s.2 → s'.1 42 = s.1 42 → s'.1 56 = s.1 56 → ∀ d, D ≤ d →
  MX γ d 0 0 mX9_ruled [rR 42 0] s' (fun o s2 => o = .inl (some (.inl (ru (s'.1 59 0 0) (s'.1 59 0 1) (s'.1 59 0 2) (s'.1 59 0 3) (s'.1 59 0 4)))) ∧ s2.2 = s'.2 ∧ ∀ c, c ≠ 58 → s2.1 c = s'.1 c)
/-- m's weather -/
def mSky (s : tbS) (L : Nat) (sk : Nat → Int32) : Prop := s.1 42 0 6 = nI L ∧ 0 < L ∧ L ≤ 20 ∧ ∀ j, j < L → s.1 44 0 j = sk j
theorem mU.pc {s s' : tbS} {c j : Nat} {r : Nat → Int32} {x : Int32} (h : mU s s' c r) : mU s (tb_sI s' c 0 j x) c (upd r j x) := by
  have h2 := mU_sI (s := s') (c := c) (j := j) (x := x)
  rw [h.at] at h2
  exact h.tr h2
theorem mU.p59 {s s' : tbS} {c j : Nat} {r : Nat → Int32} {x : Int32} (h : mU s s' c r) (hc : c ≠ 59) : mU s (tb_sI s' 59 0 j x) c r := by
  refine ⟨h.1, fun c' h1 h2 h3 => ?_, ?_⟩
  · rw [tb_sI_ne h3]
    exact h.2.1 c' h1 h2 h3
  · rw [tb_sI_ne hc]
    exact h.2.2
theorem mU.p58 {s s' s2 : tbS} {c : Nat} {r : Nat → Int32} (h : mU s s' c r) (hc : c ≠ 58) (h1 : s2.2 = s'.2) (h2 : ∀ c, c ≠ 58 → s2.1 c = s'.1 c) : mU s s2 c r :=
  ⟨h1.trans h.1, fun c' a1 a2 a3 => (h2 c' a2).trans (h.2.1 c' a1 a2 a3), (congrFun (h2 c hc) 0).trans h.2.2⟩
theorem mU.eqR {s s' : tbS} {k : Nat} {r r' : Nat → Int32} (h : mU s s' k r) (e : r = r') : mU s s' k r' := by
  rw [← e]
  exact h
theorem upd_self {f : Nat → Int32} {j : Nat} : upd f j (f j) = f := by
  funext i
  rw [tb_upd]
  split
  · rename_i h
    rw [h]
  · rfl
theorem tb_ang1 {g had : Int32} (h1 : 0 ≤ g.toInt ∧ g.toInt ≤ 99) (h2 : 3 ≤ had) (h3 : had.toInt ≤ 9) : tbC (g + tbMax 0 (3 - had)) = g := by
  have h2 := Int32.le_iff_toInt_le.mp h2
  have e3 : (3 : Int32).toInt = 3 := rfl
  have e0 : (0 : Int32).toInt = 0 := rfl
  have f1 := tb_sub_i (a := 3) (b := had) (by omega) (by omega)
  have f2 : (tbMax 0 (3 - had)).toInt = 0 := by
    rw [tbMax_i, f1, e0, e3]
    split <;> omega
  have f3 := tb_add_i (a := g) (b := tbMax 0 (3 - had)) (by omega) (by omega)
  refine tb_i_inj ?_
  rw [tbC_i, f3, f2]
  split
  · omega
  · split <;> omega
theorem tb_ang2 {g had : Int32} (h1 : 0 ≤ g.toInt ∧ g.toInt ≤ 99) (h2 : ¬ 3 ≤ had) (h3 : 0 ≤ had.toInt) : tbC (g + tbMax 0 (3 - had)) = tbMin 99 (g + 3 - had) := by
  have h2 : ¬ _ ≤ _ := fun q => h2 (Int32.le_iff_toInt_le.mpr q)
  have e3 : (3 : Int32).toInt = 3 := rfl
  have e0 : (0 : Int32).toInt = 0 := rfl
  have e9 : (99 : Int32).toInt = 99 := rfl
  have f1 := tb_sub_i (a := 3) (b := had) (by omega) (by omega)
  have f2 : (tbMax 0 (3 - had)).toInt = 3 - had.toInt := by
    rw [tbMax_i, f1, e0, e3]
    split <;> omega
  have f3 := tb_add_i (a := g) (b := tbMax 0 (3 - had)) (by omega) (by omega)
  have f4 := tb_add_i (a := g) (b := 3) (by omega) (by omega)
  have f5 := tb_sub_i (a := g + 3) (b := had) (by omega) (by omega)
  refine tb_i_inj ?_
  rw [tbC_i, tbMin_i, f5, f4, f3, f2, e9, e3]
  split
  · omega
  · split <;> split <;> omega
theorem x9_dayGoes_loop {γ : tbG} {d c n D : Nat} {is had sky : Int32} {t : tbS} {Q : tbO → tbS → Prop} (hF : tb_Fix (tb_T []) t) (hc : tb_role c = (1, 0, 22)) (h42 : 42 ≠ c) (h58 : c ≠ 58) (h59 : c ≠ 59) (hm : t.1 42 0 3 = nI n) (hn : n ≤ 8) (hb : rB D (t.1 c 0)) (h1 : 0 ≤ had.toInt) (h9 : had.toInt ≤ 9)
    (K : ∀ t' x6, mU t t' c (rAng had n (t.1 c 0)) → Ex γ mX9_dayGoes (d + 2) 0 0 Q 0 0 (cod mX9_dayGoes 16) [some (rR 42 0), some (rR c 0), some (.inl is), some (.inl had), some (.inl sky), some (.inl (nI n)), x6] [] t') :
    ∀ r j t' x6, j + r = n → mU t t' c (rAng had j (t.1 c 0)) → Ex γ mX9_dayGoes (d + 2) 0 0 Q 0 0 (cod mX9_dayGoes 11) [some (rR 42 0), some (rR c 0), some (.inl is), some (.inl had), some (.inl sky), some (.inl (nI j)), x6] [] t' := by
  intro r
  induction r with
  | zero =>
    intro j t' x6 hj hU
    obtain rfl : j = n := by omega
    have F' := hU.fix hF
    have hm' : t'.1 42 0 3 = nI j := (congrFun (congrFun (hU.I h42) 0) 3).trans hm
    refine Ex.run 3 F' rfl ?_
    rw [hm']
    refine tb_icmp_ge (fun h186 => ?_) (fun h186 => absurd (Int32.le_refl _) h186 )
    exact K t' x6 hU
  | succ r ih =>
    intro j t' x6 hj hU
    have F' := hU.fix hF
    have hm' : t'.1 42 0 3 = nI n := (congrFun (congrFun (hU.I h42) 0) 3).trans hm
    have ea : (8 : Int32) + nI j = nI (8 + j) := nI_add 8 j
    have hq : ∀ i, t'.1 c 0 i = rAng had j (t.1 c 0) i := fun i => congrFun hU.at i
    have hb' := (hb.ang (had := had) (n := j) (by omega)).1 j (by omega)
    have e1 : rAng had (j + 1) (t.1 c 0) = if rAng had j (t.1 c 0) (8 + j) = 0 then upd (rAng had j (t.1 c 0)) j (tbC (rAng had j (t.1 c 0) j + tbMax 0 (3 - had))) else rAng had j (t.1 c 0) := rfl
    have ef : upd (rAng had j (t.1 c 0)) j (if (if ¬ rAng had j (t.1 c 0) (8 + j) = 0 then (0 : Int32) else if 3 ≤ had then 0 else 1) = 0 then rAng had j (t.1 c 0) j else tbMin 99 (rAng had j (t.1 c 0) j + 3 - had)) = rAng had (j + 1) (t.1 c 0) := by
      rw [e1]
      by_cases w : rAng had j (t.1 c 0) (8 + j) = 0
      · rw [if_pos w, if_neg (show ¬ ¬ rAng had j (t.1 c 0) (8 + j) = 0 from fun q => q w)]
        by_cases g : 3 ≤ had
        · rw [if_pos g, if_pos rfl, tb_ang1 hb' g h9]
        · rw [if_neg g, if_neg (by decide), tb_ang2 hb' g h1]
      · rw [if_neg w, if_pos w, if_pos rfl, upd_self]
    refine Ex.run 3 F' rfl ?_
    rw [hm']
    refine tb_icmp_ge (fun h186 => absurd h186 (nI_ge (by omega) (by omega)) ) (fun h186 => ?_)
    refine Ex.run 4 F' rfl ?_
    refine tb_ialdN (j := 8 + j) (hc) (ea) (by omega) ?_
    rw [hq]
    refine tb_if_ne_J 13 (0) (if 3 ≤ had then 0 else 1) (fun K196 => ?_) (fun K196 => ?_) ?_
    · skip
      refine Ex.run 1 F' rfl ?_
      refine tb_jmp ?_
      exact K196
    · skip
      refine Ex.run 2 F' rfl ?_
      refine tb_icmp_ge_J 13 (0) (1) (fun K201 => ?_) (fun K201 => ?_) ?_
      · skip
        refine Ex.run 1 F' rfl ?_
        refine tb_jmp ?_
        exact K201
      · skip
        refine Ex.run 1 F' rfl ?_
        refine tb_goto ?_
        exact K201
      exact K196
    refine Ex.run 4 F' rfl ?_
    refine tb_if_eq_J 15 (rAng had j (t.1 c 0) j) (tbMin 99 (rAng had j (t.1 c 0) j + 3 - had)) (fun K216 => ?_) (fun K216 => ?_) ?_
    · skip
      refine Ex.run 2 F' rfl ?_
      refine tb_ialdN (j := j) (hc) (rfl) (by omega) ?_
      rw [hq]
      refine tb_jmp ?_
      exact K216
    · skip
      refine Ex.run 3 F' rfl ?_
      refine tb_ialdN (j := j) (hc) (rfl) (by omega) ?_
      rw [hq]
      refine Ex.run 4 F' rfl ?_
      refine tb_min q1414 (Nat.le_of_ble_eq_true rfl) (by omega) (by omega) (by omega) ?_
      refine tb_goto ?_
      exact K216
    refine tb_iastN (j := j) (hc) (rfl) (by omega) ?_
    refine Ex.run 1 F' rfl ?_
    refine tb_goto ?_
    rw [nI_1]
    refine ih (j + 1) _ _ (by omega) ?_
    rw [← ef]
    exact hU.pc
theorem x9_dayGoes_tail {γ : tbG} {d c : Nat} {is x3 x5 sky : Int32} {x6 : Option tbV} {t : tbS} {Q : tbO → tbS → Prop} (hF : tb_Fix (tb_T []) t) (hc : tb_role c = (1, 0, 22)) (his : is = 0 ∨ is = 1)
    (hQ : ∀ s', mU t s' c (upd (if sky = 3 then rFill (t.1 c 0) 20 else t.1 c 0) 20 ((if sky = 3 then rFill (t.1 c 0) 20 else t.1 c 0) 20 + 1)) → Q (.inl (some (.inl is))) s') :
    Ex γ mX9_dayGoes (d + 2) 0 0 Q 0 0 (cod mX9_dayGoes 16) [some (rR 42 0), some (rR c 0), some (.inl is), some (.inl x3), some (.inl sky), some (.inl x5), x6] [] t := by
  have ef : upd (t.1 c 0) 16 (if ¬ sky = 3 then t.1 c 0 16 else tbMin 999 (t.1 c 0 16 + 20)) = if sky = 3 then rFill (t.1 c 0) 20 else t.1 c 0 := by
    by_cases h : sky = 3
    · rw [if_pos h, if_neg (fun q => q h)]
      rfl
    · rw [if_neg h, if_pos h, upd_self]
  refine Ex.run 4 hF rfl ?_
  refine tb_icmp_ne_J 18 (t.1 c 0 16) (tbMin 999 (t.1 c 0 16 + 20)) (fun K252 => ?_) (fun K252 => ?_) ?_
  · skip
    refine Ex.run 2 hF rfl ?_
    refine tb_ialdN (j := 16) (hc) (by decide) (by decide) ?_
    refine tb_jmp ?_
    exact K252
  · skip
    refine Ex.run 3 hF rfl ?_
    refine tb_ialdN (j := 16) (hc) (by decide) (by decide) ?_
    refine Ex.run 2 hF rfl ?_
    refine tb_min q1414 (Nat.le_of_ble_eq_true rfl) (by omega) (by omega) (by omega) ?_
    refine tb_goto ?_
    exact K252
  refine tb_iastN (j := 16) (hc) (by decide) (by decide) ?_
  have q1 := (mU.rf (s := t) (c := c)).pc (j := 16) (x := if ¬ sky = 3 then t.1 c 0 16 else tbMin 999 (t.1 c 0 16 + 20))
  generalize tb_sI t c 0 16 (if ¬ sky = 3 then t.1 c 0 16 else tbMin 999 (t.1 c 0 16 + 20)) = t1 at q1 ⊢
  rw [ef] at q1
  have f1 : tb_Fix (tb_T []) t1 := q1.fix hF
  refine Ex.run 3 f1 rfl ?_
  refine tb_ialdN (j := 20) (hc) (by decide) (by decide) ?_
  rw [congrFun q1.at 20]
  refine Ex.run 2 f1 rfl ?_
  refine tb_iastN (j := 20) (hc) (by decide) (by decide) ?_
  refine Ex.run 1 f1 rfl ?_
  refine tb_ireturn rfl (tb_narB (his)) (by omega) (by omega) (?_)
  refine hQ _ ?_
  have h := q1.pc (j := 20) (x := (if sky = 3 then rFill (t.1 c 0) 20 else t.1 c 0) 20 + 1)
  exact h
theorem tb_nf {P : Prop} [Decidable P] : (if (if ¬ P then (0 : Int32) else 1) = 0 then (0 : Int32) else 1) = if P then 1 else 0 := by
  by_cases h : P
  · rw [if_pos h, if_neg (show ¬ ¬ P from fun q => q h)]
    rfl
  · rw [if_neg h, if_pos h]
    rfl
def mAsk (t : tbS) (a0 a1 a2 a3 a4 : Int32) : tbS := tb_sI (tb_sI (tb_sI (tb_sI (tb_sI t 59 0 0 a0) 59 0 1 a1) 59 0 2 a2) 59 0 3 a3) 59 0 4 a4
theorem mAsk_get {t : tbS} {a0 a1 a2 a3 a4 : Int32} : (mAsk t a0 a1 a2 a3 a4).1 59 0 0 = a0 ∧ (mAsk t a0 a1 a2 a3 a4).1 59 0 1 = a1 ∧ (mAsk t a0 a1 a2 a3 a4).1 59 0 2 = a2 ∧ (mAsk t a0 a1 a2 a3 a4).1 59 0 3 = a3 ∧ (mAsk t a0 a1 a2 a3 a4).1 59 0 4 = a4 := ⟨rfl, rfl, rfl, rfl, rfl⟩
theorem mU.ask {s t : tbS} {c : Nat} {r : Nat → Int32} {a0 a1 a2 a3 a4 : Int32} (h : mU s t c r) (hc : c ≠ 59) : mU s (mAsk t a0 a1 a2 a3 a4) c r := ((((h.p59 hc).p59 hc).p59 hc).p59 hc).p59 hc
theorem x9_dayGoes {γ : tbG} {d D B c n L : Nat} {ru : tbRu} {sk : Nat → Int32} {s : tbS} (hF : tb_Fix (tb_T []) s) (hc : tb_role c = (1, 0, 22)) (h42 : c ≠ 42) (h44 : c ≠ 44) (h56 : c ≠ 56) (h58 : c ≠ 58) (h59 : c ≠ 59) (hm : s.1 42 0 3 = nI n) (hn : n ≤ 8) (hs : mSky s L sk) (hr : mRu γ D ru s) (hd : D + 2 ≤ d) (hb : rB B (s.1 c 0)) (hB : B < 2000000000) :
    MX γ d 0 0 mX9_dayGoes [rR 42 0, rR c 0] s (fun o s' => o = .inl (some (.inl (if rNeed n (s.1 c 0) ≤ s.1 c 0 16 then 1 else 0))) ∧ mU s s' c (rDay n L sk ru (s.1 c 0))) := by
  obtain ⟨d, rfl⟩ : ∃ e, d = e + 2 := ⟨d - 2, by omega⟩
  obtain ⟨s1, s2, s3, s4⟩ := hs
  have hD : ∃ D0, D0 < 2 ^ 31 ∧ s.1 c 0 20 = nI D0 ∧ D0 = (s.1 c 0 20).toNatClampNeg := ⟨_, (nI_cl hb.day0).2, (nI_cl hb.day0).1.symm, rfl⟩
  obtain ⟨D0, g1, g2, g3⟩ := hD
  have hmod : D0 % L < L := Nat.mod_lt _ s2
  have eg : upd (s.1 c 0) 16 (s.1 c 0 16 - if rNeed n (s.1 c 0) ≤ s.1 c 0 16 then s.1 c 0 18 * tb_bits (rThose n (s.1 c 0) 0) + s.1 c 0 19 * s.1 c 0 17 else 0) = rGive n (s.1 c 0) := by
    unfold rGive
    by_cases h : rNeed n (s.1 c 0) ≤ s.1 c 0 16
    · rw [if_pos h, if_pos h]
      rfl
    · rw [if_neg h, if_neg h, Int32.sub_zero, upd_self]
  refine MX.intro (by decide +kernel) rfl oX9_dayGoes (Nat.le_of_ble_eq_true rfl) (Nat.le_of_ble_eq_true rfl) rfl ?_
  refine Ex.run 2 hF rfl ?_
  refine Ex.call1 kX9_300_7 (x9_canGive (d := d) hF hc hm hn) rfl rfl rfl ⟨rfl, _, _, rfl⟩ (Nat.le_of_ble_eq_true rfl) (by omega) (by omega) (by omega) ?_
  refine Ex.run 2 hF rfl ?_
  refine tb_if_eq_J 2 (0) (s.1 c 0 18) (fun K7 => ?_) (fun K7 => ?_) ?_
  · skip
    refine Ex.run 1 hF rfl ?_
    refine tb_jmp ?_
    exact K7
  · skip
    refine Ex.run 2 hF rfl ?_
    refine tb_ialdN (j := 18) (hc) (by decide) (by decide) ?_
    refine tb_goto ?_
    exact K7
  rw [tb_ii]
  refine Ex.run 4 hF rfl ?_
  refine tb_ialdN (j := 16) (hc) (by decide) (by decide) ?_
  refine Ex.run 1 hF rfl ?_
  refine tb_if_eq_J 4 (0) (s.1 c 0 18 * tb_bits (rThose n (s.1 c 0) 0) + s.1 c 0 19 * s.1 c 0 17) (fun K25 => ?_) (fun K25 => ?_) ?_
  · skip
    refine Ex.run 1 hF rfl ?_
    refine tb_jmp ?_
    exact K25
  · skip
    refine Ex.run 2 hF rfl ?_
    refine tb_ialdN (j := 18) (hc) (by decide) (by decide) ?_
    refine Ex.run 3 hF rfl ?_
    refine Ex.call1 kX9_253_7 (x9_those (d := d + 1) hF hc hm hn) rfl rfl rfl ⟨rfl, _, _, rfl⟩ (Nat.le_of_ble_eq_true rfl) (by omega) (by omega) (by omega) ?_
    refine Ex.call1 kX9_261 (j_bits (d := d + 1) hF) rfl rfl rfl trivial (Nat.le_of_ble_eq_true rfl) (by omega) (by omega) (by omega) ?_
    refine Ex.run 3 hF rfl ?_
    refine tb_ialdN (j := 19) (hc) (by decide) (by decide) ?_
    refine Ex.run 2 hF rfl ?_
    refine tb_ialdN (j := 17) (hc) (by decide) (by decide) ?_
    refine Ex.run 2 hF rfl ?_
    refine tb_goto ?_
    exact K25
  rw [tb_ii]
  refine Ex.run 1 hF rfl ?_
  refine tb_iastN (j := 16) (hc) (by decide) (by decide) ?_
  have q1 := (mU.rf (s := s) (c := c)).pc (j := 16) (x := s.1 c 0 16 - if rNeed n (s.1 c 0) ≤ s.1 c 0 16 then s.1 c 0 18 * tb_bits (rThose n (s.1 c 0) 0) + s.1 c 0 19 * s.1 c 0 17 else 0)
  rw [eg] at q1
  generalize tb_sI s c 0 16 (s.1 c 0 16 - if rNeed n (s.1 c 0) ≤ s.1 c 0 16 then s.1 c 0 18 * tb_bits (rThose n (s.1 c 0) 0) + s.1 c 0 19 * s.1 c 0 17 else 0) = t at q1 ⊢
  have f1 : tb_Fix (tb_T []) t := q1.fix hF
  have hq : ∀ i, t.1 c 0 i = rGive n (s.1 c 0) i := fun i => congrFun q1.at i
  have m6 : t.1 42 0 6 = nI L := (congrFun (congrFun (q1.I h42.symm) 0) 6).trans s1
  refine Ex.run 4 f1 rfl ?_
  refine tb_ialdN (j := 20) (hc) (by decide) (by decide) ?_
  rw [hq, rGive_at (by decide), g2]
  refine Ex.run 2 f1 rfl ?_
  rw [m6]
  refine tb_irem (nI_ne0 s2 (by omega)) ?_
  rw [pk_rem g1 s2 (by omega)]
  refine tb_ialdN (j := D0 % L) (rfl) (rfl) (by omega) ?_
  rw [(congrFun (congrFun (q1.I h44.symm) 0) (D0 % L)).trans (s4 _ hmod), show sk (D0 % L) = rSky L sk (s.1 c 0) by unfold rSky; rw [← g3]]
  refine Ex.run 6 f1 rfl ?_
  refine tb_ialdN (j := 17) (hc) (by decide) (by decide) ?_
  rw [hq]
  refine tb_iastN (j := 0) (rfl) (by decide) (by decide) ?_
  refine Ex.run 4 f1 rfl ?_
  refine tb_if_eq_J 6 (0) (rGive n (s.1 c 0) 19) (fun K90 => ?_) (fun K90 => ?_) ?_
  · skip
    refine Ex.run 1 f1 rfl ?_
    refine tb_jmp ?_
    exact K90
  · skip
    refine Ex.run 2 f1 rfl ?_
    refine tb_ialdN (j := 19) (hc) (by decide) (by decide) ?_
    rw [tb_sI_ne h59, hq]
    refine tb_goto ?_
    exact K90
  rw [tb_ii]
  refine tb_iastN (j := 1) (rfl) (by decide) (by decide) ?_
  refine Ex.run 5 f1 rfl ?_
  refine tb_icmp_ne_J 8 (0) (1) (fun K110 => ?_) (fun K110 => ?_) ?_
  · skip
    refine Ex.run 1 f1 rfl ?_
    refine tb_jmp ?_
    exact K110
  · skip
    refine Ex.run 1 f1 rfl ?_
    refine tb_goto ?_
    exact K110
  refine Ex.call1 kX9_154 (x9_flag (d := d + 1) f1) rfl rfl rfl trivial (Nat.le_of_ble_eq_true rfl) (by omega) (by omega) (by omega) ?_
  rw [tb_nf]
  refine tb_iastN (j := 2) (rfl) (by decide) (by decide) ?_
  refine Ex.run 5 f1 rfl ?_
  refine tb_icmp_ne_J 10 (0) (1) (fun K130 => ?_) (fun K130 => ?_) ?_
  · skip
    refine Ex.run 1 f1 rfl ?_
    refine tb_jmp ?_
    exact K130
  · skip
    refine Ex.run 1 f1 rfl ?_
    refine tb_goto ?_
    exact K130
  refine Ex.call1 kX9_154 (x9_flag (d := d + 1) f1) rfl rfl rfl trivial (Nat.le_of_ble_eq_true rfl) (by omega) (by omega) (by omega) ?_
  rw [tb_nf]
  refine tb_iastN (j := 3) (rfl) (by decide) (by decide) ?_
  refine Ex.run 5 f1 rfl ?_
  refine tb_ialdN (j := 20) (hc) (by decide) (by decide) ?_
  rw [tb_sI_ne h59, tb_sI_ne h59, tb_sI_ne h59, tb_sI_ne h59, hq]
  refine Ex.run 1 f1 rfl ?_
  refine tb_irem (by decide) ?_
  refine tb_iastN (j := 4) (rfl) (by decide) (by decide) ?_
  obtain ⟨t2, e2⟩ : ∃ t2, t2 = mAsk t (rGive n (s.1 c 0) 17) (if rNeed n (s.1 c 0) ≤ s.1 c 0 16 then rGive n (s.1 c 0) 19 else 0) (if rSky L sk (s.1 c 0) = 1 then 1 else 0) (if rSky L sk (s.1 c 0) = 2 then 1 else 0) (rGive n (s.1 c 0) 20 - rGive n (s.1 c 0) 20 / 10 * 10) := ⟨_, rfl⟩
  show Ex _ _ _ _ _ _ _ _ _ _ _ (mAsk t (rGive n (s.1 c 0) 17) (if rNeed n (s.1 c 0) ≤ s.1 c 0 16 then rGive n (s.1 c 0) 19 else 0) (if rSky L sk (s.1 c 0) = 1 then 1 else 0) (if rSky L sk (s.1 c 0) = 2 then 1 else 0) (rGive n (s.1 c 0) 20 - rGive n (s.1 c 0) 20 / 10 * 10))
  rw [← e2]
  have q2 : mU s t2 c (rGive n (s.1 c 0)) := by rw [e2]; exact q1.ask h59
  have hq2 : ∀ i, t2.1 c 0 i = rGive n (s.1 c 0) i := fun i => congrFun q2.at i
  have f2 : tb_Fix (tb_T []) t2 := q2.fix hF
  obtain ⟨k0, k1, k2, k3, k4⟩ := mAsk_get (t := t) (a0 := rGive n (s.1 c 0) 17) (a1 := if rNeed n (s.1 c 0) ≤ s.1 c 0 16 then rGive n (s.1 c 0) 19 else 0) (a2 := if rSky L sk (s.1 c 0) = 1 then 1 else 0) (a3 := if rSky L sk (s.1 c 0) = 2 then 1 else 0) (a4 := rGive n (s.1 c 0) 20 - rGive n (s.1 c 0) 20 / 10 * 10)
  rw [← e2] at k0 k1 k2 k3 k4
  refine Ex.run 3 f2 rfl ?_
  refine tb_ialdN (j := 17) (hc) (by decide) (by decide) ?_
  rw [hq2]
  refine Ex.run 3 f2 rfl ?_
  refine tb_ialdN (j := 17) (hc) (by decide) (by decide) ?_
  rw [hq2]
  refine Ex.run 1 f2 rfl ?_
  refine Ex.call kX9_304_7 (hr t2 q2.1 (q2.I h42.symm) (q2.I h56.symm) (d + 1) (by omega)) rfl rfl rfl ⟨rfl, _, _, rfl⟩ (Nat.le_of_ble_eq_true rfl) (by omega) (by omega) (by omega) (fun w s166 q166 _ => ?_) (fun E x s166 q166 _ => by cases q166.1)
  obtain ⟨e166, q166⟩ := q166
  cases e166
  have f166 : tb_Fix (tb_T []) s166 := f2.eq2 q166.1
  rw [k0, k1, k2, k3, k4]
  refine tb_min q1414 (Nat.le_of_ble_eq_true rfl) (by omega) (by omega) (by omega) ?_
  refine tb_max q1560 (Nat.le_of_ble_eq_true rfl) (by omega) (by omega) (by omega) ?_
  refine Ex.run 1 f166 rfl ?_
  refine tb_iastN (j := 17) (hc) (by decide) (by decide) ?_
  have q3 := (q2.p58 h58 q166.1 q166.2).pc (j := 17) (x := rGive n (s.1 c 0) 17 - tbMax 0 (tbMin (rGive n (s.1 c 0) 17) (ru (rGive n (s.1 c 0) 17) (if rNeed n (s.1 c 0) ≤ s.1 c 0 16 then rGive n (s.1 c 0) 19 else 0) (if rSky L sk (s.1 c 0) = 1 then 1 else 0) (if rSky L sk (s.1 c 0) = 2 then 1 else 0) (rGive n (s.1 c 0) 20 - rGive n (s.1 c 0) 20 / 10 * 10))))
  generalize tb_sI s166 c 0 17 (rGive n (s.1 c 0) 17 - tbMax 0 (tbMin (rGive n (s.1 c 0) 17) (ru (rGive n (s.1 c 0) 17) (if rNeed n (s.1 c 0) ≤ s.1 c 0 16 then rGive n (s.1 c 0) 19 else 0) (if rSky L sk (s.1 c 0) = 1 then 1 else 0) (if rSky L sk (s.1 c 0) = 2 then 1 else 0) (rGive n (s.1 c 0) 20 - rGive n (s.1 c 0) 20 / 10 * 10)))) = t3 at q3 ⊢
  have esk : rSky L sk (rGive n (s.1 c 0)) = rSky L sk (s.1 c 0) := by unfold rSky; rw [rGive_at (by decide)]
  have q3 : mU s t3 c (rDie n L sk ru (s.1 c 0)) := q3.eqR (by unfold rDie rDeaths; rw [esk])
  have f3 : tb_Fix (tb_T []) t3 := q3.fix hF
  refine Ex.run 2 f3 rfl ?_
  refine tb_jmp ?_
  have hb3 : rB B (rDie n L sk ru (s.1 c 0)) := hb.die hn
  have e18 : rDie n L sk ru (s.1 c 0) 18 = s.1 c 0 18 := (pk_un (by decide)).trans (rGive_at (by decide))
  have hhad : 0 ≤ (if rNeed n (s.1 c 0) ≤ s.1 c 0 16 then s.1 c 0 18 else 0).toInt ∧ (if rNeed n (s.1 c 0) ≤ s.1 c 0 16 then s.1 c 0 18 else 0).toInt ≤ 9 := by
    split
    · exact hb.2.2.2.2.1
    · decide
  refine x9_dayGoes_loop f3 hc h42.symm h58 h59 ((congrFun (congrFun (q3.I h42.symm) 0) 3).trans hm) hn (by rw [q3.at]; exact hb3) hhad.1 hhad.2 ?_ n 0 t3 _ (by omega) mU.rf
  intro t' x6 q
  have q := q3.tr q
  rw [q3.at] at q
  have em : rAng (if rNeed n (s.1 c 0) ≤ s.1 c 0 16 then s.1 c 0 18 else 0) n (rDie n L sk ru (s.1 c 0)) = rMad n L sk ru (s.1 c 0) := by
    unfold rMad
    rw [e18]
  rw [em] at q
  have esk : rSky L sk (rMad n L sk ru (s.1 c 0)) = rSky L sk (s.1 c 0) := by
    unfold rSky rMad
    rw [rAng_at (by omega), show rDie n L sk ru (s.1 c 0) 20 = s.1 c 0 20 from (pk_un (by decide)).trans (rGive_at (by decide))]
  refine x9_dayGoes_tail (q.fix hF) hc tb_i01 fun s' h => ⟨rfl, ?_⟩
  have h := q.tr h
  rw [q.at, ← esk] at h
  exact h
