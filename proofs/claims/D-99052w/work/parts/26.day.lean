/-! A DAY, x's side -/
set_option maxRecDepth 100000
def tbLet (c : Int32) : Int32 := if c = 0 then 102 else if c = 1 then 104 else if c = 2 then 115 else 114
abbrev tbRu : Type := Int32 → Int32 → Int32 → Int32 → Int32 → Int32
/-- no rule: by trees, water given, hot, salt -/
def ru0 : tbRu := fun t b h l _ => t * (h + 2 * l + 4 * (if b = 0 then 1 else 0)) / 10
/-- the sky of a row's day; the sky by days, L long -/
def rSky (L : Nat) (sk : Nat → Int32) (r : Nat → Int32) : Int32 := sk ((r 20).toNatClampNeg % L)
def rDeaths (L : Nat) (sk : Nat → Int32) (ru : tbRu) (r : Nat → Int32) (b : Int32) : Int32 :=
  tbMax 0 (tbMin (r 17) (ru (r 17) b (if rSky L sk r = 1 then 1 else 0) (if rSky L sk r = 2 then 1 else 0) (r 20 - r 20 / 10 * 10)))
def rAng (had : Int32) : Nat → (Nat → Int32) → Nat → Int32
  | 0, r => r
  | m + 1, r => (fun q : Nat → Int32 => if q (8 + m) = 0 then upd q m (tbC (q m + tbMax 0 (3 - had))) else q) (rAng had m r)
def rFill (r : Nat → Int32) (v : Int32) : Nat → Int32 := upd r 16 (tbMin 999 (r 16 + v))
def rGive (n : Nat) (r : Nat → Int32) : Nat → Int32 := if rNeed n r ≤ r 16 then upd r 16 (r 16 - rNeed n r) else r
def rDie (n L : Nat) (sk : Nat → Int32) (ru : tbRu) (r : Nat → Int32) : Nat → Int32 :=
  upd (rGive n r) 17 (rGive n r 17 - rDeaths L sk ru (rGive n r) (if rNeed n r ≤ r 16 then rGive n r 19 else 0))
def rMad (n L : Nat) (sk : Nat → Int32) (ru : tbRu) (r : Nat → Int32) : Nat → Int32 := rAng (if rNeed n r ≤ r 16 then rDie n L sk ru r 18 else 0) n (rDie n L sk ru r)
def rRain (n L : Nat) (sk : Nat → Int32) (ru : tbRu) (r : Nat → Int32) : Nat → Int32 := if rSky L sk (rMad n L sk ru r) = 3 then rFill (rMad n L sk ru r) 20 else rMad n L sk ru r
def rDay (n L : Nat) (sk : Nat → Int32) (ru : tbRu) (r : Nat → Int32) : Nat → Int32 := upd (rRain n L sk ru r) 20 (rRain n L sk ru r 20 + 1)
/-- x's weather -/
def xSky (s : tbS) (L : Nat) (sk : Nat → Int32) : Prop := ∃ w, s.2.2.1 0 0 23 = some (18, w) ∧ s.2.2.2.1 18 w = L ∧ 0 < L ∧ L ≤ 20 ∧ ∀ j, j < L → s.1 18 w j = tbLet (sk j) ∧ (sk j = 0 ∨ sk j = 1 ∨ sk j = 2 ∨ sk j = 3)
/-- nothing of x changed but voyages, and its rule's place -/
def xK (s s' : tbS) : Prop := s'.2 = s.2 ∧ (∀ c, c ≠ 6 → c ≠ 7 → c ≠ 8 → c ≠ 32 → s'.1 c = s.1 c) ∧ ∀ n j, j ≠ 3 → j ≠ 5 → s'.1 32 n j = s.1 32 n j
theorem xU.k {s s' : tbS} {k : Nat} {r : Nat → Int32} (h : xU s s' k r) : xK s s' := ⟨h.1, h.2.1, h.2.2.1⟩
theorem xK.rf {s : tbS} : xK s s := ⟨rfl, fun _ _ _ _ _ => rfl, fun _ _ _ _ => rfl⟩
theorem xK.tr {s s' s2 : tbS} (h : xK s s') (h2 : xK s' s2) : xK s s2 :=
  ⟨h2.1.trans h.1, fun c a1 a2 a3 a4 => (h2.2.1 c a1 a2 a3 a4).trans (h.2.1 c a1 a2 a3 a4), fun n j a1 a2 => (h2.2.2 n j a1 a2).trans (h.2.2 n j a1 a2)⟩
theorem xSky.k {s s' : tbS} {L : Nat} {sk : Nat → Int32} (h : xSky s L sk) (hk : xK s s') : xSky s' L sk := by
  obtain ⟨w, h1, h2, h3, h4, h5⟩ := h
  refine ⟨w, by rw [hk.1]; exact h1, by rw [hk.1]; exact h2, h3, h4, fun j hj => ?_⟩
  rw [hk.2.1 18 (by decide) (by decide) (by decide) (by decide)]
  exact h5 j hj
/-- what x's rule comes to -/
def xRu (γ : tbG) (D : Nat) (ru : tbRu) (L : Nat) (sk : Nat → Int32) (s : tbS) : Prop := (s.2.2.1 0 0 28 = none ∧ ru = ru0) ∨ ∃ k, s.2.2.1 0 0 28 = some (32, k) ∧ ∀ s', xK s s' → ∀ d v b, D ≤ d → ¬ rV s' v 20 < 0 →
  MX γ d 0 0 mX12_of [rR 32 k, rR 6 v, .inl b] s' (fun o s2 => o = .inl (some (.inl (ru (rV s' v 17) b (if rSky L sk (rV s' v) = 1 then 1 else 0) (if rSky L sk (rV s' v) = 2 then 1 else 0) (rV s' v 20 - rV s' v 20 / 10 * 10)))) ∧ xU s' s2 v (rV s' v))
theorem xRu.k {γ : tbG} {D L : Nat} {ru : tbRu} {sk : Nat → Int32} {s s' : tbS} (h : xRu γ D ru L sk s) (hk : xK s s') : xRu γ D ru L sk s' := by
  rcases h with ⟨h1, h2⟩ | ⟨k, h1, h2⟩
  · exact Or.inl ⟨by rw [hk.1]; exact h1, h2⟩
  · exact Or.inr ⟨k, by rw [hk.1]; exact h1, fun s2 h3 => h2 s2 (hk.tr h3)⟩
theorem x1_skyOf {γ : tbG} {d D L : Nat} {sk : Nat → Int32} {s : tbS} (hF : tb_Fix (tb_T []) s) (hs : xSky s L sk) (hD : D < 2 ^ 31) : MX γ d 0 0 mX1_skyOf [rR 0 0, .inl (nI D)] s (ans (.inl (tbLet (sk (D % L)))) s) := by
  obtain ⟨w, h1, h2, h3, h4, h5⟩ := hs
  have hl : tb_len s 18 w = L := h2
  have hm : D % L < L := Nat.mod_lt _ h3
  refine MX.intro (by decide +kernel) rfl oX1_skyOf (Nat.le_of_ble_eq_true rfl) (Nat.le_of_ble_eq_true rfl) rfl ?_
  refine Ex.run 5 hF rfl ?_
  rw [h1]
  refine tb_alen rfl (by decide) ?_
  refine tb_irem (nI_ne0 (by rw [hl]; exact h3) (by rw [hl]; omega)) ?_
  rw [hl]
  rw [show Int32.ofNat L = nI L from rfl, pk_rem hD h3 (by omega)]
  refine tb_bald rfl (vp_in_nI (by rw [hl]; exact hm) (by rw [hl]; omega)) ?_
  rw [nI_clamp (by omega), (h5 _ hm).1]
  exact tb_ireturn rfl rfl (by omega) (by omega) (⟨rfl, rfl⟩)
theorem tbLet_eq {c : Int32} (h : c = 0 ∨ c = 1 ∨ c = 2 ∨ c = 3) : (tbLet c = 104 ↔ c = 1) ∧ (tbLet c = 115 ↔ c = 2) ∧ (tbLet c = 114 ↔ c = 3) := by
  rcases h with rfl | rfl | rfl | rfl <;> decide
theorem nI_cl {x : Int32} (h : ¬ x < 0) : nI x.toNatClampNeg = x ∧ x.toNatClampNeg < 2 ^ 31 := by
  obtain ⟨j, h1, rfl⟩ := nI_of h
  rw [nI_clamp h1]
  exact ⟨rfl, h1⟩
theorem x1_deathsOf {γ : tbG} {d D k L : Nat} {b : Int32} {ru : tbRu} {sk : Nat → Int32} {s : tbS} (hF : tb_Fix (tb_T []) s) (hs : xSky s L sk) (hr : xRu γ D ru L sk s) (hd : D + 1 ≤ d) (h0 : ¬ rV s k 20 < 0) :
    MX γ d 0 0 mX1_deathsOf [rR 0 0, rR 6 k, .inl b] s (fun o s' => o = .inl (some (.inl (rDeaths L sk ru (rV s k) b))) ∧ xU s s' k (rV s k)) := by
  obtain ⟨d, rfl⟩ : ∃ e, d = e + 1 := ⟨d - 1, by omega⟩
  have hL := hs
  obtain ⟨w, -, -, h3, -, h5⟩ := hs
  have hc := tbLet_eq (h5 ((rV s k 20).toNatClampNeg % L) (Nat.mod_lt _ h3)).2
  have hsk := x1_skyOf (γ := γ) (d := d) hF hL (nI_cl h0).2
  rw [(nI_cl h0).1] at hsk
  have hsk : MX γ d 0 0 mX1_skyOf [rR 0 0, .inl (s.1 6 k 6)] s (ans (.inl (tbLet (rSky L sk (rV s k)))) s) := hsk
  have hc : (tbLet (rSky L sk (rV s k)) = 104 ↔ rSky L sk (rV s k) = 1) ∧ (tbLet (rSky L sk (rV s k)) = 115 ↔ rSky L sk (rV s k) = 2) ∧ (tbLet (rSky L sk (rV s k)) = 114 ↔ rSky L sk (rV s k) = 3) := hc
  rcases hr with ⟨h1, rfl⟩ | ⟨q, h1, h2⟩
  · have hru : s.1 6 k 3 * ((if ¬ tbLet (rSky L sk (rV s k)) = 104 then 0 else 1) + (if ¬ tbLet (rSky L sk (rV s k)) = 115 then 0 else 2) + (if ¬ b = 0 then 0 else 4)) / 10 = ru0 (rV s k 17) b (if rSky L sk (rV s k) = 1 then 1 else 0) (if rSky L sk (rV s k) = 2 then 1 else 0) (rV s k 20 - rV s k 20 / 10 * 10) := by
      show s.1 6 k 3 * _ / 10 = s.1 6 k 3 * _ / 10
      congr 2
      simp only [hc.1, hc.2.1]
      by_cases a1 : rSky L sk (rV s k) = 1
      · have a2 : ¬ rSky L sk (rV s k) = 2 := by rw [a1]; decide
        by_cases a3 : b = 0
        · simp [a1, a3]
        · simp [a1, a3]
      · by_cases a2 : rSky L sk (rV s k) = 2
        · by_cases a3 : b = 0
          · simp [a2, a3]
          · simp [a2, a3]
        · by_cases a3 : b = 0
          · simp [a1, a2, a3]
          · simp [a1, a2, a3]
    refine MX.intro (by decide +kernel) rfl oX1_deathsOf (Nat.le_of_ble_eq_true rfl) (Nat.le_of_ble_eq_true rfl) rfl ?_
    refine Ex.run 3 hF rfl ?_
    refine Ex.call1 kX1_299_0 (hsk) rfl rfl rfl ⟨rfl, _, _, rfl⟩ (Nat.le_of_ble_eq_true rfl) (by omega) (by omega) (by omega) ?_
    refine Ex.run 1 hF rfl ?_
    refine Ex.run 2 hF rfl ?_
    rw [h1]
    refine tb_ifnonnull (fun h13 => absurd rfl h13 ) (fun h13 => ?_)
    refine Ex.run 4 hF rfl ?_
    refine tb_icmp_ne_J 2 (0) (1) (fun K23 => ?_) (fun K23 => ?_) ?_
    · skip
      refine Ex.run 1 hF rfl ?_
      refine tb_jmp ?_
      exact K23
    · skip
      refine Ex.run 1 hF rfl ?_
      refine tb_goto ?_
      exact K23
    refine Ex.run 2 hF rfl ?_
    refine tb_icmp_ne_J 4 (0) (2) (fun K34 => ?_) (fun K34 => ?_) ?_
    · skip
      refine Ex.run 1 hF rfl ?_
      refine tb_jmp ?_
      exact K34
    · skip
      refine Ex.run 1 hF rfl ?_
      refine tb_goto ?_
      exact K34
    refine Ex.run 2 hF rfl ?_
    refine tb_if_ne_J 6 (0) (4) (fun K44 => ?_) (fun K44 => ?_) ?_
    · skip
      refine Ex.run 1 hF rfl ?_
      refine tb_jmp ?_
      exact K44
    · skip
      refine Ex.run 1 hF rfl ?_
      refine tb_goto ?_
      exact K44
    refine Ex.run 3 hF rfl ?_
    refine tb_idiv (by decide) ?_
    refine tb_goto ?_
    refine Ex.run 5 hF rfl ?_
    refine tb_min q759 (Nat.le_of_ble_eq_true rfl) (by omega) (by omega) (by omega) ?_
    refine tb_max q760 (Nat.le_of_ble_eq_true rfl) (by omega) (by omega) (by omega) ?_
    refine tb_ireturn rfl rfl (by omega) (by omega) (?_)
    rw [hru]
    exact ⟨rfl, xU.rf⟩
  · skip
    refine MX.intro (by decide +kernel) rfl oX1_deathsOf (Nat.le_of_ble_eq_true rfl) (Nat.le_of_ble_eq_true rfl) rfl ?_
    refine Ex.run 3 hF rfl ?_
    refine Ex.call1 kX1_299_0 (hsk) rfl rfl rfl ⟨rfl, _, _, rfl⟩ (Nat.le_of_ble_eq_true rfl) (by omega) (by omega) (by omega) ?_
    refine Ex.run 1 hF rfl ?_
    refine Ex.run 2 hF rfl ?_
    rw [h1]
    refine tb_ifnonnull (fun h13 => ?_) (fun h13 => absurd h13 (by intro z; cases z) )
    refine Ex.run 4 hF rfl ?_
    rw [h1]
    refine Ex.call kX1_305_10 (h2 s xK.rf d k b (by omega) h0) rfl rfl rfl ⟨rfl, _, _, rfl⟩ (Nat.le_of_ble_eq_true rfl) (by omega) (by omega) (by omega) (fun w s66 q66 _ => ?_) (fun E x s66 q66 _ => by cases q66.1)
    obtain ⟨e66, q66⟩ := q66
    cases e66
    have f66 : tb_Fix (tb_T []) s66 := q66.fix hF
    refine tb_jmp ?_
    refine Ex.run 5 f66 rfl ?_
    refine tb_min q759 (Nat.le_of_ble_eq_true rfl) (by omega) (by omega) (by omega) ?_
    refine tb_max q760 (Nat.le_of_ble_eq_true rfl) (by omega) (by omega) (by omega) ?_
    refine tb_ireturn rfl rfl (by omega) (by omega) (?_)
    have e1 : s66.1 6 k 3 = s.1 6 k 3 := congrFun q66.at 17
    rw [e1]
    exact ⟨rfl, q66⟩
theorem tb_ii {P : Prop} [Decidable P] {a b : Int32} : (if (if P then (1 : Int32) else 0) = 0 then a else b) = if P then b else a := by
  by_cases h : P
  · rw [if_pos h, if_pos h]; rfl
  · rw [if_neg h, if_neg h]; rfl
theorem tb_i01 {P : Prop} [Decidable P] : (if P then (1 : Int32) else 0) = 0 ∨ (if P then (1 : Int32) else 0) = 1 := by
  by_cases h : P
  · rw [if_pos h]; exact Or.inr rfl
  · rw [if_neg h]; exact Or.inl rfl
theorem rGive_at {n j : Nat} {r : Nat → Int32} (h : j ≠ 16) : rGive n r j = r j := by
  unfold rGive
  split
  · exact pk_un h
  · rfl
theorem rAng_at {had : Int32} {j : Nat} {r : Nat → Int32} : ∀ {n : Nat}, (n ≤ j) → rAng had n r j = r j
  | 0, _ => rfl
  | n + 1, h => by
    show (if _ then _ else _ : Nat → Int32) j = _
    split
    · rw [pk_un (by omega)]
      exact rAng_at (by omega)
    · exact rAng_at (by omega)
theorem x1_goDay_loop {γ : tbG} {d k n : Nat} {is had : Int32} {t : tbS} {Q : tbO → tbS → Prop} (hF : tb_Fix (tb_T []) t) (hm : t.1 0 0 18 = nI n) (hn : n ≤ 8)
    (K : ∀ t', xU t t' k (rAng had n (rV t k)) → Ex γ mX1_goDay (d + 2) 0 0 Q 0 0 (cod mX1_goDay 7) [some (rR 0 0), some (rR 6 k), some (.inl is), some (.inl had), some (.inl (nI n))] [] t') :
    ∀ r j t', j + r = n → xU t t' k (rAng had j (rV t k)) → Ex γ mX1_goDay (d + 2) 0 0 Q 0 0 (cod mX1_goDay 5) [some (rR 0 0), some (rR 6 k), some (.inl is), some (.inl had), some (.inl (nI j))] [] t' := by
  intro r
  induction r with
  | zero =>
    intro j t' hj hU
    obtain rfl : j = n := by omega
    have F' := hU.fix hF
    have hm' : t'.1 0 0 18 = nI j := (congrFun (congrFun hU.I 0) 18).trans hm
    refine Ex.run 3 F' rfl ?_
    rw [hm']
    refine tb_icmp_ge (fun h57 => ?_) (fun h57 => absurd (Int32.le_refl _) h57 )
    exact K t' hU
  | succ r ih =>
    intro j t' hj hU
    have F' := hU.fix hF
    have hm' : t'.1 0 0 18 = nI n := (congrFun (congrFun hU.I 0) 18).trans hm
    have e8 : t'.1 8 k j = rAng had j (rV t k) (8 + j) := by
      rw [← hU.at]
      exact (rV_8 (by omega)).symm
    have e1 : rAng had (j + 1) (rV t k) = if rAng had j (rV t k) (8 + j) = 0 then upd (rAng had j (rV t k)) j (tbC (rAng had j (rV t k) j + tbMax 0 (3 - had))) else rAng had j (rV t k) := rfl
    refine Ex.run 3 F' rfl ?_
    rw [hm']
    refine tb_icmp_ge (fun h57 => absurd h57 (nI_ge (by omega) (by omega)) ) (fun h57 => ?_)
    refine Ex.run 3 F' rfl ?_
    refine tb_iald rfl (vp_in_nI (N := 8) (by omega) (by decide)) ?_
    rw [nI_clamp (by omega), e8]
    refine tb_if_ne (fun h67 => ?_) (fun h67 => ?_)
    · skip
      refine Ex.run 1 F' rfl ?_
      refine tb_goto ?_
      rw [nI_1]
      refine ih (j + 1) _ (by omega) ?_
      first
        | (rw [e1, if_pos h67]; have h := hU.tr q80; rw [hU.at] at h; exact h)
        | (rw [e1, if_neg h67]; exact hU)
    · skip
      refine Ex.run 6 F' rfl ?_
      refine tb_max q760 (Nat.le_of_ble_eq_true rfl) (by omega) (by omega) (by omega) ?_
      refine Ex.call kX1_315_6 (x8_angers (d := d) F' (by omega)) rfl rfl rfl ⟨rfl, _, _, rfl⟩ (Nat.le_of_ble_eq_true rfl) (by omega) (by omega) (by omega) (fun w s80 q80 _ => ?_) (fun E x s80 q80 _ => by cases q80.1)
      obtain ⟨e80, q80⟩ := q80
      cases e80
      have f80 : tb_Fix (tb_T []) s80 := q80.fix F'
      refine tb_jmp ?_
      refine Ex.run 1 f80 rfl ?_
      refine tb_goto ?_
      rw [nI_1]
      refine ih (j + 1) _ (by omega) ?_
      first
        | (rw [e1, if_pos h67]; have h := hU.tr q80; rw [hU.at] at h; exact h)
        | (rw [e1, if_neg h67]; exact hU)
theorem x1_goDay_tail {γ : tbG} {d k L : Nat} {is x3 x4 : Int32} {sk : Nat → Int32} {t : tbS} {Q : tbO → tbS → Prop} (hF : tb_Fix (tb_T []) t) (hs : xSky t L sk) (h0 : ¬ rV t k 20 < 0) (his : is = 0 ∨ is = 1)
    (hQ : ∀ s', xU t s' k (upd (if rSky L sk (rV t k) = 3 then rFill (rV t k) 20 else rV t k) 20 ((if rSky L sk (rV t k) = 3 then rFill (rV t k) 20 else rV t k) 20 + 1)) → Q (.inl (some (.inl is))) s') :
    Ex γ mX1_goDay (d + 2) 0 0 Q 0 0 (cod mX1_goDay 7) [some (rR 0 0), some (rR 6 k), some (.inl is), some (.inl x3), some (.inl x4)] [] t := by
  have hsk := x1_skyOf (γ := γ) (d := d + 1) hF hs (nI_cl h0).2
  rw [(nI_cl h0).1] at hsk
  have hsk : MX γ (d + 1) 0 0 mX1_skyOf [rR 0 0, .inl (t.1 6 k 6)] t (ans (.inl (tbLet (rSky L sk (rV t k)))) t) := hsk
  obtain ⟨w, -, -, h3, -, h5⟩ := hs
  have hc := (tbLet_eq (h5 ((rV t k 20).toNatClampNeg % L) (Nat.mod_lt _ h3)).2).2.2
  have hc : tbLet (rSky L sk (rV t k)) = 114 ↔ rSky L sk (rV t k) = 3 := hc
  refine Ex.run 3 hF rfl ?_
  refine Ex.call1 kX1_299_0 (hsk) rfl rfl rfl ⟨rfl, _, _, rfl⟩ (Nat.le_of_ble_eq_true rfl) (by omega) (by omega) (by omega) ?_
  refine Ex.run 1 hF rfl ?_
  refine tb_icmp_ne (fun h99 => ?_) (fun h99 => ?_)
  · skip
    refine Ex.run 7 hF rfl ?_
    refine tb_ireturn rfl (tb_narB (his)) (by omega) (by omega) (?_)
    refine hQ _ ?_
    first
      | (rw [hc] at h99; rw [if_neg h99]; exact xU_sI6 (j := 6) (by decide) (by decide))
      | (rw [hc] at h99; rw [if_pos h99]; exact (show _ = rFill (rV t k) 20 20 from congrFun q105.at 20) ▸ q105.p6 (j := 6) (by decide) (by decide))
  · skip
    refine Ex.run 2 hF rfl ?_
    refine Ex.call kX1_319_6 (x8_fill (d := d) hF) rfl rfl rfl ⟨rfl, _, _, rfl⟩ (Nat.le_of_ble_eq_true rfl) (by omega) (by omega) (by omega) (fun w s105 q105 _ => ?_) (fun E x s105 q105 _ => by cases q105.1)
    obtain ⟨e105, q105⟩ := q105
    cases e105
    have f105 : tb_Fix (tb_T []) s105 := q105.fix hF
    refine Ex.run 1 f105 rfl ?_
    refine tb_jmp ?_
    refine Ex.run 7 f105 rfl ?_
    refine tb_ireturn rfl (tb_narB (his)) (by omega) (by omega) (?_)
    refine hQ _ ?_
    first
      | (rw [hc] at h99; rw [if_neg h99]; exact xU_sI6 (j := 6) (by decide) (by decide))
      | (rw [hc] at h99; rw [if_pos h99]; exact (show _ = rFill (rV t k) 20 20 from congrFun q105.at 20) ▸ q105.p6 (j := 6) (by decide) (by decide))
theorem x1_goDay {γ : tbG} {d D k n L : Nat} {ru : tbRu} {sk : Nat → Int32} {s : tbS} (hF : tb_Fix (tb_T []) s) (hm : s.1 0 0 18 = nI n) (hn : n ≤ 8) (hs : xSky s L sk) (hr : xRu γ D ru L sk s) (hd : D + 2 ≤ d) (h0 : ¬ rV s k 20 < 0) :
    MX γ d 0 0 mX1_goDay [rR 0 0, rR 6 k] s (fun o s' => o = .inl (some (.inl (if rNeed n (rV s k) ≤ rV s k 16 then 1 else 0))) ∧ xU s s' k (rDay n L sk ru (rV s k))) := by
  obtain ⟨d, rfl⟩ : ∃ e, d = e + 2 := ⟨d - 2, by omega⟩
  refine MX.intro (by decide +kernel) rfl oX1_goDay (Nat.le_of_ble_eq_true rfl) (Nat.le_of_ble_eq_true rfl) rfl ?_
  refine Ex.run 3 hF rfl ?_
  rw [hm]
  refine Ex.call kX1_309_6 (x8_gives (d := d) hF hn) rfl rfl rfl ⟨rfl, _, _, rfl⟩ (Nat.le_of_ble_eq_true rfl) (by omega) (by omega) (by omega) (fun w s5 q5 _ => ?_) (fun E x s5 q5 _ => by cases q5.1)
  obtain ⟨e5, q5⟩ := q5
  cases e5
  have f5 : tb_Fix (tb_T []) s5 := q5.fix hF
  have r5 : rV s5 k = rGive n (rV s k) := q5.at
  have h5 : ¬ rV s5 k 20 < 0 := by rw [r5, rGive_at (by decide)]; exact h0
  refine Ex.run 7 f5 rfl ?_
  refine tb_if_eq_J 2 (0) (s5.1 6 k 5) (fun K17 => ?_) (fun K17 => ?_) ?_
  · skip
    refine Ex.run 1 f5 rfl ?_
    refine tb_jmp ?_
    exact K17
  · skip
    refine Ex.run 2 f5 rfl ?_
    refine tb_goto ?_
    exact K17
  rw [tb_ii]
  refine Ex.call kX1_312_0 (x1_deathsOf (d := d + 1) (D := D) f5 (hs.k q5.k) (hr.k q5.k) (by omega) h5) rfl rfl rfl ⟨rfl, _, _, rfl⟩ (Nat.le_of_ble_eq_true rfl) (by omega) (by omega) (by omega) (fun w s28 q28 _ => ?_) (fun E x s28 q28 _ => by cases q28.1)
  obtain ⟨e28, q28⟩ := q28
  cases e28
  have f28 : tb_Fix (tb_T []) s28 := q28.fix f5
  refine Ex.run 2 f28 rfl ?_
  have q31 := ((q5.tr q28).p6 (j := 3) (x := s5.1 6 k 3 - rDeaths L sk ru (rV s5 k) (if rNeed n (rV s k) ≤ rV s k 16 then s5.1 6 k 5 else 0)) (by decide) (by decide))
  generalize tb_sI s28 6 k 3 (s5.1 6 k 3 - rDeaths L sk ru (rV s5 k) (if rNeed n (rV s k) ≤ rV s k 16 then s5.1 6 k 5 else 0)) = t at q31 ⊢
  have q31 : xU s t k (rDie n L sk ru (rV s k)) := by
    have e3 : s5.1 6 k 3 = rGive n (rV s k) 17 := congrFun r5 17
    have e5 : s5.1 6 k 5 = rGive n (rV s k) 19 := congrFun r5 19
    rw [r5, e3, e5] at q31
    exact q31
  have f31 : tb_Fix (tb_T []) t := q31.fix hF
  refine Ex.run 1 f31 rfl ?_
  refine tb_if_eq_J 4 (0) (t.1 6 k 4) (fun K36 => ?_) (fun K36 => ?_) ?_
  · skip
    refine Ex.run 1 f31 rfl ?_
    refine tb_jmp ?_
    exact K36
  · skip
    refine Ex.run 2 f31 rfl ?_
    refine tb_goto ?_
    exact K36
  rw [tb_ii, show t.1 6 k 4 = rDie n L sk ru (rV s k) 18 from congrFun q31.at 18]
  refine Ex.run 3 f31 rfl ?_
  refine tb_jmp ?_
  refine x1_goDay_loop f31 ((congrFun (congrFun q31.I 0) 18).trans hm) hn ?_ n 0 t (by omega) xU.rf
  intro t' q
  have q := q31.tr q
  rw [q31.at] at q
  have q : xU s t' k (rMad n L sk ru (rV s k)) := q
  have ft := q.fix hF
  have h20 : ¬ rV t' k 20 < 0 := by
    rw [q.at, show rMad n L sk ru (rV s k) 20 = rDie n L sk ru (rV s k) 20 from rAng_at (by omega), show rDie n L sk ru (rV s k) 20 = rGive n (rV s k) 20 from pk_un (by decide), rGive_at (by decide)]
    exact h0
  refine x1_goDay_tail ft (hs.k q.k) h20 tb_i01 fun s' h => ⟨rfl, ?_⟩
  have h := q.tr h
  rw [q.at] at h
  exact h
