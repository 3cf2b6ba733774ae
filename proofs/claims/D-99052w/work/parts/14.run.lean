/-! STRAIGHT-LINE RUNS BY COMPUTATION (printed by tools/gen_run.py): tb_run goes on till a branch, a call, an array's place, a new thing; T: references that never change -/
set_option maxRecDepth 100000
def tb_fok (c : Nat) (l : List Nat) : Bool := Nat.beq (tb_role c).1 0 && l.elem (tb_role c).2.1
theorem tb_fok_spec {c : Nat} {l : List Nat} (h : tb_fok c l = true) : (tb_role c).1 = 0 ∧ (tb_role c).2.1 ∈ l := by
  unfold tb_fok at h
  rw [Bool.and_eq_true] at h
  exact ⟨Nat.eq_of_beq_eq_true h.1, List.elem_iff.mp h.2⟩
/-- what the table T says of the memory -/
def tb_Fix (T : Nat → Nat → Option (Nat → tbA)) (s : tbS) : Prop := ∀ c k a t, T c a = some t → k < s.2.2.2.2 c → s.2.2.1 c k a = some (t k)
theorem tb_Fix_sR {T : Nat → Nat → Option (Nat → tbA)} {s : tbS} {c k a : Nat} {x : Option tbA} (h : T c a = none) (f : tb_Fix T s) : tb_Fix T (tb_sR s c k a x) := by
  intro c' k' a' t ht hk
  have hne : ¬ (c' = c ∧ k' = k ∧ a' = a) := by
    rintro ⟨rfl, rfl, rfl⟩
    rw [h] at ht
    cases ht
  show (if c' = c ∧ k' = k ∧ a' = a then x else s.2.2.1 c' k' a') = _
  rw [if_neg hne]
  exact f c' k' a' t ht hk
def tb_step {R : Type} (T : Nat → Nat → Option (Nat → tbA)) (i : tbI) (ls : tbL) (st : List tbV) (s : tbS) (stop : Option R) (k : tbL → List tbV → tbS → Option R) : Option R := match i with
  | (_, ins, a, b, l, v) => match ins with
    | .aconst_null => k ls (v :: st) s
    | .iconst _ => k ls (v :: st) s
    | .bipush _ => k ls (v :: st) s
    | .sipush _ => k ls (v :: st) s
    | .lconst _ => k ls (v :: st) s
    | .ldc2_w _ => k ls (v :: st) s
    | .ldc_w _ => match b with
      | 0 => k ls (v :: st) s
      | _ => stop
    | .iload_n _ => match tb_get ls a with
      | some (.inl x) => k ls (.inl x :: st) s
      | _ => none
    | .iload _ => match tb_get ls a with
      | some (.inl x) => k ls (.inl x :: st) s
      | _ => none
    | .lload_n _ => match tb_get ls a with
      | some (.inr (.inl x)) => k ls (.inr (.inl x) :: st) s
      | _ => none
    | .lload _ => match tb_get ls a with
      | some (.inr (.inl x)) => k ls (.inr (.inl x) :: st) s
      | _ => none
    | .aload_n _ => match tb_get ls a with
      | some (.inr (.inr x)) => k ls (.inr (.inr x) :: st) s
      | _ => none
    | .aload _ => match tb_get ls a with
      | some (.inr (.inr x)) => k ls (.inr (.inr x) :: st) s
      | _ => none
    | .istore_n _ => match st with
      | .inl x :: r => tb_put ls a (some (.inl x)) (fun l' => k l' r s)
      | _ => none
    | .istore _ => match st with
      | .inl x :: r => tb_put ls a (some (.inl x)) (fun l' => k l' r s)
      | _ => none
    | .astore_n _ => match st with
      | .inr (.inr x) :: r => tb_put ls a (some (.inr (.inr x))) (fun l' => k l' r s)
      | _ => none
    | .astore _ => match st with
      | .inr (.inr x) :: r => tb_put ls a (some (.inr (.inr x))) (fun l' => k l' r s)
      | _ => none
    | .lstore_n _ => match st with
      | .inr (.inl x) :: r => tb_put ls (a + 1) none (fun l1 => tb_put l1 a (some (.inr (.inl x))) (fun l' => k l' r s))
      | _ => none
    | .lstore _ => match st with
      | .inr (.inl x) :: r => tb_put ls (a + 1) none (fun l1 => tb_put l1 a (some (.inr (.inl x))) (fun l' => k l' r s))
      | _ => none
    | .iinc _ _ => match tb_get ls a with
      | some (.inl x) => (match v with
        | .inl z => tb_put ls a (some (.inl (x + z))) (fun l' => k l' st s)
        | _ => none)
      | _ => none
    | .iadd => match st with
      | .inl x2 :: .inl x1 :: r => k ls (.inl (x1 + x2) :: r) s
      | _ => none
    | .isub => match st with
      | .inl x2 :: .inl x1 :: r => k ls (.inl (x1 - x2) :: r) s
      | _ => none
    | .imul => match st with
      | .inl x2 :: .inl x1 :: r => k ls (.inl (x1 * x2) :: r) s
      | _ => none
    | .iand => match st with
      | .inl x2 :: .inl x1 :: r => k ls (.inl (x1 &&& x2) :: r) s
      | _ => none
    | .ior => match st with
      | .inl x2 :: .inl x1 :: r => k ls (.inl (x1 ||| x2) :: r) s
      | _ => none
    | .ixor => match st with
      | .inl x2 :: .inl x1 :: r => k ls (.inl (x1 ^^^ x2) :: r) s
      | _ => none
    | .ishl => match st with
      | .inl x2 :: .inl x1 :: r => k ls (.inl (x1 <<< (x2 &&& 31)) :: r) s
      | _ => none
    | .ishr => match st with
      | .inl x2 :: .inl x1 :: r => k ls (.inl (x1 >>> (x2 &&& 31)) :: r) s
      | _ => none
    | .iushr => match st with
      | .inl x2 :: .inl x1 :: r => k ls (.inl ((x1.toUInt32 >>> (x2.toUInt32 &&& Int32.toUInt32 31)).toInt32) :: r) s
      | _ => none
    | .ineg => match st with
      | .inl x1 :: r => k ls (.inl (-x1) :: r) s
      | _ => none
    | .ladd => match st with
      | .inr (.inl x2) :: .inr (.inl x1) :: r => k ls (.inr (.inl (x1 + x2)) :: r) s
      | _ => none
    | .lsub => match st with
      | .inr (.inl x2) :: .inr (.inl x1) :: r => k ls (.inr (.inl (x1 - x2)) :: r) s
      | _ => none
    | .lmul => match st with
      | .inr (.inl x2) :: .inr (.inl x1) :: r => k ls (.inr (.inl (x1 * x2)) :: r) s
      | _ => none
    | .lcmp => match st with
      | .inr (.inl x2) :: .inr (.inl x1) :: r => k ls (.inl (lg_cmp x1 x2) :: r) s
      | _ => none
    | .i2l => match st with
      | .inl x1 :: r => k ls (.inr (.inl x1.toInt64) :: r) s
      | _ => none
    | .i2b => match st with
      | .inl x1 :: r => k ls (.inl x1.toInt8.toInt32 :: r) s
      | _ => none
    | .i2s => match st with
      | .inl x1 :: r => k ls (.inl x1.toInt16.toInt32 :: r) s
      | _ => none
    | .i2c => match st with
      | .inl x1 :: r => k ls (.inl (x1.toUInt32 % 65536).toInt32 :: r) s
      | _ => none
    | .dup => match st with
      | w :: r => (match tb_long w with
      | false => k ls (w :: w :: r) s
      | true => none)
      | _ => none
    | .pop => match st with
      | w :: r => (match tb_long w with
      | false => k ls (r) s
      | true => none)
      | _ => none
    | .dup2 => match st with
      | w :: z :: r => (match tb_long w with
      | false => (match tb_long z with
      | false => k ls (w :: z :: w :: z :: r) s
      | true => none)
      | true => none)
      | _ => none
    | .dup_x1 => match st with
      | w :: z :: r => (match tb_long w with
      | false => (match tb_long z with
      | false => k ls (w :: z :: w :: r) s
      | true => none)
      | true => none)
      | _ => none
    | .getfield _ => match st with
      | .inr (.inr (some (c, i))) :: r => (match tb_fok c l with
        | true => (match b with
          | 0 => k ls (.inl (s.1 c i a) :: r) s
          | 1 => k ls (.inr (.inl (s.2.1 c i a)) :: r) s
          | _ => (match T c a with
            | none => k ls (.inr (.inr (s.2.2.1 c i a)) :: r) s
            | some t => k ls (.inr (.inr (some (t i))) :: r) s))
        | false => none)
      | _ => none
    | .putfield _ => match st with
      | .inl x :: .inr (.inr (some (c, i))) :: r => (match tb_fok c l with
        | true => (match b with
          | 0 => k ls r (tb_sI s c i a x)
          | _ => none)
        | false => none)
      | .inr (.inr x) :: .inr (.inr (some (c, i))) :: r => (match tb_fok c l with
        | true => (match b with
          | 2 => (match T c a with
            | none => k ls r (tb_sR s c i a x)
            | some _ => none)
          | _ => none)
        | false => none)
      | _ => none
    | _ => stop
section TBS
variable {γ : tbG} {y : tbM} {d mc ms : Nat} {Q : tbO → tbS → Prop} {nc ns pc a b : Nat} {ls : tbL} {st : List tbV} {s : tbS} {l : List Nat} {v : tbV} {cs : List tbI}
/-- getfield, of a place whose content is known once the thing is made -/
theorem tb_getfT {n c k : Nat} {w : tbV} (h1 : (tb_role c).1 = 0) (h2 : (tb_role c).2.1 ∈ l) (hw : k < s.2.2.2.2 c → tb_val s c k a b = w) (kk : Ex γ y d mc ms Q nc ns cs ls (w :: st) s) : Ex γ y d mc ms Q nc ns ((pc, .getfield n, a, b, l, v) :: cs) ls (.inr (.inr (some (c, k))) :: st) s := by
  intro p e u m args below meth c0 H locs A α Lv α0 C0 E O L K1 K2 R S X
  have h := hw K2.1
  subst h
  exact tb_getf h1 h2 kk p e u m args below meth c0 H locs A α Lv α0 C0 E O L K1 K2 R S X
theorem tb_step_ok {R : Type} {T : Nat → Nat → Option (Nat → tbA)} {ins : Instr} {stop : Option R} {k : tbL → List tbV → tbS → Option R} {r : R} (hF : tb_Fix T s) (h : tb_step T (pc, ins, a, b, l, v) ls st s stop k = some r) :
    stop = some r ∨ ∃ ls' st' s', k ls' st' s' = some r ∧ (∀ cs, Ex γ y d mc ms Q nc ns cs ls' st' s' → Ex γ y d mc ms Q nc ns ((pc, ins, a, b, l, v) :: cs) ls st s) ∧ (tb_Fix T s → tb_Fix T s') := by
  unfold tb_step at h
  dsimp only at h
  cases ins
  case aconst_null =>
    dsimp only at h
    exact Or.inr ⟨_, _, _, h, fun cs kk => tb_null kk, fun f => f⟩
  case iconst _ =>
    dsimp only at h
    exact Or.inr ⟨_, _, _, h, fun cs kk => tb_iconst kk, fun f => f⟩
  case bipush _ =>
    dsimp only at h
    exact Or.inr ⟨_, _, _, h, fun cs kk => tb_bipush kk, fun f => f⟩
  case sipush _ =>
    dsimp only at h
    exact Or.inr ⟨_, _, _, h, fun cs kk => tb_sipush kk, fun f => f⟩
  case lconst _ =>
    dsimp only at h
    exact Or.inr ⟨_, _, _, h, fun cs kk => tb_lconst kk, fun f => f⟩
  case ldc2_w _ =>
    dsimp only at h
    exact Or.inr ⟨_, _, _, h, fun cs kk => tb_ldc2 kk, fun f => f⟩
  case ldc_w _ =>
    dsimp only at h
    split at h
    · exact Or.inr ⟨_, _, _, h, fun cs kk => tb_ldcw rfl kk, fun f => f⟩
    · exact Or.inl h
  case iload_n _ =>
    dsimp only at h
    split at h
    · rename_i x hg
      exact Or.inr ⟨_, _, _, h, fun cs kk => tb_iload_n hg kk, fun f => f⟩
    · cases h
  case iload _ =>
    dsimp only at h
    split at h
    · rename_i x hg
      exact Or.inr ⟨_, _, _, h, fun cs kk => tb_iload hg kk, fun f => f⟩
    · cases h
  case lload_n _ =>
    dsimp only at h
    split at h
    · rename_i x hg
      exact Or.inr ⟨_, _, _, h, fun cs kk => tb_lload_n hg kk, fun f => f⟩
    · cases h
  case lload _ =>
    dsimp only at h
    split at h
    · rename_i x hg
      exact Or.inr ⟨_, _, _, h, fun cs kk => tb_lload hg kk, fun f => f⟩
    · cases h
  case aload_n _ =>
    dsimp only at h
    split at h
    · rename_i x hg
      exact Or.inr ⟨_, _, _, h, fun cs kk => tb_aload_n hg kk, fun f => f⟩
    · cases h
  case aload _ =>
    dsimp only at h
    split at h
    · rename_i x hg
      exact Or.inr ⟨_, _, _, h, fun cs kk => tb_aload hg kk, fun f => f⟩
    · cases h
  case istore_n _ =>
    dsimp only at h
    split at h
    · obtain ⟨ls', g1, g2, g3, g4⟩ := tb_put_spec _ _ _ _ _ h
      exact Or.inr ⟨_, _, _, g1, fun cs kk => tb_istore_n g2 g3 g4 kk, fun f => f⟩
    · cases h
  case istore _ =>
    dsimp only at h
    split at h
    · obtain ⟨ls', g1, g2, g3, g4⟩ := tb_put_spec _ _ _ _ _ h
      exact Or.inr ⟨_, _, _, g1, fun cs kk => tb_istore g2 g3 g4 kk, fun f => f⟩
    · cases h
  case astore_n _ =>
    dsimp only at h
    split at h
    · obtain ⟨ls', g1, g2, g3, g4⟩ := tb_put_spec _ _ _ _ _ h
      exact Or.inr ⟨_, _, _, g1, fun cs kk => tb_astore_n g2 g3 g4 kk, fun f => f⟩
    · cases h
  case astore _ =>
    dsimp only at h
    split at h
    · obtain ⟨ls', g1, g2, g3, g4⟩ := tb_put_spec _ _ _ _ _ h
      exact Or.inr ⟨_, _, _, g1, fun cs kk => tb_astore g2 g3 g4 kk, fun f => f⟩
    · cases h
  case lstore_n _ =>
    dsimp only at h
    split at h
    · obtain ⟨l1, g1, g2, g3, g4⟩ := tb_put_spec _ _ _ _ _ h
      obtain ⟨ls', e1, e2, e3, e4⟩ := tb_put_spec _ _ _ _ _ g1
      exact Or.inr ⟨_, _, _, e1, fun cs kk => tb_lstore_n g2 g3 g4 e2 e4 kk, fun f => f⟩
    · cases h
  case lstore _ =>
    dsimp only at h
    split at h
    · obtain ⟨l1, g1, g2, g3, g4⟩ := tb_put_spec _ _ _ _ _ h
      obtain ⟨ls', e1, e2, e3, e4⟩ := tb_put_spec _ _ _ _ _ g1
      exact Or.inr ⟨_, _, _, e1, fun cs kk => tb_lstore g2 g3 g4 e2 e4 kk, fun f => f⟩
    · cases h
  case iinc _ _ =>
    dsimp only at h
    split at h
    · rename_i x hg
      split at h
      · obtain ⟨ls', g1, g2, g3, g4⟩ := tb_put_spec _ _ _ _ _ h
        exact Or.inr ⟨_, _, _, g1, fun cs kk => tb_iinc hg rfl g2 g3 g4 kk, fun f => f⟩
      · cases h
    · cases h
  case iadd =>
    dsimp only at h
    split at h
    · exact Or.inr ⟨_, _, _, h, fun cs kk => tb_iadd kk, fun f => f⟩
    · cases h
  case isub =>
    dsimp only at h
    split at h
    · exact Or.inr ⟨_, _, _, h, fun cs kk => tb_isub kk, fun f => f⟩
    · cases h
  case imul =>
    dsimp only at h
    split at h
    · exact Or.inr ⟨_, _, _, h, fun cs kk => tb_imul kk, fun f => f⟩
    · cases h
  case iand =>
    dsimp only at h
    split at h
    · exact Or.inr ⟨_, _, _, h, fun cs kk => tb_iand kk, fun f => f⟩
    · cases h
  case ior =>
    dsimp only at h
    split at h
    · exact Or.inr ⟨_, _, _, h, fun cs kk => tb_ior kk, fun f => f⟩
    · cases h
  case ixor =>
    dsimp only at h
    split at h
    · exact Or.inr ⟨_, _, _, h, fun cs kk => tb_ixor kk, fun f => f⟩
    · cases h
  case ishl =>
    dsimp only at h
    split at h
    · exact Or.inr ⟨_, _, _, h, fun cs kk => tb_ishl kk, fun f => f⟩
    · cases h
  case ishr =>
    dsimp only at h
    split at h
    · exact Or.inr ⟨_, _, _, h, fun cs kk => tb_ishr kk, fun f => f⟩
    · cases h
  case iushr =>
    dsimp only at h
    split at h
    · exact Or.inr ⟨_, _, _, h, fun cs kk => tb_iushr kk, fun f => f⟩
    · cases h
  case ineg =>
    dsimp only at h
    split at h
    · exact Or.inr ⟨_, _, _, h, fun cs kk => tb_ineg kk, fun f => f⟩
    · cases h
  case ladd =>
    dsimp only at h
    split at h
    · exact Or.inr ⟨_, _, _, h, fun cs kk => tb_ladd kk, fun f => f⟩
    · cases h
  case lsub =>
    dsimp only at h
    split at h
    · exact Or.inr ⟨_, _, _, h, fun cs kk => tb_lsub kk, fun f => f⟩
    · cases h
  case lmul =>
    dsimp only at h
    split at h
    · exact Or.inr ⟨_, _, _, h, fun cs kk => tb_lmul kk, fun f => f⟩
    · cases h
  case lcmp =>
    dsimp only at h
    split at h
    · exact Or.inr ⟨_, _, _, h, fun cs kk => tb_lcmp kk, fun f => f⟩
    · cases h
  case i2l =>
    dsimp only at h
    split at h
    · exact Or.inr ⟨_, _, _, h, fun cs kk => tb_i2l kk, fun f => f⟩
    · cases h
  case i2b =>
    dsimp only at h
    split at h
    · exact Or.inr ⟨_, _, _, h, fun cs kk => tb_i2b kk, fun f => f⟩
    · cases h
  case i2s =>
    dsimp only at h
    split at h
    · exact Or.inr ⟨_, _, _, h, fun cs kk => tb_i2s kk, fun f => f⟩
    · cases h
  case i2c =>
    dsimp only at h
    split at h
    · exact Or.inr ⟨_, _, _, h, fun cs kk => tb_i2c kk, fun f => f⟩
    · cases h
  case dup =>
    dsimp only at h
    split at h
    · split at h
      · rename_i hw
        exact Or.inr ⟨_, _, _, h, fun cs kk => tb_dup hw kk, fun f => f⟩
      · cases h
    · cases h
  case pop =>
    dsimp only at h
    split at h
    · split at h
      · rename_i hw
        exact Or.inr ⟨_, _, _, h, fun cs kk => tb_pop hw kk, fun f => f⟩
      · cases h
    · cases h
  case dup2 =>
    dsimp only at h
    split at h
    · split at h
      · rename_i hw
        split at h
        · rename_i hz
          exact Or.inr ⟨_, _, _, h, fun cs kk => tb_dup2 hw hz kk, fun f => f⟩
        · cases h
      · cases h
    · cases h
  case dup_x1 =>
    dsimp only at h
    split at h
    · split at h
      · rename_i hw
        split at h
        · rename_i hz
          exact Or.inr ⟨_, _, _, h, fun cs kk => tb_dup_x1 hw hz kk, fun f => f⟩
        · cases h
      · cases h
    · cases h
  case getfield _ =>
    dsimp only at h
    split at h
    · split at h
      · rename_i hok
        obtain ⟨o1, o2⟩ := tb_fok_spec hok
        split at h
        · exact Or.inr ⟨_, _, _, h, fun cs kk => tb_getf o1 o2 kk, fun f => f⟩
        · exact Or.inr ⟨_, _, _, h, fun cs kk => tb_getf o1 o2 kk, fun f => f⟩
        · rename_i hb1 hb2
          have hval : ∀ c i, tb_val s c i a b = .inr (.inr (s.2.2.1 c i a)) := fun c i => by
            unfold tb_val
            split
            · exact absurd rfl hb1
            · exact absurd rfl hb2
            · rfl
          split at h
          · exact Or.inr ⟨_, _, _, h, fun cs kk => tb_getf o1 o2 (by rw [hval]; exact kk), fun f => f⟩
          · rename_i ht
            exact Or.inr ⟨_, _, _, h, fun cs kk => tb_getfT o1 o2 (fun hk => by rw [hval, hF _ _ _ _ ht hk]) kk, fun f => f⟩
      · cases h
    · cases h
  case putfield _ =>
    dsimp only at h
    split at h
    · split at h
      · rename_i hok
        obtain ⟨o1, o2⟩ := tb_fok_spec hok
        split at h
        · exact Or.inr ⟨_, _, _, h, fun cs kk => tb_putI o1 o2 rfl kk, fun f => f⟩
        · cases h
      · cases h
    · split at h
      · rename_i hok
        obtain ⟨o1, o2⟩ := tb_fok_spec hok
        split at h
        · split at h
          · rename_i ht
            exact Or.inr ⟨_, _, _, h, fun cs kk => tb_putR o1 o2 rfl kk, fun f => tb_Fix_sR ht f⟩
          · cases h
        · cases h
      · cases h
    · cases h
  all_goals exact Or.inl h
def tb_run (T : Nat → Nat → Option (Nat → tbA)) : Nat → List tbI → tbL → List tbV → tbS → Option (List tbI × tbL × List tbV × tbS)
  | 0, cs, ls, st, s => some (cs, ls, st, s)
  | _ + 1, [], ls, st, s => some ([], ls, st, s)
  | n + 1, i :: cs, ls, st, s => tb_step T i ls st s (some (i :: cs, ls, st, s)) (fun ls' st' s' => tb_run T n cs ls' st' s')
theorem Ex.run {T : Nat → Nat → Option (Nat → tbA)} : ∀ (n : Nat) {cs cs' : List tbI} {ls ls' : tbL} {st st' : List tbV} {s s' : tbS}, tb_Fix T s → tb_run T n cs ls st s = some (cs', ls', st', s') → Ex γ y d mc ms Q nc ns cs' ls' st' s' → Ex γ y d mc ms Q nc ns cs ls st s
  | 0, cs, cs', ls, ls', st, st', s, s', _, h, k => by
    cases h
    exact k
  | n + 1, [], cs', ls, ls', st, st', s, s', _, h, k => by
    cases h
    exact k
  | n + 1, (pc, ins, a, b, l, v) :: cs, cs', ls, ls', st, st', s, s', hF, h, k => by
    have h : tb_step T (pc, ins, a, b, l, v) ls st s (some ((pc, ins, a, b, l, v) :: cs, ls, st, s)) (fun ls' st' s' => tb_run T n cs ls' st' s') = some (cs', ls', st', s') := h
    rcases tb_step_ok (γ := γ) (y := y) (d := d) (mc := mc) (ms := ms) (Q := Q) (nc := nc) (ns := ns) hF h with h1 | ⟨l1, t1, s1, g1, g2, g3⟩
    · cases h1
      exact k
    · exact g2 cs (Ex.run n (g3 hF) g1 k)
end TBS
