/-! REFERENCES THAT NEVER CHANGE, once a thing is made -/
set_option maxRecDepth 100000
def tb_Tl : List (List (Option (Nat → tbA))) :=
  [[some fun _ => (1, 0), some fun _ => (2, 0), some fun _ => (3, 0), some fun _ => (4, 0), some fun _ => (5, 0), some fun _ => (6, 0), some fun _ => (6, 1), some fun _ => (6, 2), some fun _ => (6, 3), some fun _ => (9, 0), some fun _ => (10, 0),
    some fun _ => (11, 0), some fun _ => (12, 0), some fun _ => (13, 0), some fun _ => (14, 0), some fun _ => (15, 0), some fun _ => (16, 0), some fun _ => (17, 0), none, none, none, none, none, none, some fun _ => (19, 0), none, some fun _ => (20, 0), none, none,
    some fun _ => (21, 0), some fun _ => (22, 0), some fun _ => (23, 0), some fun _ => (24, 0), none, none, some fun _ => (25, 0), some fun _ => (26, 0), none, none, some fun _ => (27, 0)],
   [some fun _ => (0, 0), some fun _ => (0, 0)], [some fun _ => (0, 0), some fun _ => (0, 0)], [some fun _ => (0, 0), some fun _ => (0, 0)], [some fun _ => (0, 0), some fun _ => (0, 0), some fun _ => (0, 0)], [some fun _ => (0, 0), some fun _ => (0, 0), some fun _ => (0, 0)],
   [some fun k => (7, k), some fun k => (8, k)], [], [], [], [], [], [], [], [], [], [], [], [], [], [], [], [], [], [], [], [], [],
   [some fun _ => (19, 0)], [], [], [], [none, none, none, none, none, none, some fun _ => (0, 0)], [], [some fun _ => (19, 0), none, none, none, some fun k => (35, k), some fun k => (36, k), some fun k => (37, k)], [], [], [], [some fun k => (6, k + 26), none, some fun _ => (0, 0)], [], [], [],
   [none, none, some fun _ => (43, 0), none, none, none, none, some fun _ => (44, 0), some fun _ => (45, 0), some fun _ => (46, 0), some fun _ => (47, 0), some fun _ => (48, 0), some fun _ => (49, 0), some fun _ => (50, 0), some fun _ => (51, 0), some fun _ => (52, 0), some fun _ => (53, 0), none, none, none, none,
    some fun _ => (54, 0), none, some fun _ => (55, 0), some fun _ => (56, 0), some fun _ => (57, 0), none, none, some fun _ => (58, 0), some fun _ => (59, 0), none, some fun _ => (60, 0), none, some fun _ => (61, 0), some fun _ => (62, 0), some fun _ => (63, 0), none, some fun _ => (64, 0), some fun _ => (65, 0), some fun _ => (66, 0), some fun _ => (67, 0), none, some fun _ => (68, 0),
    none, none, some fun _ => (69, 0), none, some fun _ => (70, 0), some fun _ => (71, 0), none, some fun _ => (72, 0), some fun _ => (73, 0), some fun _ => (74, 0)]]
def tb_T (e : List Nat) (c a : Nat) : Option (Nat → tbA) := match e.elem c with
  | true => none
  | false => tb_nth (tb_nth tb_Tl c []) a none
theorem tb_T_less {e : List Nat} {s : tbS} (h : tb_Fix (tb_T []) s) : tb_Fix (tb_T e) s := by
  intro c k a t ht hk
  refine h c k a t ?_ hk
  unfold tb_T at ht ⊢
  cases he : e.elem c with
  | true => rw [he] at ht; cases ht
  | false => rw [he] at ht; exact ht
abbrev cod (y : tbM) (n : Nat) : List tbI := y.2.2.2.2.2.2 n
abbrev rR (c k : Nat) : tbV := .inr (.inr (some (c, k)))
/-- the end of a contract: this answer, this memory -/
abbrev ans (w : tbV) (s' : tbS) : tbO → tbS → Prop := fun o s2 => o = .inl (some w) ∧ s2 = s'
abbrev don (s' : tbS) : tbO → tbS → Prop := fun o s2 => o = .inl none ∧ s2 = s'
