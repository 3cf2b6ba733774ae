/-! BRANCHES THAT MEET AGAIN: block n is reached with one value or another one on the stack (printed by tools) -/
set_option maxRecDepth 100000
section TBJ
variable {γ : tbG} {y : tbM} {d mc ms : Nat} {Q : tbO → tbS → Prop} {nc ns pc a b : Nat} {cs : List tbI} {ls : tbL} {st : List tbV} {s : tbS} {l : List Nat} {v : tbV}
theorem tb_icmp_eq_J {o : Int} {x1 x2 : Int32} (n : Nat) (xt xf : Int32) (kt : Ex γ y d mc ms Q nc ns (y.2.2.2.2.2.2 n) ls (.inl xt :: st) s → Ex γ y d mc ms Q nc ns (y.2.2.2.2.2.2 a) ls st s) (kf : Ex γ y d mc ms Q nc ns (y.2.2.2.2.2.2 n) ls (.inl xf :: st) s → Ex γ y d mc ms Q nc ns cs ls st s)
    (k : Ex γ y d mc ms Q nc ns (y.2.2.2.2.2.2 n) ls (.inl (if x1 = x2 then xt else xf) :: st) s) : Ex γ y d mc ms Q nc ns ((pc, .if_icmp .eq o, a, b, l, v) :: cs) ls (.inl x2 :: .inl x1 :: st) s :=
  tb_icmp_eq (fun h => kt (by rw [if_pos h] at k; exact k)) (fun h => kf (by rw [if_neg h] at k; exact k))
theorem tb_icmp_ne_J {o : Int} {x1 x2 : Int32} (n : Nat) (xt xf : Int32) (kt : Ex γ y d mc ms Q nc ns (y.2.2.2.2.2.2 n) ls (.inl xt :: st) s → Ex γ y d mc ms Q nc ns (y.2.2.2.2.2.2 a) ls st s) (kf : Ex γ y d mc ms Q nc ns (y.2.2.2.2.2.2 n) ls (.inl xf :: st) s → Ex γ y d mc ms Q nc ns cs ls st s)
    (k : Ex γ y d mc ms Q nc ns (y.2.2.2.2.2.2 n) ls (.inl (if ¬ x1 = x2 then xt else xf) :: st) s) : Ex γ y d mc ms Q nc ns ((pc, .if_icmp .ne o, a, b, l, v) :: cs) ls (.inl x2 :: .inl x1 :: st) s :=
  tb_icmp_ne (fun h => kt (by rw [if_pos h] at k; exact k)) (fun h => kf (by rw [if_neg (fun q => q h)] at k; exact k))
theorem tb_icmp_lt_J {o : Int} {x1 x2 : Int32} (n : Nat) (xt xf : Int32) (kt : Ex γ y d mc ms Q nc ns (y.2.2.2.2.2.2 n) ls (.inl xt :: st) s → Ex γ y d mc ms Q nc ns (y.2.2.2.2.2.2 a) ls st s) (kf : Ex γ y d mc ms Q nc ns (y.2.2.2.2.2.2 n) ls (.inl xf :: st) s → Ex γ y d mc ms Q nc ns cs ls st s)
    (k : Ex γ y d mc ms Q nc ns (y.2.2.2.2.2.2 n) ls (.inl (if x1 < x2 then xt else xf) :: st) s) : Ex γ y d mc ms Q nc ns ((pc, .if_icmp .lt o, a, b, l, v) :: cs) ls (.inl x2 :: .inl x1 :: st) s :=
  tb_icmp_lt (fun h => kt (by rw [if_pos h] at k; exact k)) (fun h => kf (by rw [if_neg h] at k; exact k))
theorem tb_icmp_ge_J {o : Int} {x1 x2 : Int32} (n : Nat) (xt xf : Int32) (kt : Ex γ y d mc ms Q nc ns (y.2.2.2.2.2.2 n) ls (.inl xt :: st) s → Ex γ y d mc ms Q nc ns (y.2.2.2.2.2.2 a) ls st s) (kf : Ex γ y d mc ms Q nc ns (y.2.2.2.2.2.2 n) ls (.inl xf :: st) s → Ex γ y d mc ms Q nc ns cs ls st s)
    (k : Ex γ y d mc ms Q nc ns (y.2.2.2.2.2.2 n) ls (.inl (if x2 ≤ x1 then xt else xf) :: st) s) : Ex γ y d mc ms Q nc ns ((pc, .if_icmp .ge o, a, b, l, v) :: cs) ls (.inl x2 :: .inl x1 :: st) s :=
  tb_icmp_ge (fun h => kt (by rw [if_pos h] at k; exact k)) (fun h => kf (by rw [if_neg h] at k; exact k))
theorem tb_icmp_gt_J {o : Int} {x1 x2 : Int32} (n : Nat) (xt xf : Int32) (kt : Ex γ y d mc ms Q nc ns (y.2.2.2.2.2.2 n) ls (.inl xt :: st) s → Ex γ y d mc ms Q nc ns (y.2.2.2.2.2.2 a) ls st s) (kf : Ex γ y d mc ms Q nc ns (y.2.2.2.2.2.2 n) ls (.inl xf :: st) s → Ex γ y d mc ms Q nc ns cs ls st s)
    (k : Ex γ y d mc ms Q nc ns (y.2.2.2.2.2.2 n) ls (.inl (if x2 < x1 then xt else xf) :: st) s) : Ex γ y d mc ms Q nc ns ((pc, .if_icmp .gt o, a, b, l, v) :: cs) ls (.inl x2 :: .inl x1 :: st) s :=
  tb_icmp_gt (fun h => kt (by rw [if_pos h] at k; exact k)) (fun h => kf (by rw [if_neg h] at k; exact k))
theorem tb_icmp_le_J {o : Int} {x1 x2 : Int32} (n : Nat) (xt xf : Int32) (kt : Ex γ y d mc ms Q nc ns (y.2.2.2.2.2.2 n) ls (.inl xt :: st) s → Ex γ y d mc ms Q nc ns (y.2.2.2.2.2.2 a) ls st s) (kf : Ex γ y d mc ms Q nc ns (y.2.2.2.2.2.2 n) ls (.inl xf :: st) s → Ex γ y d mc ms Q nc ns cs ls st s)
    (k : Ex γ y d mc ms Q nc ns (y.2.2.2.2.2.2 n) ls (.inl (if x1 ≤ x2 then xt else xf) :: st) s) : Ex γ y d mc ms Q nc ns ((pc, .if_icmp .le o, a, b, l, v) :: cs) ls (.inl x2 :: .inl x1 :: st) s :=
  tb_icmp_le (fun h => kt (by rw [if_pos h] at k; exact k)) (fun h => kf (by rw [if_neg h] at k; exact k))
theorem tb_if_eq_J {o : Int} {x1 : Int32} (n : Nat) (xt xf : Int32) (kt : Ex γ y d mc ms Q nc ns (y.2.2.2.2.2.2 n) ls (.inl xt :: st) s → Ex γ y d mc ms Q nc ns (y.2.2.2.2.2.2 a) ls st s) (kf : Ex γ y d mc ms Q nc ns (y.2.2.2.2.2.2 n) ls (.inl xf :: st) s → Ex γ y d mc ms Q nc ns cs ls st s)
    (k : Ex γ y d mc ms Q nc ns (y.2.2.2.2.2.2 n) ls (.inl (if x1 = 0 then xt else xf) :: st) s) : Ex γ y d mc ms Q nc ns ((pc, .ifCond .eq o, a, b, l, v) :: cs) ls (.inl x1 :: st) s :=
  tb_if_eq (fun h => kt (by rw [if_pos h] at k; exact k)) (fun h => kf (by rw [if_neg h] at k; exact k))
theorem tb_if_ne_J {o : Int} {x1 : Int32} (n : Nat) (xt xf : Int32) (kt : Ex γ y d mc ms Q nc ns (y.2.2.2.2.2.2 n) ls (.inl xt :: st) s → Ex γ y d mc ms Q nc ns (y.2.2.2.2.2.2 a) ls st s) (kf : Ex γ y d mc ms Q nc ns (y.2.2.2.2.2.2 n) ls (.inl xf :: st) s → Ex γ y d mc ms Q nc ns cs ls st s)
    (k : Ex γ y d mc ms Q nc ns (y.2.2.2.2.2.2 n) ls (.inl (if ¬ x1 = 0 then xt else xf) :: st) s) : Ex γ y d mc ms Q nc ns ((pc, .ifCond .ne o, a, b, l, v) :: cs) ls (.inl x1 :: st) s :=
  tb_if_ne (fun h => kt (by rw [if_pos h] at k; exact k)) (fun h => kf (by rw [if_neg (fun q => q h)] at k; exact k))
theorem tb_if_lt_J {o : Int} {x1 : Int32} (n : Nat) (xt xf : Int32) (kt : Ex γ y d mc ms Q nc ns (y.2.2.2.2.2.2 n) ls (.inl xt :: st) s → Ex γ y d mc ms Q nc ns (y.2.2.2.2.2.2 a) ls st s) (kf : Ex γ y d mc ms Q nc ns (y.2.2.2.2.2.2 n) ls (.inl xf :: st) s → Ex γ y d mc ms Q nc ns cs ls st s)
    (k : Ex γ y d mc ms Q nc ns (y.2.2.2.2.2.2 n) ls (.inl (if x1 < 0 then xt else xf) :: st) s) : Ex γ y d mc ms Q nc ns ((pc, .ifCond .lt o, a, b, l, v) :: cs) ls (.inl x1 :: st) s :=
  tb_if_lt (fun h => kt (by rw [if_pos h] at k; exact k)) (fun h => kf (by rw [if_neg h] at k; exact k))
theorem tb_if_ge_J {o : Int} {x1 : Int32} (n : Nat) (xt xf : Int32) (kt : Ex γ y d mc ms Q nc ns (y.2.2.2.2.2.2 n) ls (.inl xt :: st) s → Ex γ y d mc ms Q nc ns (y.2.2.2.2.2.2 a) ls st s) (kf : Ex γ y d mc ms Q nc ns (y.2.2.2.2.2.2 n) ls (.inl xf :: st) s → Ex γ y d mc ms Q nc ns cs ls st s)
    (k : Ex γ y d mc ms Q nc ns (y.2.2.2.2.2.2 n) ls (.inl (if 0 ≤ x1 then xt else xf) :: st) s) : Ex γ y d mc ms Q nc ns ((pc, .ifCond .ge o, a, b, l, v) :: cs) ls (.inl x1 :: st) s :=
  tb_if_ge (fun h => kt (by rw [if_pos h] at k; exact k)) (fun h => kf (by rw [if_neg h] at k; exact k))
theorem tb_if_gt_J {o : Int} {x1 : Int32} (n : Nat) (xt xf : Int32) (kt : Ex γ y d mc ms Q nc ns (y.2.2.2.2.2.2 n) ls (.inl xt :: st) s → Ex γ y d mc ms Q nc ns (y.2.2.2.2.2.2 a) ls st s) (kf : Ex γ y d mc ms Q nc ns (y.2.2.2.2.2.2 n) ls (.inl xf :: st) s → Ex γ y d mc ms Q nc ns cs ls st s)
    (k : Ex γ y d mc ms Q nc ns (y.2.2.2.2.2.2 n) ls (.inl (if 0 < x1 then xt else xf) :: st) s) : Ex γ y d mc ms Q nc ns ((pc, .ifCond .gt o, a, b, l, v) :: cs) ls (.inl x1 :: st) s :=
  tb_if_gt (fun h => kt (by rw [if_pos h] at k; exact k)) (fun h => kf (by rw [if_neg h] at k; exact k))
theorem tb_if_le_J {o : Int} {x1 : Int32} (n : Nat) (xt xf : Int32) (kt : Ex γ y d mc ms Q nc ns (y.2.2.2.2.2.2 n) ls (.inl xt :: st) s → Ex γ y d mc ms Q nc ns (y.2.2.2.2.2.2 a) ls st s) (kf : Ex γ y d mc ms Q nc ns (y.2.2.2.2.2.2 n) ls (.inl xf :: st) s → Ex γ y d mc ms Q nc ns cs ls st s)
    (k : Ex γ y d mc ms Q nc ns (y.2.2.2.2.2.2 n) ls (.inl (if x1 ≤ 0 then xt else xf) :: st) s) : Ex γ y d mc ms Q nc ns ((pc, .ifCond .le o, a, b, l, v) :: cs) ls (.inl x1 :: st) s :=
  tb_if_le (fun h => kt (by rw [if_pos h] at k; exact k)) (fun h => kf (by rw [if_neg h] at k; exact k))
theorem tb_ifnull_J {o : Int} {x : Option tbA} (n : Nat) (xt xf : Int32) (kt : Ex γ y d mc ms Q nc ns (y.2.2.2.2.2.2 n) ls (.inl xt :: st) s → Ex γ y d mc ms Q nc ns (y.2.2.2.2.2.2 a) ls st s) (kf : Ex γ y d mc ms Q nc ns (y.2.2.2.2.2.2 n) ls (.inl xf :: st) s → Ex γ y d mc ms Q nc ns cs ls st s)
    (k : Ex γ y d mc ms Q nc ns (y.2.2.2.2.2.2 n) ls (.inl (if x = none then xt else xf) :: st) s) : Ex γ y d mc ms Q nc ns ((pc, .ifnull o, a, b, l, v) :: cs) ls (.inr (.inr x) :: st) s :=
  tb_ifnull (fun h => kt (by rw [if_pos h] at k; exact k)) (fun h => kf (by rw [if_neg h] at k; exact k))
theorem tb_ifnonnull_J {o : Int} {x : Option tbA} (n : Nat) (xt xf : Int32) (kt : Ex γ y d mc ms Q nc ns (y.2.2.2.2.2.2 n) ls (.inl xt :: st) s → Ex γ y d mc ms Q nc ns (y.2.2.2.2.2.2 a) ls st s) (kf : Ex γ y d mc ms Q nc ns (y.2.2.2.2.2.2 n) ls (.inl xf :: st) s → Ex γ y d mc ms Q nc ns cs ls st s)
    (k : Ex γ y d mc ms Q nc ns (y.2.2.2.2.2.2 n) ls (.inl (if ¬ x = none then xt else xf) :: st) s) : Ex γ y d mc ms Q nc ns ((pc, .ifnonnull o, a, b, l, v) :: cs) ls (.inr (.inr x) :: st) s :=
  tb_ifnonnull (fun h => kt (by rw [if_pos h] at k; exact k)) (fun h => kf (by rw [if_neg (fun q => q h)] at k; exact k))
end TBJ
