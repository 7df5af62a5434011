/-! THE SMALL MACHINE: the same bytecode over handles (a group, a member) instead of addresses, as a function. -/
abbrev mj_V : Type := Int32 ⊕ Int64 ⊕ (Nat × Nat)
abbrev mj_L : Type := List (Nat × mj_V)
abbrev mj_H : Type := (Nat → Nat → Nat → Int32) × (Nat → Nat → Nat → Int64) × (Nat → Nat → Nat → Nat)
abbrev mj_F : Type := Nat × mj_L × List mj_V × mj_H
abbrev mj_O : Type := (Option mj_V × mj_H) ⊕ (Nat × mj_H)
abbrev mj_A : Type := mj_F ⊕ (Bool × mj_F × mj_F) ⊕ (Int32 × List (Int32 × Nat) × mj_F) ⊕ (Nat × Nat × List mj_V × mj_F) ⊕ mj_O
abbrev vI (x : Int32) : mj_V := .inl x
abbrev vL (x : Int64) : mj_V := .inr (.inl x)
abbrev vR (g k : Nat) : mj_V := .inr (.inr (g, k))
/-- an operation, resolved: its code, the next place, and numbers a b c e, a number v -/
abbrev mj_P : Type := Nat × Nat × Nat × Nat × Nat × Nat × Int32
/-- the program as data: code of the methods, groups (kind, a), lengths, static references, switches, texts' lengths and signs -/
abbrev mj_G : Type := (Nat → Nat → Option mj_P) × (Nat → Nat × Nat) × (Nat → Nat → Nat) × (Nat → Nat → Nat → Nat × Nat) × (Nat → List (Int32 × Nat)) × (Nat → Nat) × (Nat → Nat → Nat)
abbrev mj_G.code (G : mj_G) := G.1
abbrev mj_G.grp (G : mj_G) := G.2.1
abbrev mj_G.len (G : mj_G) := G.2.2.1
abbrev mj_G.ref (G : mj_G) := G.2.2.2.1
abbrev mj_G.sw (G : mj_G) := G.2.2.2.2.1
abbrev mj_G.sln (G : mj_G) := G.2.2.2.2.2.1
abbrev mj_G.sch (G : mj_G) := G.2.2.2.2.2.2
def mj_cat (v : mj_V) : Nat := match v with
  | .inl _ => 1
  | .inr (.inl _) => 2
  | .inr (.inr _) => 1
def mj_kd (v : mj_V) : Nat := match v with
  | .inl _ => 0
  | .inr (.inl _) => 1
  | .inr (.inr _) => 2
/-- the words of a stack -/
def mj_wd : List mj_V → Nat
  | [] => 0
  | v :: r => mj_cat v + mj_wd r
def mj_get (i : Nat) : mj_L → Option mj_V
  | [] => none
  | q :: r => bif Nat.beq q.1 i then some q.2 else mj_get i r
def mj_st1 (lv : mj_L) (i : Nat) (v : mj_V) : mj_L := (i, v) :: lv.filter (fun q => !(Nat.beq q.1 i) && !(Nat.beq (q.1 + 1) i && Nat.beq (mj_cat q.2) 2))
def mj_st2 (lv : mj_L) (i : Nat) (v : mj_V) : mj_L := (i, v) :: lv.filter (fun q => !(Nat.beq q.1 i) && (!(Nat.beq q.1 (i + 1)) && !(Nat.beq (q.1 + 1) i && Nat.beq (mj_cat q.2) 2)))
def mj_args : Nat → List mj_V → mj_L
  | _, [] => []
  | i, v :: vs => (i, v) :: mj_args (i + mj_cat v) vs
abbrev mj_in (i : Int32) (n : Nat) : Prop := 0 ≤ i.toInt ∧ i.toInt < (n : Int)
def mj_sI (h : mj_H) (g i j : Nat) (v : Int32) : mj_H := (va_up h.1 g (va_up (h.1 g) i (va_up (h.1 g i) j v)), h.2)
def mj_sL (h : mj_H) (g i j : Nat) (v : Int64) : mj_H := (h.1, va_up h.2.1 g (va_up (h.2.1 g) i (va_up (h.2.1 g i) j v)), h.2.2)
def mj_sR (h : mj_H) (g i j : Nat) (v : Nat) : mj_H := (h.1, h.2.1, va_up h.2.2 g (va_up (h.2.2 g) i (va_up (h.2.2 g i) j v)))
abbrev mj_go (pc : Nat) (lv : mj_L) (st : List mj_V) (h : mj_H) : Option (Bool × mj_A) := some (true, .inl (pc, lv, st, h))
abbrev mj_gd (b : Bool) (pc : Nat) (lv : mj_L) (st : List mj_V) (h : mj_H) : Option (Bool × mj_A) := some (b, .inl (pc, lv, st, h))
abbrev mj_br (b : Bool) (p1 p2 : Nat) (lv : mj_L) (st : List mj_V) (h : mj_H) : Option (Bool × mj_A) := some (true, .inr (.inl (b, (p1, lv, st, h), (p2, lv, st, h))))
abbrev mj_rt (b : Bool) (o : mj_O) : Option (Bool × mj_A) := some (b, .inr (.inr (.inr (.inr o))))
def mj_cmp (c : Nat) (x y : Int32) : Bool := match c with
  | 0 => decide (x = y)
  | 1 => decide (¬ x = y)
  | 2 => decide (x < y)
  | 3 => decide (y ≤ x)
  | 4 => decide (y < x)
  | _ => decide (x ≤ y)
def mj_bif (c : Nat) (x y : Int32) : Int32 := match c with
  | 0 => x + y
  | 1 => x - y
  | 2 => x * y
  | 3 => x &&& y
  | 4 => x ||| y
  | 5 => x ^^^ y
  | 6 => x <<< (y &&& 31)
  | 7 => x >>> (y &&& 31)
  | _ => (x.toUInt32 >>> (y.toUInt32 &&& Int32.toUInt32 31)).toInt32
def mj_blf (c : Nat) (x y : Int64) : Int64 := match c with
  | 0 => x + y
  | 1 => x - y
  | 2 => x * y
  | _ => x ||| y
/-- the first k of a stack, the lowest first, and the rest -/
def mj_pop : Nat → List mj_V → List mj_V → Option (List mj_V × List mj_V)
  | 0, acc, st => some (acc, st)
  | k + 1, acc, v :: st => mj_pop k (v :: acc) st
  | _ + 1, _, [] => none
def mj_sel (x : Int32) : List (Int32 × Nat) → Nat → Nat
  | [], d => d
  | q :: r, d => if x = q.1 then q.2 else mj_sel x r d
/-- where a sign first stands in a text of n signs, from i on -/
def mj_ix (f : Nat → Nat) (c : Int32) : Nat → Nat → Int32
  | 0, _ => -1
  | n + 1, i => if c = nI (f i) then nI i else mj_ix f c n (i + 1)
abbrev mj_T : Type := Option (Bool × mj_A)
section
variable (G : mj_G) (n a b c e : Nat) (v : Int32) (lv : mj_L) (st : List mj_V) (h : mj_H)
def mo_load : mj_T := match mj_get a lv with
  | none => none
  | some x => mj_gd (Nat.beq (mj_kd x) b) n lv (x :: st) h
def mo_st1 : mj_T := match st with
  | .inl x :: r => mj_gd (Nat.beq b 0) n (mj_st1 lv a (.inl x)) r h
  | .inr (.inr x) :: r => mj_gd (Nat.beq b 2) n (mj_st1 lv a (.inr (.inr x))) r h
  | _ => none
def mo_st2 : mj_T := match st with
  | .inr (.inl x) :: r => mj_go n (mj_st2 lv a (.inr (.inl x))) r h
  | _ => none
def mo_inc : mj_T := match mj_get a lv with
  | some (.inl x) => mj_go n (mj_st1 lv a (.inl (x + v))) st h
  | _ => none
def mo_if : mj_T := match st with
  | .inl x :: r => mj_br (mj_cmp b x 0) a n lv r h
  | _ => none
def mo_icmp : mj_T := match st with
  | .inl y :: .inl x :: r => mj_br (mj_cmp b x y) a n lv r h
  | _ => none
def mo_acmp : mj_T := match st with
  | .inr (.inr (g', k')) :: .inr (.inr (g, k)) :: r => some (Nat.beq g' g, .inr (.inl (decide (k = k'), (a, lv, r, h), (n, lv, r, h))))
  | _ => none
def mo_acmn : mj_T := match st with
  | .inr (.inr (g', k')) :: .inr (.inr (g, k)) :: r => some (Nat.beq g' g, .inr (.inl (decide (k = k'), (n, lv, r, h), (a, lv, r, h))))
  | _ => none
def mo_is (g : Nat) : Bool := Nat.beq (G.grp g).1 0 && Nat.beq (G.grp g).2 a
def mo_getI : mj_T := match st with
  | .inr (.inr (g, k)) :: r => mj_gd (mo_is G a g) n lv (.inl (h.1 g k b) :: r) h
  | _ => none
def mo_getL : mj_T := match st with
  | .inr (.inr (g, k)) :: r => mj_gd (mo_is G a g) n lv (.inr (.inl (h.2.1 g k b)) :: r) h
  | _ => none
def mo_getS : mj_T := match st with
  | .inr (.inr (g, k)) :: r => mj_gd (mo_is G a g) n lv (.inr (.inr (G.ref g k b)) :: r) h
  | _ => none
def mo_getD : mj_T := match st with
  | .inr (.inr (g, k)) :: r => mj_gd (mo_is G a g && decide (0 < h.2.2 g k b)) n lv (.inr (.inr (c, h.2.2 g k b - 1)) :: r) h
  | _ => none
def mo_putI : mj_T := match st with
  | .inl x :: .inr (.inr (g, k)) :: r => mj_gd (mo_is G a g) n lv r (mj_sI h g k b x)
  | _ => none
def mo_putZ : mj_T := match st with
  | .inl x :: .inr (.inr (g, k)) :: r => mj_gd (mo_is G a g && decide (x = 0 ∨ x = 1)) n lv r (mj_sI h g k b x)
  | _ => none
def mo_putL : mj_T := match st with
  | .inr (.inl x) :: .inr (.inr (g, k)) :: r => mj_gd (mo_is G a g) n lv r (mj_sL h g k b x)
  | _ => none
def mo_putD : mj_T := match st with
  | .inr (.inr (g2, k2)) :: .inr (.inr (g, k)) :: r => mj_gd (mo_is G a g && Nat.beq g2 c) n lv r (mj_sR h g k b (k2 + 1))
  | _ => none
/-- reading an element: its group's kind says which heap -/
def mo_ald : mj_T := match st with
  | .inl i :: .inr (.inr (g, k)) :: r => match (G.grp g).1 with
    | 1 => mj_gd (Nat.beq b 1 && decide (mj_in i (G.len g k))) n lv (.inl (h.1 g k i.toNatClampNeg) :: r) h
    | 2 => mj_gd (Nat.beq b 2 && decide (mj_in i (G.len g k))) n lv (.inl (h.1 g k i.toNatClampNeg) :: r) h
    | 3 => mj_gd (Nat.beq b 2 && decide (mj_in i (G.len g k))) n lv (.inl (h.1 g k i.toNatClampNeg) :: r) h
    | 4 => mj_gd (Nat.beq b 4 && decide (mj_in i (G.len g k))) n lv (.inr (.inl (h.2.1 g k i.toNatClampNeg)) :: r) h
    | 5 => mj_gd (Nat.beq b 5 && decide (mj_in i (G.len g k))) n lv (.inr (.inr ((G.grp g).2, i.toNatClampNeg)) :: r) h
    | 6 => mj_gd (Nat.beq b 5 && decide (mj_in i (G.len g k) ∧ 0 < h.2.2 g k i.toNatClampNeg)) n lv (.inr (.inr ((G.grp g).2, h.2.2 g k i.toNatClampNeg - 1)) :: r) h
    | _ => none
  | _ => none
def mo_ast : mj_T := match st with
  | .inl x :: .inl i :: .inr (.inr (g, k)) :: r => match (G.grp g).1 with
    | 1 => mj_gd (Nat.beq b 1 && decide (mj_in i (G.len g k))) n lv r (mj_sI h g k i.toNatClampNeg x)
    | 2 => mj_gd (Nat.beq b 2 && decide (mj_in i (G.len g k))) n lv r (mj_sI h g k i.toNatClampNeg (x &&& 1))
    | 3 => mj_gd (Nat.beq b 2 && decide (mj_in i (G.len g k))) n lv r (mj_sI h g k i.toNatClampNeg x.toInt8.toInt32)
    | _ => none
  | .inr (.inl x) :: .inl i :: .inr (.inr (g, k)) :: r => match (G.grp g).1 with
    | 4 => mj_gd (Nat.beq b 4 && decide (mj_in i (G.len g k))) n lv r (mj_sL h g k i.toNatClampNeg x)
    | _ => none
  | .inr (.inr (g2, k2)) :: .inl i :: .inr (.inr (g, k)) :: r => match (G.grp g).1 with
    | 6 => mj_gd (Nat.beq b 5 && Nat.beq g2 (G.grp g).2 && decide (mj_in i (G.len g k))) n lv r (mj_sR h g k i.toNatClampNeg (k2 + 1))
    | _ => none
  | _ => none
def mo_bi : mj_T := match st with
  | .inl y :: .inl x :: r => mj_go n lv (.inl (mj_bif b x y) :: r) h
  | _ => none
def mo_div : mj_T := match st with
  | .inl y :: .inl x :: r => mj_gd (decide (¬ y = 0)) n lv (.inl (x / y) :: r) h
  | _ => none
def mo_rem : mj_T := match st with
  | .inl y :: .inl x :: r => mj_gd (decide (¬ y = 0)) n lv (.inl (x - x / y * y) :: r) h
  | _ => none
def mo_neg : mj_T := match st with
  | .inl x :: r => mj_go n lv (.inl (-x) :: r) h
  | _ => none
def mo_bl : mj_T := match st with
  | .inr (.inl y) :: .inr (.inl x) :: r => mj_go n lv (.inr (.inl (mj_blf b x y)) :: r) h
  | _ => none
def mo_lshl : mj_T := match st with
  | .inl y :: .inr (.inl x) :: r => mj_go n lv (.inr (.inl (x <<< (y.toInt64 &&& 63))) :: r) h
  | _ => none
def mo_lcmp : mj_T := match st with
  | .inr (.inl y) :: .inr (.inl x) :: r => mj_go n lv (.inl (lg_cmp x y) :: r) h
  | _ => none
def mo_i2l : mj_T := match st with
  | .inl x :: r => mj_go n lv (.inr (.inl x.toInt64) :: r) h
  | _ => none
def mo_l2i : mj_T := match st with
  | .inr (.inl x) :: r => mj_go n lv (.inl x.toInt32 :: r) h
  | _ => none
def mo_i2b : mj_T := match st with
  | .inl x :: r => mj_go n lv (.inl x.toInt8.toInt32 :: r) h
  | _ => none
def mo_dup : mj_T := match st with
  | .inl x :: r => mj_go n lv (.inl x :: .inl x :: r) h
  | .inr (.inr x) :: r => mj_go n lv (.inr (.inr x) :: .inr (.inr x) :: r) h
  | _ => none
def mo_dup2 : mj_T := match st with
  | .inl y :: .inr (.inr x) :: r => mj_go n lv (.inl y :: .inr (.inr x) :: .inl y :: .inr (.inr x) :: r) h
  | _ => none
def mo_pop : mj_T := match st with
  | .inl _ :: r => mj_go n lv r h
  | .inr (.inr _) :: r => mj_go n lv r h
  | _ => none
def mo_len : mj_T := match st with
  | .inr (.inr (g, k)) :: r => mj_gd (Nat.ble 1 (G.grp g).1 && Nat.ble (G.grp g).1 6) n lv (.inl (nI (G.len g k)) :: r) h
  | _ => none
def mo_sw : mj_T := match st with
  | .inl x :: r => some (true, .inr (.inr (.inl (x, G.sw c, (a, lv, r, h)))))
  | _ => none
def mo_cs : mj_T := match mj_pop b [] st with
  | some (as, r) => some (Nat.ble (mj_wd r) 8 && Nat.beq (mj_wd as) v.toNatClampNeg, .inr (.inr (.inr (.inl (a, c, as, (n, lv, r, h))))))
  | none => none
def mo_cv : mj_T := match mj_pop b [] st with
  | some (.inr (.inr (g, k)) :: as, r) => some (mo_is G e g && Nat.ble (mj_wd r) 8 && Nat.beq (mj_cat (.inr (.inr (g, k))) + mj_wd as) v.toNatClampNeg, .inr (.inr (.inr (.inl (a, c, .inr (.inr (g, k)) :: as, (n, lv, r, h))))))
  | _ => none
def mo_rv : mj_T := match st with
  | [] => mj_rt true (.inl (none, h))
  | _ => none
def mo_ri : mj_T := match st with
  | [.inl x] => mj_rt true (.inl (some (.inl x), h))
  | _ => none
def mo_rz : mj_T := match st with
  | [.inl x] => mj_rt (decide (x = 0 ∨ x = 1)) (.inl (some (.inl x), h))
  | _ => none
def mo_rl : mj_T := match st with
  | [.inr (.inl x)] => mj_rt true (.inl (some (.inr (.inl x)), h))
  | _ => none
def mo_ra : mj_T := match st with
  | [.inr (.inr x)] => mj_rt true (.inl (some (.inr (.inr x)), h))
  | _ => none
def mo_sl : mj_T := match st with
  | .inr (.inr (g, k)) :: r => mj_gd (Nat.beq g 9 && Nat.ble (mj_wd r) 8) n lv (.inl (nI (G.sln k)) :: r) h
  | _ => none
def mo_sc : mj_T := match st with
  | .inl i :: .inr (.inr (g, k)) :: r => mj_gd (Nat.beq g 9 && Nat.ble (mj_wd r) 8 && decide (mj_in i (G.sln k))) n lv (.inl (nI (G.sch k i.toNatClampNeg)) :: r) h
  | _ => none
def mo_si : mj_T := match st with
  | .inl x :: .inr (.inr (g, k)) :: r => mj_gd (Nat.beq g 9 && Nat.ble (mj_wd r) 8) n lv (.inl (mj_ix (G.sch k) x (G.sln k) 0) :: r) h
  | _ => none
def mo_wt : mj_T := match st with
  | .inr (.inr (g, k)) :: r => mj_gd (Nat.beq g 16) n lv (.inr (.inr (9, k)) :: r) h
  | _ => none
def mo_or : mj_T := match st with
  | .inr (.inr (g, k)) :: r => mj_gd (Nat.beq g a && Nat.ble (mj_wd r) 8) n lv (.inl (nI k) :: r) h
  | _ => none
def mj_i0 (G : mj_G) (n a b c e : Nat) (v : Int32) (lv : mj_L) (st : List mj_V) (h : mj_H) (o : Nat) : mj_T := bif Nat.ble o 2 then (bif Nat.ble o 1 then (bif Nat.ble o 0 then (mo_load n a b lv st h) else (mj_go n lv (.inl v :: st) h)) else (mj_go n lv (.inr (.inl (Int64.ofNat c)) :: st) h)) else (bif Nat.ble o 4 then (bif Nat.ble o 3 then (mj_go n lv (.inr (.inr (a, b)) :: st) h) else (mo_st1 n a b lv st h)) else (mo_st2 n a lv st h))
def mj_i1 (G : mj_G) (n a b c e : Nat) (v : Int32) (lv : mj_L) (st : List mj_V) (h : mj_H) (o : Nat) : mj_T := bif Nat.ble o 8 then (bif Nat.ble o 7 then (bif Nat.ble o 6 then (mo_inc n a v lv st h) else (mj_go a lv st h)) else (mo_if n a b lv st h)) else (bif Nat.ble o 10 then (bif Nat.ble o 9 then (mo_icmp n a b lv st h) else (mo_acmp n a lv st h)) else (mo_acmn n a lv st h))
def mj_i2 (G : mj_G) (n a b c e : Nat) (v : Int32) (lv : mj_L) (st : List mj_V) (h : mj_H) (o : Nat) : mj_T := bif Nat.ble o 14 then (bif Nat.ble o 13 then (bif Nat.ble o 12 then (mo_getI G n a b lv st h) else (mo_getL G n a b lv st h)) else (mo_getS G n a b lv st h)) else (bif Nat.ble o 16 then (bif Nat.ble o 15 then (mo_getD G n a b c lv st h) else (mo_putI G n a b lv st h)) else (mo_putZ G n a b lv st h))
def mj_i3 (G : mj_G) (n a b c e : Nat) (v : Int32) (lv : mj_L) (st : List mj_V) (h : mj_H) (o : Nat) : mj_T := bif Nat.ble o 20 then (bif Nat.ble o 19 then (bif Nat.ble o 18 then (mo_putL G n a b lv st h) else (mo_putD G n a b c lv st h)) else (mo_ald G n b lv st h)) else (bif Nat.ble o 22 then (bif Nat.ble o 21 then (mo_ast G n b lv st h) else (mo_bi n b lv st h)) else (mo_div n lv st h))
def mj_i4 (G : mj_G) (n a b c e : Nat) (v : Int32) (lv : mj_L) (st : List mj_V) (h : mj_H) (o : Nat) : mj_T := bif Nat.ble o 26 then (bif Nat.ble o 25 then (bif Nat.ble o 24 then (mo_rem n lv st h) else (mo_neg n lv st h)) else (mo_bl n b lv st h)) else (bif Nat.ble o 28 then (bif Nat.ble o 27 then (mo_lshl n lv st h) else (mo_lcmp n lv st h)) else (mo_i2l n lv st h))
def mj_i5 (G : mj_G) (n a b c e : Nat) (v : Int32) (lv : mj_L) (st : List mj_V) (h : mj_H) (o : Nat) : mj_T := bif Nat.ble o 32 then (bif Nat.ble o 31 then (bif Nat.ble o 30 then (mo_l2i n lv st h) else (mo_i2b n lv st h)) else (mo_dup n lv st h)) else (bif Nat.ble o 34 then (bif Nat.ble o 33 then (mo_dup2 n lv st h) else (mo_pop n lv st h)) else (mo_len G n lv st h))
def mj_i6 (G : mj_G) (n a b c e : Nat) (v : Int32) (lv : mj_L) (st : List mj_V) (h : mj_H) (o : Nat) : mj_T := bif Nat.ble o 38 then (bif Nat.ble o 37 then (bif Nat.ble o 36 then (mo_sw G a c lv st h) else (mo_cs n a b c v lv st h)) else (mo_cv G n a b c e v lv st h)) else (bif Nat.ble o 40 then (bif Nat.ble o 39 then (mo_rv st h) else (mo_ri st h)) else (mo_rz st h))
def mj_i7 (G : mj_G) (n a b c e : Nat) (v : Int32) (lv : mj_L) (st : List mj_V) (h : mj_H) (o : Nat) : mj_T := bif Nat.ble o 45 then (bif Nat.ble o 43 then (bif Nat.ble o 42 then (mo_rl st h) else (mo_ra st h)) else (bif Nat.ble o 44 then (mj_rt (Nat.ble (mj_wd st) 8) (.inr (a, h))) else (mo_sl G n lv st h))) else (bif Nat.ble o 47 then (bif Nat.ble o 46 then (mo_sc G n lv st h) else (mo_si G n lv st h)) else (bif Nat.ble o 48 then (mo_or n a lv st h) else (mo_wt n lv st h)))
def mj_i (G : mj_G) (n a b c e : Nat) (v : Int32) (lv : mj_L) (st : List mj_V) (h : mj_H) (o : Nat) : mj_T := bif Nat.ble o 23 then (bif Nat.ble o 11 then (bif Nat.ble o 5 then (mj_i0 G n a b c e v lv st h o) else (mj_i1 G n a b c e v lv st h o)) else (bif Nat.ble o 17 then (mj_i2 G n a b c e v lv st h o) else (mj_i3 G n a b c e v lv st h o))) else (bif Nat.ble o 35 then (bif Nat.ble o 29 then (mj_i4 G n a b c e v lv st h o) else (mj_i5 G n a b c e v lv st h o)) else (bif Nat.ble o 41 then (mj_i6 G n a b c e v lv st h o) else (mj_i7 G n a b c e v lv st h o)))
end
def mj_nx (G : mj_G) (q : Nat → Option mj_P) (s : mj_F) : mj_T := match q s.1 with
  | some (o, n, a, b, c, e, v) => mj_i G n a b c e v s.2.1 s.2.2.1 s.2.2.2 o
  | none => none
/-- what an answer of a callee leads to: void, int, long, a reference of a group -/
def mj_xv (x : Option mj_O) (k : mj_H → Option mj_O) : Option mj_O := match x with
  | some (.inl (none, h)) => k h
  | some (.inr e) => some (.inr e)
  | _ => none
def mj_xi (x : Option mj_O) (k : Int32 → mj_H → Option mj_O) : Option mj_O := match x with
  | some (.inl (some (.inl r), h)) => k r h
  | some (.inr e) => some (.inr e)
  | _ => none
def mj_xl (x : Option mj_O) (k : Int64 → mj_H → Option mj_O) : Option mj_O := match x with
  | some (.inl (some (.inr (.inl r)), h)) => k r h
  | some (.inr e) => some (.inr e)
  | _ => none
def mj_xr (g : Nat) (x : Option mj_O) (k : Nat → mj_H → Option mj_O) : Option mj_O := match x with
  | some (.inl (some (.inr (.inr (g', i))), h)) => if g' = g then k i h else none
  | some (.inr e) => some (.inr e)
  | _ => none
def mj_ca (kd : Nat) (x : Option mj_O) (k : mj_F → Option mj_O) (s : mj_F) : Option mj_O := match kd with
  | 0 => mj_xv x (fun h => k (s.1, s.2.1, s.2.2.1, h))
  | 1 => mj_xi x (fun r h => k (s.1, s.2.1, .inl r :: s.2.2.1, h))
  | 2 => mj_xi x (fun r h => k (s.1, s.2.1, .inl r :: s.2.2.1, h))
  | 3 => mj_xl x (fun r h => k (s.1, s.2.1, .inr (.inl r) :: s.2.2.1, h))
  | g + 4 => mj_xr g x (fun r h => k (s.1, s.2.1, .inr (.inr (g, r)) :: s.2.2.1, h))
def mj_do (a : Option (Bool × mj_A)) (k : mj_F → Option mj_O) (cl : Nat → List mj_V → mj_H → Option mj_O) : Option mj_O := match a with
  | none => none
  | some (g, a) => bif g then (match a with
    | .inl s => k s
    | .inr (.inl (b, s1, s2)) => bif b then k s1 else k s2
    | .inr (.inr (.inl (x, cs, s))) => k (mj_sel x cs s.1, s.2)
    | .inr (.inr (.inr (.inl (mj, kd, as, s)))) => mj_ca kd (cl mj as s.2.2.2) k s
    | .inr (.inr (.inr (.inr o))) => some o) else none
def mj_down (f : Nat → (Nat → Option mj_P) → mj_F → Option mj_O) (G : mj_G) (d mj : Nat) (as : List mj_V) (h : mj_H) : Option mj_O := match d with
  | 0 => none
  | d' + 1 => f d' (G.code mj) (0, mj_args 0 as, [], h)
def mj_ex (G : mj_G) : Nat → Nat → (Nat → Option mj_P) → mj_F → Option mj_O
  | 0, _, _, _ => none
  | n + 1, d, q, s => mj_do (mj_nx G q s) (mj_ex G n d q) (mj_down (mj_ex G n) G d)
theorem mj_xv_mono {x x' : Option mj_O} {k k' : mj_H → Option mj_O} (hx : ∀ r, x = some r → x' = some r) (hk : ∀ h r, k h = some r → k' h = some r) : ∀ r, mj_xv x k = some r → mj_xv x' k' = some r := by
  intro r h
  unfold mj_xv at h
  split at h
  · rw [hx _ rfl]; exact hk _ _ h
  · rw [hx _ rfl]; exact h
  · cases h
theorem mj_xi_mono {x x' : Option mj_O} {k k' : Int32 → mj_H → Option mj_O} (hx : ∀ r, x = some r → x' = some r) (hk : ∀ v h r, k v h = some r → k' v h = some r) : ∀ r, mj_xi x k = some r → mj_xi x' k' = some r := by
  intro r h
  unfold mj_xi at h
  split at h
  · rw [hx _ rfl]; exact hk _ _ _ h
  · rw [hx _ rfl]; exact h
  · cases h
theorem mj_xl_mono {x x' : Option mj_O} {k k' : Int64 → mj_H → Option mj_O} (hx : ∀ r, x = some r → x' = some r) (hk : ∀ v h r, k v h = some r → k' v h = some r) : ∀ r, mj_xl x k = some r → mj_xl x' k' = some r := by
  intro r h
  unfold mj_xl at h
  split at h
  · rw [hx _ rfl]; exact hk _ _ _ h
  · rw [hx _ rfl]; exact h
  · cases h
theorem mj_xr_mono {g : Nat} {x x' : Option mj_O} {k k' : Nat → mj_H → Option mj_O} (hx : ∀ r, x = some r → x' = some r) (hk : ∀ v h r, k v h = some r → k' v h = some r) : ∀ r, mj_xr g x k = some r → mj_xr g x' k' = some r := by
  intro r h
  unfold mj_xr at h
  split at h
  · rw [hx _ rfl]
    split at h
    · rename_i hg; simp only [mj_xr, hg, if_true]; exact hk _ _ _ h
    · cases h
  · rw [hx _ rfl]; exact h
  · cases h
theorem mj_ca_mono {kd : Nat} {x x' : Option mj_O} {k k' : mj_F → Option mj_O} (hx : ∀ r, x = some r → x' = some r) (hk : ∀ s r, k s = some r → k' s = some r) (s : mj_F) : ∀ r, mj_ca kd x k s = some r → mj_ca kd x' k' s = some r := by
  intro r h
  rcases kd with _ | _ | _ | _ | g
  · exact mj_xv_mono hx (fun _ => hk _) r h
  · exact mj_xi_mono hx (fun _ _ => hk _) r h
  · exact mj_xi_mono hx (fun _ _ => hk _) r h
  · exact mj_xl_mono hx (fun _ _ => hk _) r h
  · exact mj_xr_mono hx (fun _ _ => hk _) r h
theorem mj_do_mono {a : Option (Bool × mj_A)} {k k' : mj_F → Option mj_O} {cl cl' : Nat → List mj_V → mj_H → Option mj_O} (hk : ∀ s r, k s = some r → k' s = some r) (hc : ∀ mj as h r, cl mj as h = some r → cl' mj as h = some r) : ∀ r, mj_do a k cl = some r → mj_do a k' cl' = some r := by
  intro r h
  cases a with
  | none => simp [mj_do] at h
  | some q =>
    obtain ⟨g, a⟩ := q
    cases g with
    | false => simp [mj_do] at h
    | true =>
      rcases a with s | ⟨b, s1, s2⟩ | ⟨x, cs, s⟩ | ⟨mj, kd, as, s⟩ | o
      · exact hk _ _ h
      · cases b
        · exact hk _ _ h
        · exact hk _ _ h
      · exact hk _ _ h
      · exact mj_ca_mono (hc _ _ _) hk s r h
      · exact h
theorem mj_ex_succ (G : mj_G) : ∀ (n d : Nat) (q : Nat → Option mj_P) (s : mj_F) (r : mj_O), mj_ex G n d q s = some r → mj_ex G (n + 1) d q s = some r
  | 0, _, _, _, _, h => by simp [mj_ex] at h
  | n + 1, d, q, s, r, h => by
    refine mj_do_mono (mj_ex_succ G n d q) ?_ r h
    intro mj as hh r hr
    cases d with
    | zero => simp [mj_down] at hr
    | succ d' => exact mj_ex_succ G n d' _ _ r hr
theorem mj_ex_le (G : mj_G) {n m d : Nat} {q : Nat → Option mj_P} {s : mj_F} {r : mj_O} (hnm : n ≤ m) (h : mj_ex G n d q s = some r) : mj_ex G m d q s = some r := by
  induction hnm with
  | refl => exact h
  | step _ ih => exact mj_ex_succ G _ _ _ _ _ ih
/-- the machine without a count of steps -/
noncomputable def mj_R (G : mj_G) (d : Nat) (q : Nat → Option mj_P) (s : mj_F) : Option mj_O := by
  classical
  exact if h : ∃ r n, mj_ex G n d q s = some r then some (Classical.choose h) else none
theorem mj_R_iff (G : mj_G) (d : Nat) (q : Nat → Option mj_P) (s : mj_F) (r : mj_O) : mj_R G d q s = some r ↔ ∃ n, mj_ex G n d q s = some r := by
  classical
  unfold mj_R
  constructor
  · intro h
    split at h
    · rename_i hx
      obtain ⟨n, hn⟩ := Classical.choose_spec hx
      exact ⟨n, by rw [hn]; exact h⟩
    · cases h
  · intro ⟨n, hn⟩
    have hx : ∃ r n, mj_ex G n d q s = some r := ⟨r, n, hn⟩
    rw [dif_pos hx]
    obtain ⟨n2, hn2⟩ := Classical.choose_spec hx
    have h1 := mj_ex_le G (Nat.le_max_left n n2) hn
    have h2 := mj_ex_le G (Nat.le_max_right n n2) hn2
    exact h2.symm.trans h1
/-- a call of a method -/
noncomputable def mj_C (G : mj_G) (d mj : Nat) (as : List mj_V) (h : mj_H) : Option mj_O := match d with
  | 0 => none
  | d' + 1 => mj_R G d' (G.code mj) (0, mj_args 0 as, [], h)
theorem mj_R_fix (G : mj_G) (d : Nat) (q : Nat → Option mj_P) (s : mj_F) : mj_R G d q s = mj_do (mj_nx G q s) (mj_R G d q) (mj_C G d) := by
  apply Option.ext
  intro r
  constructor
  · intro h
    obtain ⟨n, hn⟩ := (mj_R_iff G d q s r).mp h
    cases n with
    | zero => simp [mj_ex] at hn
    | succ n =>
      refine mj_do_mono (fun s r h => (mj_R_iff G d q s r).mpr ⟨n, h⟩) ?_ r hn
      intro mj as hh r hr
      cases d with
      | zero => simp [mj_down] at hr
      | succ d' => exact (mj_R_iff G d' (G.code mj) _ r).mpr ⟨n, hr⟩
  · intro h
    refine (mj_R_iff G d q s r).mpr ?_
    have key : ∃ n, mj_do (mj_nx G q s) (mj_ex G n d q) (mj_down (mj_ex G n) G d) = some r := by
      generalize mj_nx G q s = a at h
      cases a with
      | none => simp [mj_do] at h
      | some q2 =>
        obtain ⟨g, a⟩ := q2
        cases g with
        | false => simp [mj_do] at h
        | true =>
          rcases a with s | ⟨b, s1, s2⟩ | ⟨x, cs, s⟩ | ⟨mj, kd, as, s⟩ | o
          · exact (mj_R_iff G d q _ r).mp h
          · cases b
            · exact (mj_R_iff G d q _ r).mp h
            · exact (mj_R_iff G d q _ r).mp h
          · exact (mj_R_iff G d q _ r).mp h
          · have h' : mj_ca kd (mj_C G d mj as s.2.2.2) (mj_R G d q) s = some r := h
            cases d with
            | zero => rcases kd with _ | _ | _ | _ | g <;> simp [mj_C, mj_ca, mj_xv, mj_xi, mj_xl, mj_xr] at h'
            | succ d' =>
              cases hc : mj_R G d' (G.code mj) (0, mj_args 0 as, [], s.2.2.2) with
              | none =>
                rw [show mj_C G (d' + 1) mj as s.2.2.2 = none from hc] at h'
                rcases kd with _ | _ | _ | _ | g <;> simp [mj_ca, mj_xv, mj_xi, mj_xl, mj_xr] at h'
              | some o =>
                rw [show mj_C G (d' + 1) mj as s.2.2.2 = some o from hc] at h'
                obtain ⟨n1, hn1⟩ := (mj_R_iff G d' (G.code mj) _ o).mp hc
                have key2 : ∃ n2, mj_ca kd (some o) (mj_ex G n2 (d' + 1) q) s = some r := by
                  rcases o with ⟨v, hh⟩ | e9
                  · rcases kd with _ | _ | _ | _ | g <;> rcases v with _ | (v | v | ⟨g', v⟩) <;> first
                      | exact (mj_R_iff G (d' + 1) q _ r).mp h'
                      | (exfalso; revert h'; simp [mj_ca, mj_xv, mj_xi, mj_xl, mj_xr]; done)
                      | skip
                    by_cases hg : g' = g
                    · simp only [mj_ca, mj_xr, hg, if_true] at h' ⊢
                      exact (mj_R_iff G (d' + 1) q _ r).mp h'
                    · simp [mj_ca, mj_xr, hg] at h'
                  · refine ⟨0, ?_⟩
                    rcases kd with _ | _ | _ | _ | g <;> exact h'
                obtain ⟨n2, hn2⟩ := key2
                refine ⟨max n1 n2, ?_⟩
                refine mj_ca_mono (x := some o) ?_ (fun s r h => mj_ex_le G (Nat.le_max_right n1 n2) h) s r hn2
                intro r2 h2
                cases h2
                exact mj_ex_le G (Nat.le_max_left n1 n2) hn1
          · exact ⟨0, h⟩
    obtain ⟨n, hn⟩ := key
    exact ⟨n + 1, hn⟩
/-! rows for the printed equations -/
theorem mj_R_go {G : mj_G} {d : Nat} {q : Nat → Option mj_P} {s s' : mj_F} (h : mj_nx G q s = some (true, .inl s')) : mj_R G d q s = mj_R G d q s' := by
  rw [mj_R_fix, h]; rfl
def mj_adv (G : mj_G) (q : Nat → Option mj_P) : Nat → mj_F → mj_F
  | 0, s => s
  | k + 1, s => match mj_nx G q s with
    | some (true, .inl s') => mj_adv G q k s'
    | _ => s
theorem mj_R_adv (G : mj_G) (d : Nat) (q : Nat → Option mj_P) : ∀ (k : Nat) (s : mj_F), mj_R G d q s = mj_R G d q (mj_adv G q k s)
  | 0, _ => rfl
  | k + 1, s => by
    unfold mj_adv
    split
    · rename_i s' h
      exact (mj_R_go h).trans (mj_R_adv G d q k s')
    · rfl
theorem mj_R_gd {G : mj_G} {d : Nat} {q : Nat → Option mj_P} {s s' : mj_F} {c : Prop} [Decidable c] (h : mj_nx G q s = some (decide c, .inl s')) : mj_R G d q s = if c then mj_R G d q s' else none := by
  rw [mj_R_fix, h]
  by_cases hc : c
  · simp [mj_do, hc]
  · simp [mj_do, hc]
theorem mj_R_br {G : mj_G} {d : Nat} {q : Nat → Option mj_P} {s s1 s2 : mj_F} {c : Prop} [Decidable c] (h : mj_nx G q s = some (true, .inr (.inl (decide c, s1, s2)))) : mj_R G d q s = if c then mj_R G d q s1 else mj_R G d q s2 := by
  rw [mj_R_fix, h]
  by_cases hc : c
  · simp [mj_do, hc]
  · simp [mj_do, hc]
theorem mj_R_sel {G : mj_G} {d : Nat} {q : Nat → Option mj_P} {s s' : mj_F} {x : Int32} {cs : List (Int32 × Nat)} (h : mj_nx G q s = some (true, .inr (.inr (.inl (x, cs, s'))))) : mj_R G d q s = mj_R G d q (mj_sel x cs s'.1, s'.2) := by
  rw [mj_R_fix, h]; rfl
theorem mj_R_call {G : mj_G} {d mj kd : Nat} {q : Nat → Option mj_P} {s s' : mj_F} {as : List mj_V} (h : mj_nx G q s = some (true, .inr (.inr (.inr (.inl (mj, kd, as, s')))))) : mj_R G (d + 1) q s = mj_ca kd (mj_R G d (G.code mj) (0, mj_args 0 as, [], s'.2.2.2)) (mj_R G (d + 1) q) s' := by
  rw [mj_R_fix, h]; rfl
theorem mj_R_callg {G : mj_G} {d mj kd : Nat} {q : Nat → Option mj_P} {s s' : mj_F} {as : List mj_V} {c : Prop} [Decidable c] (h : mj_nx G q s = some (decide c, .inr (.inr (.inr (.inl (mj, kd, as, s')))))) : mj_R G (d + 1) q s = if c then mj_ca kd (mj_R G d (G.code mj) (0, mj_args 0 as, [], s'.2.2.2)) (mj_R G (d + 1) q) s' else none := by
  rw [mj_R_fix, h]
  by_cases hc : c
  · simp [mj_do, hc]; rfl
  · simp [mj_do, hc]
theorem mj_q_ite {c : Prop} [Decidable c] {a a' b b' : Option mj_O} (h1 : a = a') (h2 : b = b') : (if c then a else b) = if c then a' else b' := by rw [h1, h2]
theorem mj_q_xv {x : Option mj_O} {k k' : mj_H → Option mj_O} (h : ∀ h, k h = k' h) : mj_xv x k = mj_xv x k' := by rw [show k = k' from funext h]
theorem mj_q_xi {x : Option mj_O} {k k' : Int32 → mj_H → Option mj_O} (h : ∀ v h, k v h = k' v h) : mj_xi x k = mj_xi x k' := by rw [show k = k' from funext fun v => funext (h v)]
theorem mj_q_xl {x : Option mj_O} {k k' : Int64 → mj_H → Option mj_O} (h : ∀ v h, k v h = k' v h) : mj_xl x k = mj_xl x k' := by rw [show k = k' from funext fun v => funext (h v)]
theorem mj_q_xr {g : Nat} {x : Option mj_O} {k k' : Nat → mj_H → Option mj_O} (h : ∀ v h, k v h = k' v h) : mj_xr g x k = mj_xr g x k' := by rw [show k = k' from funext fun v => funext (h v)]
theorem mj_R_rt {G : mj_G} {d : Nat} {q : Nat → Option mj_P} {s : mj_F} {o : mj_O} (h : mj_nx G q s = some (true, .inr (.inr (.inr (.inr o))))) : mj_R G d q s = some o := by
  rw [mj_R_fix, h]; rfl
theorem mj_R_rtg {G : mj_G} {d : Nat} {q : Nat → Option mj_P} {s : mj_F} {o : mj_O} {c : Prop} [Decidable c] (h : mj_nx G q s = some (decide c, .inr (.inr (.inr (.inr o))))) : mj_R G d q s = if c then some o else none := by
  rw [mj_R_fix, h]
  by_cases hc : c
  · simp [mj_do, hc]
  · simp [mj_do, hc]
theorem mj_q_sel {G : mj_G} {d p : Nat} {q : Nat → Option mj_P} {x : Int32} {z : Int32 × Nat} {r : List (Int32 × Nat)} {s : mj_L × List mj_V × mj_H} : mj_R G d q (mj_sel x (z :: r) p, s) = if x = z.1 then mj_R G d q (z.2, s) else mj_R G d q (mj_sel x r p, s) := by
  by_cases hx : x = z.1
  · simp [mj_sel, hx]
  · simp [mj_sel, hx]
section
variable {G : mj_G} {d : Nat} {q : Nat → Option mj_P} {s : mj_F}
theorem mj_e_go (k : Nat) {s' : mj_F} (h : mj_adv G q k s = s') : mj_R G d q s = mj_R G d q s' := by rw [← h]; exact mj_R_adv G d q k s
theorem mj_e_br (k : Nat) {c : Prop} [Decidable c] {s1 s2 : mj_F} {A B : Option mj_O} (h : mj_nx G q (mj_adv G q k s) = some (true, .inr (.inl (decide c, s1, s2)))) (h1 : mj_R G d q s1 = A) (h2 : mj_R G d q s2 = B) : mj_R G d q s = if c then A else B := by
  rw [mj_R_adv G d q k s, mj_R_br h, h1, h2]
theorem mj_e_gd (k : Nat) {c : Prop} [Decidable c] {s1 : mj_F} {A : Option mj_O} (h : mj_nx G q (mj_adv G q k s) = some (decide c, .inl s1)) (h1 : mj_R G d q s1 = A) : mj_R G d q s = if c then A else none := by
  rw [mj_R_adv G d q k s, mj_R_gd h, h1]
theorem mj_e_rt (k : Nat) {o : mj_O} (h : mj_nx G q (mj_adv G q k s) = some (true, .inr (.inr (.inr (.inr o))))) : mj_R G d q s = some o := by
  rw [mj_R_adv G d q k s, mj_R_rt h]
theorem mj_e_rtg (k : Nat) {o : mj_O} {c : Prop} [Decidable c] (h : mj_nx G q (mj_adv G q k s) = some (decide c, .inr (.inr (.inr (.inr o))))) : mj_R G d q s = if c then some o else none := by
  rw [mj_R_adv G d q k s, mj_R_rtg h]
theorem mj_e_sel (k : Nat) {s' : mj_F} {x : Int32} {cs : List (Int32 × Nat)} {A : Option mj_O} (h : mj_nx G q (mj_adv G q k s) = some (true, .inr (.inr (.inl (x, cs, s'))))) (h1 : mj_R G d q (mj_sel x cs s'.1, s'.2) = A) : mj_R G d q s = A := by
  rw [mj_R_adv G d q k s, mj_R_sel h, h1]
theorem mj_e_case {p : Nat} {x : Int32} {z : Int32 × Nat} {r : List (Int32 × Nat)} {t : mj_L × List mj_V × mj_H} {A B : Option mj_O} (h1 : mj_R G d q (z.2, t) = A) (h2 : mj_R G d q (mj_sel x r p, t) = B) : mj_R G d q (mj_sel x (z :: r) p, t) = if x = z.1 then A else B := by
  rw [mj_q_sel, h1, h2]
theorem mj_e_xv (k : Nat) {mj : Nat} {as : List mj_V} {s' : mj_F} {q' : Nat → Option mj_P} {al : mj_L} {H : mj_H} {K : mj_H → Option mj_O} (h : mj_nx G q (mj_adv G q k s) = some (true, .inr (.inr (.inr (.inl (mj, 0, as, s')))))) (hq : G.code mj = q') (ha : mj_args 0 as = al) (hH : s'.2.2.2 = H) (hk : ∀ h, mj_R G (d + 1) q (s'.1, s'.2.1, s'.2.2.1, h) = K h) : mj_R G (d + 1) q s = mj_xv (mj_R G d q' (0, al, [], H)) K := by
  subst hq; subst ha; subst hH
  rw [mj_R_adv G (d + 1) q k s, mj_R_call h]
  exact mj_q_xv hk
theorem mj_e_xi (k : Nat) {mj : Nat} {as : List mj_V} {s' : mj_F} {q' : Nat → Option mj_P} {al : mj_L} {H : mj_H} {K : Int32 → mj_H → Option mj_O} (h : mj_nx G q (mj_adv G q k s) = some (true, .inr (.inr (.inr (.inl (mj, 1, as, s')))))) (hq : G.code mj = q') (ha : mj_args 0 as = al) (hH : s'.2.2.2 = H) (hk : ∀ r h, mj_R G (d + 1) q (s'.1, s'.2.1, .inl r :: s'.2.2.1, h) = K r h) : mj_R G (d + 1) q s = mj_xi (mj_R G d q' (0, al, [], H)) K := by
  subst hq; subst ha; subst hH
  rw [mj_R_adv G (d + 1) q k s, mj_R_call h]
  exact mj_q_xi hk
theorem mj_e_xz (k : Nat) {mj : Nat} {as : List mj_V} {s' : mj_F} {q' : Nat → Option mj_P} {al : mj_L} {H : mj_H} {K : Int32 → mj_H → Option mj_O} (h : mj_nx G q (mj_adv G q k s) = some (true, .inr (.inr (.inr (.inl (mj, 2, as, s')))))) (hq : G.code mj = q') (ha : mj_args 0 as = al) (hH : s'.2.2.2 = H) (hk : ∀ r h, mj_R G (d + 1) q (s'.1, s'.2.1, .inl r :: s'.2.2.1, h) = K r h) : mj_R G (d + 1) q s = mj_xi (mj_R G d q' (0, al, [], H)) K := by
  subst hq; subst ha; subst hH
  rw [mj_R_adv G (d + 1) q k s, mj_R_call h]
  exact mj_q_xi hk
theorem mj_e_xl (k : Nat) {mj : Nat} {as : List mj_V} {s' : mj_F} {q' : Nat → Option mj_P} {al : mj_L} {H : mj_H} {K : Int64 → mj_H → Option mj_O} (h : mj_nx G q (mj_adv G q k s) = some (true, .inr (.inr (.inr (.inl (mj, 3, as, s')))))) (hq : G.code mj = q') (ha : mj_args 0 as = al) (hH : s'.2.2.2 = H) (hk : ∀ r h, mj_R G (d + 1) q (s'.1, s'.2.1, .inr (.inl r) :: s'.2.2.1, h) = K r h) : mj_R G (d + 1) q s = mj_xl (mj_R G d q' (0, al, [], H)) K := by
  subst hq; subst ha; subst hH
  rw [mj_R_adv G (d + 1) q k s, mj_R_call h]
  exact mj_q_xl hk
theorem mj_e_xr (k : Nat) {mj g : Nat} {as : List mj_V} {s' : mj_F} {q' : Nat → Option mj_P} {al : mj_L} {H : mj_H} {K : Nat → mj_H → Option mj_O} (h : mj_nx G q (mj_adv G q k s) = some (true, .inr (.inr (.inr (.inl (mj, g + 4, as, s')))))) (hq : G.code mj = q') (ha : mj_args 0 as = al) (hH : s'.2.2.2 = H) (hk : ∀ r h, mj_R G (d + 1) q (s'.1, s'.2.1, .inr (.inr (g, r)) :: s'.2.2.1, h) = K r h) : mj_R G (d + 1) q s = mj_xr g (mj_R G d q' (0, al, [], H)) K := by
  subst hq; subst ha; subst hH
  rw [mj_R_adv G (d + 1) q k s, mj_R_call h]
  exact mj_q_xr hk
end
