/-! the code: what both type -/
/-- function, value, kind (0 the value, 1 a way to t from behind itself, 2 a way to t from b, 3 the PROC t), t, b -/
abbrev It := Nat × Int32 × Nat × Nat × Nat
def iV (f : Nat) (v : Int32) : It := (f, v, 0, 0, 0)
def iO (o : Nat) : It := (15, nI o, 0, 0, 0)
def iW (f t : Nat) : It := (f, 0, 1, t, 0)
def iB (f t b : Nat) : It := (f, 0, 2, t, b)
def iC (p : Nat) : It := (9, 0, 3, p, 0)
def hldS (k : Nat) : Bool := k == 4 || k == 6 || k == 8
/-- what an operator types -/
def sgI (o : Nat) : List It :=
  if o = 43 then [iO 1] else if o = 45 then [iO 2] else if o = 42 then [iO 3] else if o = 47 then [iO 4] else if o = 92 then [iO 5]
  else if o = 15420 then [iO 9] else if o = 15934 then [iO 10] else if o = 12124 then [iO 7] else if o = 23599 then [iO 8]
  else if o = 61 then [iO 2, iV 12 0] else if o = 15422 then [iO 2, iV 12 0, iV 12 0]
  else if o = 60 then [iO 0, iO 6] else if o = 15933 then [iO 0, iO 6, iV 12 0] else if o = 15421 then [iO 6, iV 12 0] else [iO 6]
theorem len_ite {c : Prop} [Decidable c] {a b : List It} (h1 : 1 ≤ a.length) (h2 : 1 ≤ b.length) : 1 ≤ (if c then a else b).length := sorry
theorem sgI_1 (o : Nat) : 1 ≤ (sgI o).length := sorry
section
variable (sy : List Sym)
/-- how many instructions -/
def nE : Tm → Nat
  | .int _ => 1
  | .arg s => if srO sy s = 4 then 2 else 1
  | .elem (.arg _) e => nE e + 5
  | .length e => nE e + 3
  | .sum e => nE e + 1
  | .old e => nE e
  | .add (.index o) (.sub x y) => if o = 65 then nE x + nE y + 3 else if o = 79 then nE x + nE y + 4 else if smp y then nE x + nE y + (sgI o).length else nE y + nE x + 2 + (sgI o).length
  | _ => 0
def nD : Tm → Nat
  | .elem (.arg _) e => nE sy e + 4
  | .arg _ => 1
  | _ => 0
/-- how many labels, at most -/
def lE : Tm → Nat
  | .elem (.arg _) e => lE e
  | .length e => lE e
  | .sum e => lE e
  | .old e => lE e
  | .add (.index _) (.sub x y) => lE x + lE y + 1
  | _ => 0
theorem nE_1 {vis : List Nat} : ∀ e, wfE sy vis e → 1 ≤ nE sy e ∧ lE e ≤ nE sy e := sorry
variable (wd : Nat → Int32) (r : Nat → Int32)
def kE : Tm → Nat → Nat → List It
  | .int v, _, _ => [iV 4 v]
  | .arg s, _, _ => if srO sy s = 11 then [iV 4 (r s)] else if srO sy s = 4 then [iV 7 (wd s), iV 3 0] else [iV 7 (wd s)]
  | .elem (.arg s) e, f, a => kE e f a ++ [iV 4 (nI (szO sy s)), iO 12, iV (if hldS (srO sy s) then 7 else 1) (wd s), iO 11, iV 3 0]
  | .length e, f, a => kE e f a ++ [iV 4 0, iO 0, iO 2]
  | .sum e, f, a => kE e f a ++ [iV 12 0]
  | .old e, f, a => kE e f a
  | .add (.index o) (.sub x y), f, a =>
    if o = 65 then kE x f a ++ iW 10 (a + nE sy x + nE sy y + 3) :: (kE y f (a + nE sy x + 1) ++ [iV 12 0, iV 12 0])
    else if o = 79 then kE x f a ++ iV 12 0 :: iW 10 (a + nE sy x + nE sy y + 3) :: (kE y f (a + nE sy x + 2) ++ [iV 12 0, iV 12 0])
    else if smp y then kE x f a ++ kE y f (a + nE sy x) ++ sgI o
    else kE y f a ++ iV 13 (nI f) :: (kE x (f + 1) (a + nE sy y + 1) ++ iV 7 (nI f) :: sgI o)
  | _, _, _ => []
def kA : Tm → Nat → Nat → List It
  | .elem (.arg s) e, f, a => kE sy wd r e f a ++ [iV 4 (nI (szO sy s)), iO 12, iV (if hldS (srO sy s) then 7 else 1) (wd s), iO 11]
  | .arg s, _, _ => if srO sy s = 1 then [iV 4 (nI (szO sy s))] else [iV (if hldS (srO sy s) then 7 else 1) (wd s)]
  | _, _, _ => []
end
theorem kE_len {sy : List Sym} {wd r : Nat → Int32} : ∀ (e : Tm) (f a : Nat), (kE sy wd r e f a).length = nE sy e := sorry
