/-! what both read: programs -/
/-- a name of the whole program: a PROC, a LINK or the host's -/
def glbS (sy : List Sym) (cs : List Nat) : Bool := (sy.any fun x => (x.2.1 == 0 || x.2.1 == 1) && x.1 == cs) || cs == scrN || cs == keyN
/-- a new one of them, of sort k, size z; there are has of most -/
def gloS (k z most has : Nat) (sy : List Sym) (ts : List Tok) : Rs (List Sym × List Tok) :=
  if (hd ts).1 = 1 then
    if glbS sy (hd ts).2.2.2 then .inl (2, (hd ts).2.1)
    else if has = most then .inl (6, (hd ts).2.1)
    else newS sy.length k z sy ts
  else .inl (1, (hd ts).2.1)
/-- a parameter's sort and size -/
def prkS (ts : List Tok) : Rs (Nat × Nat × List Tok) :=
  if isW 11 (hd ts) then .inr (3, 0, ts.tail)
  else if isS 91 (hd ts) then bnd (numS 1 64 ts.tail) fun x => bnd (tkS (isS 93 (hd x.2)) x.2) fun r => .inr (6, x.1, r)
  else if isW 10 (hd ts) then .inr (8, 0, ts)
  else .inr (4, 0, ts)
def prmS (fr : Nat) (sy : List Sym) (ts : List Tok) : Rs (List Sym × List Tok) :=
  bnd (prkS ts) fun z =>
  bnd (tkS (isW (if z.1 = 8 then 10 else 9) (hd z.2.2)) z.2.2) fun r =>
  newS fr z.1 z.2.1 sy r
/-- parameters: at most six -/
def prsS (fr : Nat) : Nat → List Sym → List Tok → Rs (List Sym × List Tok)
  | 0, _, _ => .inl (0, 0)
  | m + 1, sy, ts =>
    bnd (prmS fr sy ts) fun x =>
    if isS 44 (hd x.2) && decide (0 < m) then prsS fr m x.1 x.2.tail else .inr x
/-- a PROC's line: its name, its parameters -/
def prhS (np : Nat) (sy : List Sym) (ts : List Tok) : Rs (List Sym) :=
  bnd (gloS 0 np 24 np sy ts) fun n =>
  bnd (tkS (isS 40 (hd n.2)) n.2) fun r =>
  bnd (if isS 41 (hd r) then .inr (n.1, r) else prsS n.1.length 6 n.1 r) fun x =>
  bnd (tkS (isS 41 (hd x.2)) x.2) fun r2 =>
  bnd (endS r2) fun _ => .inr x.1
/-- a program so far: parameters and bodies of the PROCs, links, roots, names, what is seen, lines -/
abbrev Pg := List (List Nat) × List Tm × List (Nat × Nat) × List (Nat × Tm) × List Sym × List Nat × List PL
/-- the end of a PROC: a line of its own -/
def cloS (L : List PL) : Fr (List PL) :=
  if isAt 0 L then
    match L with
    | [] => .inl (0, none)
    | (u, _, ts) :: L2 => bnd (lft u (bnd (tkS (isS 58 (hd ts)) ts) fun r => endS r)) fun _ => .inr L2
  else .inl (lvlF L)
def fuel : Nat := 300
def prcS (u : Nat) (ts : List Tok) (L : List PL) (p : Pg) : Fr Pg :=
  bnd (lft u (prhS p.1.length p.2.2.2.2.1 ts.tail)) fun sy2 =>
  bnd (proS p.1 fuel 1 (seeS p.2.2.2.2.2.1 (p.2.2.2.2.1.length + 1) (sy2.length - (p.2.2.2.2.1.length + 1))) sy2 L) fun x =>
  bnd (cloS x.2.2) fun L3 =>
  .inr (p.1 ++ [List.range' (p.2.2.2.2.1.length + 1) (sy2.length - (p.2.2.2.2.1.length + 1))], p.2.1 ++ [x.1], p.2.2.1, p.2.2.2.1, x.2.1, p.2.2.2.2.1.length :: p.2.2.2.2.2.1, L3)
def frsW (w : Nat) (L : List PL) : Bool := match L with
  | [] => false
  | x :: _ => isW w (hd x.2.2)
/-- PROCs, as long as there are any -/
def pcsS : Nat → Pg → Fr Pg
  | 0, _ => .inl (0, none)
  | m + 1, p =>
    if isAt 0 p.2.2.2.2.2.2 && frsW 12 p.2.2.2.2.2.2 then
      match p.2.2.2.2.2.2 with
      | [] => .inl (0, none)
      | (u, _, ts) :: L2 => bnd (prcS u ts L2 p) fun q => pcsS m q
    else .inr p
/-- a LINK's line -/
def wirS (has : Nat) (sy : List Sym) (ts : List Tok) : Rs (List Sym × Nat × Nat) :=
  bnd (gloS 1 has 12 has sy ts) fun n =>
  bnd (tkS (isW 22 (hd n.2)) n.2) fun r =>
  bnd (numS 0 5 r) fun a =>
  bnd (tkS (isW 23 (hd a.2)) a.2) fun r2 =>
  bnd (chkS (!((hd r2).1 == 3 && (hd r2).2.2.1 == a.1)) 1 (hd r2).2.1) fun _ =>
  bnd (numS 0 5 r2) fun b =>
  bnd (tkS (isS 58 (hd b.2)) b.2) fun r3 =>
  bnd (endS r3) fun _ => .inr (n.1, a.1, b.1)
def wrsS : Nat → Pg → Fr Pg
  | 0, _ => .inl (0, none)
  | m + 1, p =>
    if isAt 0 p.2.2.2.2.2.2 && frsW 21 p.2.2.2.2.2.2 then
      match p.2.2.2.2.2.2 with
      | [] => .inl (0, none)
      | (u, _, ts) :: L2 =>
        bnd (lft u (wirS p.2.2.1.length p.2.2.2.2.1 ts.tail)) fun z =>
        wrsS m (p.1, p.2.1, p.2.2.1 ++ [z.2], p.2.2.2.1, z.1, p.2.2.2.2.1.length :: p.2.2.2.2.2.1, L2)
    else .inr p
/-- a PROCESSOR's line: its number -/
def psrS (rt : List (Nat × Tm)) (ts : List Tok) : Rs Nat :=
  bnd (tkS (isW 20 (hd ts)) ts) fun r =>
  bnd (chkS (!((hd r).1 == 3 && decide ((hd r).2.2.1 ≤ 5) && (rt.any fun x => x.1 == (hd r).2.2.1))) 1 (hd r).2.1) fun _ =>
  bnd (numS 0 5 r) fun a =>
  bnd (endS a.2) fun _ => .inr a.1
def plsS : Nat → Pg → Fr Pg
  | 0, _ => .inl (0, none)
  | m + 1, p =>
    if isAt 1 p.2.2.2.2.2.2 then
      match p.2.2.2.2.2.2 with
      | [] => .inl (0, none)
      | (u, _, ts) :: L2 =>
        bnd (lft u (psrS p.2.2.2.1 ts)) fun k =>
        bnd (proS p.1 fuel 2 p.2.2.2.2.2.1 p.2.2.2.2.1 L2) fun x =>
        if x.2.2 = [] then .inr (p.1, p.2.1, p.2.2.1, p.2.2.2.1 ++ [(k, x.1)], x.2.1, p.2.2.2.2.2.1, [])
        else plsS m (p.1, p.2.1, p.2.2.1, p.2.2.2.1 ++ [(k, x.1)], x.2.1, p.2.2.2.2.2.1, x.2.2)
    else .inl (lvlF p.2.2.2.2.2.2)
/-- PLACED PAR and all below it -/
def plcS (p : Pg) : Fr Pg :=
  if isAt 0 p.2.2.2.2.2.2 then
    match p.2.2.2.2.2.2 with
    | [] => .inl (0, none)
    | (u, _, ts) :: L2 =>
      bnd (lft u (bnd (tkS (isW 19 (hd ts)) ts) fun r => bnd (tkS (isW 2 (hd r)) r) fun r2 => endS r2)) fun _ =>
      plsS (L2.length + 1) (p.1, p.2.1, p.2.2.1, p.2.2.2.1, p.2.2.2.2.1, p.2.2.2.2.2.1, L2)
  else .inl (lvlF p.2.2.2.2.2.2)
/-- a whole program -/
def prgS (L : List PL) : Fr Pg :=
  bnd (pcsS (L.length + 1) ([], [], [], [], [], [201, 200], L)) fun p =>
  bnd (if isAt 0 p.2.2.2.2.2.2 && (frsW 21 p.2.2.2.2.2.2 || frsW 19 p.2.2.2.2.2.2) then bnd (wrsS (p.2.2.2.2.2.2.length + 1) p) plcS
    else bnd (proS p.1 fuel 0 p.2.2.2.2.2.1 p.2.2.2.2.1 p.2.2.2.2.2.2) fun x => .inr (p.1, p.2.1, p.2.2.1, [(0, x.1)], x.2.1, p.2.2.2.2.2.1, x.2.2)) fun q =>
  if q.2.2.2.2.2.2 = [] then .inr q else .inl (lvlF q.2.2.2.2.2.2)
/-! where bodies and roots lie: slots 2 k for bodies, 2 k + 1 for roots -/
def dj (a b : Nat × Nat) : Prop := a.2 ≤ b.1 ∨ b.2 ≤ a.1
def usd (n : Nat) (rt : List (Nat × Tm)) (s : Nat) : Prop := (∃ k, s = 2 * k ∧ k < n) ∨ ∃ k, s = 2 * k + 1 ∧ rt.find? (fun x => x.1 == k) ≠ none
def rgs (np n : Nat) (rt : List (Nat × Tm)) (rg : Nat → Nat × Nat) : Prop := (∀ s, usd n rt s → (rg s).2 ≤ np) ∧ ∀ s s', s ≠ s' → usd n rt s → usd n rt s' → dj (rg s) (rg s')
theorem rgs.le {np np' n : Nat} {rt : List (Nat × Tm)} {rg : Nat → Nat × Nat} (a : rgs np n rt rg) (h : np ≤ np') : rgs np' n rt rg := sorry
theorem rgs.nil (np : Nat) (rg : Nat → Nat × Nat) : rgs np 0 [] rg := sorry
def upR (z : Nat) (r : Nat × Nat) (rg : Nat → Nat × Nat) : Nat → Nat × Nat := fun s => if s = z then r else rg s
theorem upR_eq {z : Nat} {r : Nat × Nat} {rg : Nat → Nat × Nat} : upR z r rg z = r := sorry
theorem upR_ne {z s : Nat} {r : Nat × Nat} {rg : Nat → Nat × Nat} (h : s ≠ z) : upR z r rg s = rg s := sorry
theorem rgs.ext {np np' n n' : Nat} {rt rt' : List (Nat × Tm)} {rg : Nat → Nat × Nat} {z : Nat} (a : rgs np n rt rg) (hn : np ≤ np') (hu : ∀ s, usd n' rt' s → s = z ∨ usd n rt s) : rgs np' n' rt' (upR z (np, np') rg) := sorry
theorem rgs.add {np np' n : Nat} {rt : List (Nat × Tm)} {rg : Nat → Nat × Nat} (a : rgs np n rt rg) (hn : np ≤ np') : rgs np' (n + 1) rt (upR (2 * n) (np, np') rg) := sorry
theorem rgs.rt {np np' n k : Nat} {B : Tm} {rt : List (Nat × Tm)} {rg : Nat → Nat × Nat} (a : rgs np n rt rg) (hn : np ≤ np') : rgs np' n (rt ++ [(k, B)]) (upR (2 * k + 1) (np, np') rg) := sorry
