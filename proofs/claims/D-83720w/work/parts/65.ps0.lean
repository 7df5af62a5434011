/-! what both read: expressions -/
abbrev Tm := Jvm.Term
abbrev Sym := List Nat × Nat × Nat
abbrev Rs (α : Type) := Sum (Nat × Nat) α
abbrev Flt := Nat × Option (Nat × Nat)
abbrev Fr (α : Type) := Sum Flt α
def bnd {ε α β : Type} (x : Sum ε α) (f : α → Sum ε β) : Sum ε β := match x with
  | .inl e => .inl e
  | .inr a => f a
def lft {α : Type} (u : Nat) (x : Rs α) : Fr α := match x with
  | .inl (k, p) => .inl (k, some (u, p))
  | .inr a => .inr a
def scrN : List Nat := [115, 99, 114, 101, 101, 110]
def keyN : List Nat := [107, 101, 121, 115]
def syD : Sym := ([], 0, 0)
def syO (sy : List Sym) (s : Nat) : Sym := if s = 200 then (scrN, 1, 12) else if s = 201 then (keyN, 1, 13) else sy.getD s syD
def srO (sy : List Sym) (s : Nat) : Nat := (syO sy s).2.1
def szO (sy : List Sym) (s : Nat) : Nat := (syO sy s).2.2
/-- the names that are seen, the innermost first -/
def fnd (sy : List Sym) : List Nat → List Nat → Option Nat
  | [], _ => none
  | s :: r, cs => if (syO sy s).1 = cs then some s else fnd sy r cs
def sVal (k : Nat) : Bool := k == 2 || k == 3 || k == 4 || k == 10 || k == 11
def sVar (k : Nat) : Bool := k == 2 || k == 4
def sArr (k : Nat) : Bool := k == 5 || k == 6
def sChn (k : Nat) : Bool := k == 7 || k == 8 || k == 1
def isS (c : Nat) (k : Tok) : Bool := k.1 == 4 && k.2.2.1 == c
def isW (w : Nat) (k : Tok) : Bool := k.1 == 2 && k.2.2.1 == w
def isO (k : Tok) : Bool := isW 17 k || isW 18 k || (k.1 == 4 && (k.2.2.1 == 43 || k.2.2.1 == 45 || k.2.2.1 == 42 || k.2.2.1 == 47 || k.2.2.1 == 92 || k.2.2.1 == 61 || k.2.2.1 == 60 || k.2.2.1 == 62 || k.2.2.1 == 15422 || k.2.2.1 == 15421 || k.2.2.1 == 15933 || k.2.2.1 == 15420 || k.2.2.1 == 15934 || k.2.2.1 == 12124 || k.2.2.1 == 23599))
def opC (k : Tok) : Nat := if k.1 = 2 then (if k.2.2.1 = 17 then 65 else 79) else k.2.2.1
def hd (ts : List Tok) : Tok := ts.headD (0, 0, 0, [])
/-- a sign or word that has to come -/
def tkS (b : Bool) (ts : List Tok) : Rs (List Tok) := if b then .inr ts.tail else .inl (1, (hd ts).2.1)
def chkS (b : Bool) (kind place : Nat) : Rs Unit := if b then .inr () else .inl (kind, place)
abbrev ExP := Nat → List Tok → Rs (Tm × List Tok)
/-- 0: anything, 1: numbers, 2: channels -/
def thOf (EX : ExP) (sy : List Sym) (s place w br : Nat) (ts : List Tok) : Rs (Tm × List Tok) :=
  if isS 91 (hd ts) then
    bnd (chkS ((sArr (srO sy s) && w != 2) || (srO sy s == 9 && w != 1)) 4 place) fun _ =>
    bnd (chkS (br != 8) 1 (hd ts).2.1) fun _ =>
    bnd (EX (br + 1) ts.tail) fun x =>
    bnd (tkS (isS 93 (hd x.2)) x.2) fun r =>
    .inr (.elem (.arg s) x.1, r)
  else .inr (.arg s, ts)
/-- a name that there is -/
def knS (sy : List Sym) (vis : List Nat) (ts : List Tok) : Rs (Nat × List Tok) :=
  if (hd ts).1 = 1 then
    match fnd sy vis (hd ts).2.2.2 with
    | none => .inl (3, (hd ts).2.1)
    | some s => .inr (s, ts.tail)
  else .inl (1, (hd ts).2.1)
def thg (EX : ExP) (sy : List Sym) (vis : List Nat) (w br : Nat) (ts : List Tok) : Rs (Tm × List Tok) :=
  bnd (knS sy vis ts) fun x => thOf EX sy x.1 (hd ts).2.1 w br x.2
def nmT : Tm → Nat
  | .arg s => s
  | .elem (.arg s) _ => s
  | _ => 0
def isN : Tm → Bool
  | .arg _ => true
  | _ => false
def okVal (sy : List Sym) (a : Tm) : Bool := if isN a then sVal (srO sy (nmT a)) else sArr (srO sy (nmT a))
def okVar (sy : List Sym) (a : Tm) : Bool := if isN a then sVar (srO sy (nmT a)) else sArr (srO sy (nmT a))
def okChn (sy : List Sym) (a : Tm) : Bool := if isN a then sChn (srO sy (nmT a)) else srO sy (nmT a) == 9
def opd (EX : ExP) (sy : List Sym) (vis : List Nat) (br : Nat) (ts : List Tok) : Rs (Tm × List Tok) :=
  if (hd ts).1 = 3 then .inr (.int (nI (hd ts).2.2.1), ts.tail)
  else if isW 14 (hd ts) then .inr (.int 1, ts.tail)
  else if isW 15 (hd ts) then .inr (.int 0, ts.tail)
  else if isS 40 (hd ts) then
    bnd (chkS (br != 8) 1 (hd ts).2.1) fun _ =>
    bnd (EX (br + 1) ts.tail) fun x =>
    bnd (tkS (isS 41 (hd x.2)) x.2) fun r =>
    .inr (.old x.1, r)
  else if (hd ts).1 = 1 then
    bnd (thg EX sy vis 1 br ts) fun x =>
    bnd (chkS (okVal sy x.1) 4 (hd ts).2.1) fun _ =>
    .inr x
  else .inl (1, (hd ts).2.1)
def behS (EX : ExP) (sy : List Sym) (vis : List Nat) (br : Nat) (a : Tm) (ts : List Tok) : Rs (Tm × List Tok) :=
  if isO (hd ts) then
    bnd (opd EX sy vis br ts.tail) fun y =>
    .inr (.add (.index (opC (hd ts))) (.sub a y.1), y.2)
  else .inr (a, ts)
def expS (sy : List Sym) (vis : List Nat) : Nat → ExP
  | 0, _, _ => .inl (0, 0)
  | m + 1, br, ts =>
    if isS 45 (hd ts) then bnd (opd (expS sy vis m) sy vis br ts.tail) fun x => .inr (.length x.1, x.2)
    else if isW 16 (hd ts) then bnd (opd (expS sy vis m) sy vis br ts.tail) fun x => .inr (.sum x.1, x.2)
    else bnd (opd (expS sy vis m) sy vis br ts) fun x => behS (expS sy vis m) sy vis br x.1 x.2
/-! processes -/
def endS (ts : List Tok) : Rs Unit := chkS ((hd ts).1 == 0) 1 (hd ts).2.1
def exT (sy : List Sym) (vis : List Nat) (br : Nat) (ts : List Tok) : Rs (Tm × List Tok) := expS sy vis (9 - br) br ts
def thT (sy : List Sym) (vis : List Nat) (w br : Nat) (ts : List Tok) : Rs (Tm × List Tok) := thg (expS sy vis (8 - br)) sy vis w br ts
/-- a thing with what it has to be -/
def refS (ok : List Sym → Tm → Bool) (sy : List Sym) (vis : List Nat) (w br : Nat) (ts : List Tok) : Rs (Tm × List Tok) :=
  bnd (thT sy vis w br ts) fun x =>
  bnd (chkS (ok sy x.1) 4 (hd ts).2.1) fun _ =>
  .inr x
def argS (sy : List Sym) (vis : List Nat) (q : Nat) (ts : List Tok) : Rs (Tm × List Tok) :=
  if srO sy q = 3 then exT sy vis 1 ts
  else if (hd ts).1 = 1 then
    if srO sy q = 6 then
      bnd (knS sy vis ts) fun x =>
      bnd (chkS (sArr (srO sy x.1) && szO sy x.1 == szO sy q) 4 (hd ts).2.1) fun _ =>
      .inr (.arg x.1, x.2)
    else if srO sy q = 4 then refS okVar sy vis 1 1 ts
    else refS okChn sy vis 2 1 ts
  else .inl (4, (hd ts).2.1)
/-- arguments: all of a row of parameters -/
def argsS (sy : List Sym) (vis : List Nat) : List Nat → List Tok → Rs (Tm × List Tok)
  | [], ts => .inr (.null, ts)
  | q :: qs, ts =>
    bnd (chkS (!(isS 41 (hd ts))) 4 (hd ts).2.1) fun _ =>
    bnd (argS sy vis q ts) fun x =>
    match qs with
    | [] => bnd (chkS (!(isS 44 (hd x.2))) 4 (hd x.2).2.1) fun _ => .inr (.elem x.1 .null, x.2)
    | q2 :: qs2 =>
      bnd (chkS (!(isS 41 (hd x.2))) 4 (hd x.2).2.1) fun _ =>
      bnd (tkS (isS 44 (hd x.2)) x.2) fun r =>
      bnd (argsS sy vis (q2 :: qs2) r) fun y =>
      .inr (.elem x.1 y.1, y.2)
def calS (pa : List (List Nat)) (sy : List Sym) (vis : List Nat) (s place : Nat) (ts : List Tok) : Rs Tm :=
  bnd (chkS (srO sy s == 0) 4 place) fun _ =>
  bnd (argsS sy vis (pa.getD (szO sy s) []) ts.tail) fun x =>
  bnd (tkS (isS 41 (hd x.2)) x.2) fun r =>
  bnd (endS r) fun _ =>
  .inr (.elem (.index (szO sy s)) x.1)
/-- a line that begins with a name -/
def stmS (pa : List (List Nat)) (sy : List Sym) (vis : List Nat) (ts : List Tok) : Rs Tm :=
  bnd (knS sy vis ts) fun n =>
  if isS 40 (hd n.2) then calS pa sy vis n.1 (hd ts).2.1 n.2
  else
    bnd (thOf (expS sy vis 8) sy n.1 (hd ts).2.1 0 0 n.2) fun v =>
    if isS 14909 (hd v.2) then
      bnd (chkS (okVar sy v.1) 4 (hd ts).2.1) fun _ =>
      bnd (exT sy vis 0 v.2.tail) fun e => bnd (endS e.2) fun _ => .inr (.add v.1 e.1)
    else if isS 33 (hd v.2) then
      bnd (chkS (okChn sy v.1) 4 (hd ts).2.1) fun _ =>
      bnd (exT sy vis 0 v.2.tail) fun e => bnd (endS e.2) fun _ => .inr (.sub v.1 e.1)
    else if isS 63 (hd v.2) then
      bnd (chkS (okChn sy v.1) 4 (hd ts).2.1) fun _ =>
      bnd (refS okVar sy vis 1 0 v.2.tail) fun e => bnd (endS e.2) fun _ => .inr (.mul v.1 e.1)
    else .inl (1, (hd v.2).2.1)
/-- a guard: its expression, its channel, where it takes to -/
def grdS (sy : List Sym) (vis : List Nat) (ts : List Tok) : Rs (Tm × Tm × Tm) :=
  bnd (if (hd ts).1 = 1 then
      bnd (thT sy vis 0 0 ts) fun c =>
      if isS 38 (hd c.2) || isO (hd c.2) then
        bnd (chkS (okVal sy c.1) 4 (hd ts).2.1) fun _ =>
        bnd (behS (expS sy vis 8) sy vis 0 c.1 c.2) fun e => .inr (some e.1, c.1, e.2)
      else .inr (none, c.1, c.2)
    else bnd (exT sy vis 0 ts) fun e => .inr (some e.1, .null, e.2)) fun (x : Option Tm × Tm × List Tok) =>
  match x.1 with
  | some e =>
    bnd (tkS (isS 38 (hd x.2.2)) x.2.2) fun r =>
    if isW 7 (hd r) then bnd (endS r.tail) fun _ => .inr (e, .null, .null)
    else
      bnd (refS okChn sy vis 2 0 r) fun c =>
      bnd (tkS (isS 63 (hd c.2)) c.2) fun r2 =>
      bnd (refS okVar sy vis 1 0 r2) fun v => bnd (endS v.2) fun _ => .inr (e, c.1, v.1)
  | none =>
    bnd (tkS (isS 63 (hd x.2.2)) x.2.2) fun r2 =>
    bnd (chkS (okChn sy x.2.1) 4 (hd ts).2.1) fun _ =>
    bnd (refS okVar sy vis 1 0 r2) fun v => bnd (endS v.2) fun _ => .inr (.null, x.2.1, v.1)
def numS (lo hi : Nat) (ts : List Tok) : Rs (Nat × List Tok) := if (hd ts).1 = 3 ∧ lo ≤ (hd ts).2.2.1 ∧ (hd ts).2.2.1 ≤ hi then .inr ((hd ts).2.2.1, ts.tail) else .inl (1, (hd ts).2.1)
/-- a new name, unlike those from a number on -/
def newS (fr sort size : Nat) (sy : List Sym) (ts : List Tok) : Rs (List Sym × List Tok) :=
  if (hd ts).1 = 1 then
    if ((sy.drop fr).any fun x => x.1 == (hd ts).2.2.2) then .inl (2, (hd ts).2.1)
    else if sy.length = 200 then .inl (6, (hd ts).2.1)
    else .inr (sy ++ [((hd ts).2.2.2, sort, size)], ts.tail)
  else .inl (1, (hd ts).2.1)
def nmsS (fr sort size : Nat) : Nat → List Sym → List Tok → Rs (List Sym × List Tok)
  | 0, _, _ => .inl (0, 0)
  | m + 1, sy, ts =>
    bnd (newS fr sort size sy ts) fun x =>
    if isS 44 (hd x.2) then nmsS fr sort size m x.1 x.2.tail else .inr x
/-- a declaration's line -/
def decS (sy : List Sym) (ts : List Tok) : Rs (List Sym) :=
  bnd (if isS 91 (hd ts) then bnd (numS 1 64 ts.tail) fun x => bnd (tkS (isS 93 (hd x.2)) x.2) fun r => .inr (x.1, r) else .inr (0, ts)) fun z =>
  bnd (tkS (isW 10 (hd z.2) || isW 9 (hd z.2)) z.2) fun r =>
  bnd (nmsS sy.length (if isW 10 (hd z.2) then (if 0 < z.1 then 9 else 7) else (if 0 < z.1 then 5 else 2)) z.1 (r.length + 1) sy r) fun y =>
  bnd (tkS (isS 58 (hd y.2)) y.2) fun r2 =>
  bnd (endS r2) fun _ =>
  .inr y.1
/-- names from f on, m of them, are seen: the last one innermost -/
def seeS (vis : List Nat) (f : Nat) : Nat → List Nat
  | 0 => vis
  | m + 1 => (f + m) :: seeS vis f m
abbrev PrR := Fr (Tm × List Sym × List PL)
abbrev PrP := Nat → List Nat → List Sym → List PL → PrR
def isAt (lv : Nat) (L : List PL) : Bool := match L with
  | [] => false
  | x :: _ => x.2.1 / 2 == lv && !(oddI x.2.1)
def lvlF (L : List PL) : Flt := match L with
  | [] => (1, none)
  | x :: _ => (1, some (x.1, x.2.1))
/-- processes at a level -/
def blwS (P : PrP) (lv : Nat) (vis : List Nat) (least most : Nat) : Nat → Nat → List Sym → List PL → PrR
  | 0, _, _, _ => .inl (0, none)
  | m + 1, many, sy, L =>
    if many < least ∨ isAt lv L = true then
      if many = most then .inl (lvlF L)
      else
        bnd (P lv vis sy L) fun x =>
        bnd (blwS P lv vis least most m (many + 1) x.2.1 x.2.2) fun y =>
        .inr (.elem x.1 y.1, y.2)
    else .inr (.null, sy, L)
def ifsS (P : PrP) (lv : Nat) (vis : List Nat) : Nat → Bool → List Sym → List PL → PrR
  | 0, _, _, _ => .inl (0, none)
  | m + 1, more, sy, L =>
    if more || isAt (lv + 1) L then
      if isAt (lv + 1) L then
        match L with
        | [] => .inl (0, none)
        | l :: L2 =>
          bnd (lft l.1 (bnd (exT sy vis 0 l.2.2) fun e => bnd (endS e.2) fun _ => .inr e.1)) fun e =>
          bnd (P (lv + 2) vis sy L2) fun x =>
          bnd (ifsS P lv vis m false x.2.1 x.2.2) fun y =>
          .inr (.elem (.elem e x.1) y.1, y.2)
      else .inl (lvlF L)
    else .inr (.null, sy, L)
def altS (P : PrP) (lv : Nat) (vis : List Nat) : Nat → Nat → List Sym → List PL → PrR
  | 0, _, _, _ => .inl (0, none)
  | m + 1, many, sy, L =>
    if many = 0 ∨ isAt (lv + 1) L = true then
      if isAt (lv + 1) L then
        if many = 8 then .inl (lvlF L)
        else
          match L with
          | [] => .inl (0, none)
          | l :: L2 =>
            bnd (lft l.1 (grdS sy vis l.2.2)) fun g =>
            bnd (P (lv + 2) vis sy L2) fun x =>
            bnd (altS P lv vis m (many + 1) x.2.1 x.2.2) fun y =>
            .inr (.elem (.div (.index l.1) (.elem g.1 (.elem g.2.1 (.elem g.2.2 x.1)))) y.1, y.2)
      else .inl (lvlF L)
    else .inr (.null, sy, L)
/-- what a word begins -/
def conS (P : PrP) (lv : Nat) (vis : List Nat) (sy : List Sym) (u : Nat) (ts : List Tok) (L : List PL) : PrR :=
  if isW 7 (hd ts) then bnd (lft u (endS ts.tail)) fun _ => .inr (.null, sy, L)
  else if isW 8 (hd ts) then bnd (lft u (endS ts.tail)) fun _ => .inr (.result, sy, L)
  else if isW 1 (hd ts) then
    if (hd ts.tail).1 = 1 then
      bnd (lft u (bnd (newS sy.length 10 0 sy ts.tail) fun n =>
        bnd (tkS (isS 61 (hd n.2)) n.2) fun r =>
        bnd (exT n.1 vis 0 r) fun e1 =>
        bnd (tkS (isW 13 (hd e1.2)) e1.2) fun r2 =>
        bnd (exT n.1 vis 0 r2) fun e2 =>
        bnd (endS e2.2) fun _ => .inr (n.1, e1.1, e2.1))) fun z =>
      bnd (P (lv + 1) (sy.length :: vis) z.1 L) fun x =>
      .inr (.rem (.arg sy.length) (.elem (.elem z.2.1 z.2.2) x.1), x.2)
    else
      bnd (lft u (endS ts.tail)) fun _ =>
      bnd (blwS P (lv + 1) vis 0 100000 (L.length + 1) 0 sy L) fun x => .inr (.length x.1, x.2)
  else if isW 2 (hd ts) then
    if (hd ts.tail).1 = 1 then
      bnd (lft u (bnd (newS sy.length 11 0 sy ts.tail) fun n =>
        bnd (tkS (isS 61 (hd n.2)) n.2) fun r =>
        bnd (numS 0 2147483647 r) fun e1 =>
        bnd (tkS (isW 13 (hd e1.2)) e1.2) fun r2 =>
        bnd (numS 1 8 r2) fun e2 =>
        bnd (endS e2.2) fun _ => .inr (n.1, e1.1, e2.1))) fun z =>
      bnd (P (lv + 1) (sy.length :: vis) z.1 L) fun x =>
      .inr (.rem (.index sy.length) (.elem (.elem (.index z.2.1) (.index z.2.2)) x.1), x.2)
    else
      bnd (lft u (endS ts.tail)) fun _ =>
      bnd (blwS P (lv + 1) vis 2 8 (L.length + 3) 0 sy L) fun x => .inr (.sum (.elem (.index sy.length) x.1), x.2)
  else if isW 3 (hd ts) then
    bnd (lft u (bnd (tkS (isW 2 (hd ts.tail)) ts.tail) fun r => endS r)) fun _ =>
    bnd (blwS P (lv + 1) vis 2 2 (L.length + 3) 0 sy L) fun x => .inr (.old (.elem (.index sy.length) x.1), x.2)
  else if isW 5 (hd ts) then
    bnd (lft u (endS ts.tail)) fun _ =>
    bnd (ifsS P lv vis (L.length + 2) true sy L) fun x => .inr (.rem .null x.1, x.2)
  else if isW 6 (hd ts) then
    bnd (lft u (bnd (exT sy vis 0 ts.tail) fun e => bnd (endS e.2) fun _ => .inr e.1)) fun e =>
    bnd (P (lv + 1) vis sy L) fun x => .inr (.div e x.1, x.2)
  else if isW 4 (hd ts) then
    bnd (lft u (endS ts.tail)) fun _ =>
    bnd (altS P lv vis (L.length + 2) 0 sy L) fun x => .inr (.rem .result x.1, x.2)
  else .inl (1, some (u, (hd ts).2.1))
/-- a process at a level -/
def proS (pa : List (List Nat)) : Nat → PrP
  | 0, _, _, _, _ => .inl (0, none)
  | m + 1, lv, vis, sy, L =>
    if isAt lv L then
      match L with
      | [] => .inl (0, none)
      | (u, _, ts) :: L2 =>
        bnd (if isW 9 (hd ts) || isW 10 (hd ts) || isS 91 (hd ts) then
            bnd (lft u (decS sy ts)) fun sy2 =>
            bnd (proS pa m lv (seeS vis sy.length (sy2.length - sy.length)) sy2 L2) fun x =>
            .inr (.rem (.elem (.index sy.length) (.index (sy2.length - sy.length))) x.1, x.2)
          else if (hd ts).1 = 1 then bnd (lft u (stmS pa sy vis ts)) fun a => .inr (a, sy, L2)
          else conS (proS pa m) lv vis sy u ts L2) fun x =>
        .inr (.div (.index u) x.1, x.2)
    else .inl (lvlF L)

