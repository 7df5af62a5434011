/-! the system, plainly: processors that are there, links from, to, how many links, bytes -/
abbrev PgS := (Nat → Bool) × (Nat → Nat) × (Nat → Nat) × Nat × (Nat → Nat → Nat)
abbrev Sy := (Nat → Cr) × Wd × Int32 × Int32
def sC (S : Sy) (p : Nat) (s : Cr) : Sy := ((fun q => if q = p then s else S.1 q), S.2)
def sW (S : Sy) (w : Wd) : Sy := (S.1, w, S.2.2)
def wClr (w : Wd) (l : Nat) : Wd := (w.1, (fun a t => if a = l then 0 else w.2.1 a t), w.2.2)
/-- a link does one thing -/
def sBeat (G : PgS) (S : Sy) (l : Nat) : Option (Bool × Sy) :=
  if ¬ S.2.1.2.1 l 5 = 0 then
    if S.2.1.2.1 l 2 = S.2.1.2.1 l 3 + 1 ∧ ¬ S.2.1.2.1 l 0 = 0 ∧ G.1 (G.2.1 l) = true then
      if S.2.1.2.1 l 3 + 1 = 4 then
        if S.2.1.2.1 l 4 = 0 then ((cReady (sM (S.1 (G.2.1 l)) l (-1)) ((S.1 (G.2.1 l)).2.1 l)).bind cSettle).map fun s => (true, sC (sW S (wClr S.2.1 l)) (G.2.1 l) s) else none
      else if S.2.1.2.1 l 2 < 4 then some (true, sW S (wL (wL S.2.1 l 5 0) l 3 (S.2.1.2.1 l 3 + 1))) else none
    else none
  else if ¬ S.2.1.2.1 l 0 = 0 ∧ S.2.1.2.1 l 2 = S.2.1.2.1 l 3 ∧ S.2.1.2.1 l 2 < 4 then
    if S.2.1.2.1 l 4 + 1 = 4 then
      if G.1 (G.2.2.1 l) = true then (cCome (S.1 (G.2.2.1 l)) l (S.2.1.2.1 l 1)).bind fun x => (cSettle x.2).map fun s => (true, sC (sW S (if x.1 = true then wL (wL (wL (wL S.2.1 l 2 (S.2.1.2.1 l 2 + 1)) l 4 (S.2.1.2.1 l 4 + 1)) l 4 0) l 5 1 else wL (wL S.2.1 l 2 (S.2.1.2.1 l 2 + 1)) l 4 (S.2.1.2.1 l 4 + 1))) (G.2.2.1 l) s)
      else some (true, sW S (wL (wL S.2.1 l 2 (S.2.1.2.1 l 2 + 1)) l 4 (S.2.1.2.1 l 4 + 1)))
    else if S.2.1.2.1 l 4 + 1 < 4 then some (true, sW S (wL (wL (wL S.2.1 l 2 (S.2.1.2.1 l 2 + 1)) l 4 (S.2.1.2.1 l 4 + 1)) l 5 1)) else none
  else some (false, S)
def sBl (G : PgS) : Nat → Nat → Sy → Int32 → Option (Int32 × Sy)
  | 0, _, S, n => some (n, S)
  | k + 1, l, S, n => (sBeat G S l).bind fun x => sBl G k (l + 1) x.2 (n + bI x.1)
def sBa (G : PgS) (S : Sy) : Option (Int32 × Sy) := (sBl G G.2.2.2.1 0 S 0).map fun x => (x.1, x.2.1, x.2.2.1, x.2.2.2.1 + 1, x.2.2.2.2 + x.1)
/-- n beats -/
def sBn (G : PgS) : Nat → Sy → Int32 → Option (Int32 × Sy)
  | 0, S, n => some (n, S)
  | k + 1, S, n => (sBa G S).bind fun x => sBn G k x.2 (n + x.1)
/-- a processor's byte -/
def sStep (G : PgS) (S : Sy) (p : Nat) : Option Sy := (cStep (G.2.2.2.2 p) (S.1 p) S.2.1).map fun x => sC (sW S x.2) p x.1
def sRun (G : PgS) (p : Nat) : Nat → Sy → Int32 → Option (Int32 × Sy)
  | 0, S, n => some (n, S)
  | k + 1, S, n => if (S.1 p).1 14 = 0 then some (n, S) else (sStep G S p).bind fun S => sRun G p k S (n + 1)
/-- how it stands: error, all done, one runs -/
def sErr (G : PgS) (S : Sy) : Bool := (List.range 6).any fun p => G.1 p && !decide ((S.1 p).1 18 = 0)
def sAll (G : PgS) (S : Sy) : Bool := (List.range 6).all fun p => !G.1 p || !decide ((S.1 p).1 19 = 0)
def lGo (w : Wd) (l : Nat) : Bool := !decide (w.2.1 l 0 = 0) && decide (w.2.1 l 2 = w.2.1 l 3) && decide (w.2.1 l 2 < 4)
def sAny (G : PgS) (S : Sy) : Bool := ((List.range 6).any fun p => G.1 p && !decide ((S.1 p).1 14 = 0)) || (List.range G.2.2.2.1).any fun l => !decide (S.2.1.2.1 l 5 = 0) || lGo S.2.1 l
def sOut (G : PgS) (S : Sy) : Int32 := if sErr G S then 3 else if sAll G S then 1 else if sAny G S then 0 else 2
/-- a byte of each -/
def sRd (G : PgS) : Nat → Nat → Sy → Option Sy
  | 0, _, S => some S
  | k + 1, p, S => (if G.1 p = true ∧ ¬ (S.1 p).1 14 = 0 then sStep G S p else some S).bind fun S => sRd G k (p + 1) S
def sRs (G : PgS) : Nat → Sy → Int32 → Option (Int32 × Sy)
  | 0, S, n => some (n, S)
  | k + 1, S, n => if ¬ sOut G S = 0 then some (n, S) else (sRd G 6 0 S).bind fun S => (sBa G S).bind fun x => sRs G k x.2 (n + 1)
/-- a key comes -/
def wGiv (w : Wd) (v : Int32) : Wd := ((fun t => if t = 1 then w.1 1 + 1 else w.1 t), w.2.1, (fun x => if x = (w.1 1).toNatClampNeg then v else w.2.2.1 x), w.2.2.2)
def sInp (G : PgS) (S : Sy) (v : Int32) : Option Sy := if mj_in (S.2.1.1 1) 200 then
    if G.1 0 = true then
      (cCome (S.1 0) 13 v).bind fun x => if x.1 = true then if S.2.1.1 2 = S.2.1.1 1 then (cSettle x.2).map fun s => sC (sW S (wH (wGiv S.2.1 v) 2 (S.2.1.1 2 + 1))) 0 s else none else (cSettle x.2).map fun s => sC (sW S (wGiv S.2.1 v)) 0 s
    else some (sW S (wGiv S.2.1 v))
  else none
