/-! a core, plainly: registers (by the component's fields: 8 a, 9 b, 10 c, 11 i, 12 w, 13 o, 14 runs, 15 low, 16 slice, 17 did, 18 error, 19 done, 22 kept, 23-27 kept w a b c o), memory, rows of ready ones -/
abbrev Cr := (Nat → Int32) × (Nat → Int32) × List Nat × List Nat
/-- the host's fields (1 given, 2 taken, 4 count), links' fields (0 waits, 1 word, 2 sent, 3 acknowledged, 4 came, 5 due), inputs, outputs -/
abbrev Wd := (Nat → Int32) × (Nat → Nat → Int32) × (Nat → Int32) × (Nat → Int32)
def sR (s : Cr) (j : Nat) (v : Int32) : Cr := (fun t => if t = j then v else s.1 t, s.2)
def sM (s : Cr) (x : Nat) (v : Int32) : Cr := (s.1, (fun t => if t = x then v else s.2.1 t), s.2.2)
def sQ (s : Cr) (H L : List Nat) : Cr := (s.1, s.2.1, H, L)
def wH (w : Wd) (j : Nat) (v : Int32) : Wd := ((fun t => if t = j then v else w.1 t), w.2)
def wL (w : Wd) (l j : Nat) (v : Int32) : Wd := (w.1, (fun a t => if a = l ∧ t = j then v else w.2.1 a t), w.2.2)
def wO (w : Wd) (x : Nat) (v : Int32) : Wd := (w.1, w.2.1, w.2.2.1, (fun t => if t = x then v else w.2.2.2 t))
/-- an address below the bound (register 5: 16 + words) -/
def adM (s : Cr) (x : Int32) : Option Nat := if mj_in x 4016 ∧ x < s.1 5 then some x.toNatClampNeg else none
def cRest (s : Cr) : Option Cr := (adM s (s.1 12 - 1)).map fun x => sR (sM s x (s.1 11)) 14 0
def cStart (s : Cr) (n : Nat) (lo : Int32) : Option Cr := (adM s (nI n - 1)).map fun x => sR (sR (sR (sR (sR (sR (sR (sR (sR s 14 1) 12 (nI n)) 15 lo) 16 0) 8 0) 9 0) 10 0) 13 0) 11 (s.2.1 x)
def cSelf (s : Cr) : Int32 := 2 * s.1 12 + s.1 15
def cReady (s : Cr) (d : Int32) : Option Cr := if mj_in d 8032 ∧ s.2.2.1.length + s.2.2.2.length < 1090 then some (if d.toNatClampNeg % 2 = 0 then sQ s (s.2.2.1 ++ [d.toNatClampNeg / 2]) s.2.2.2 else sQ s s.2.2.1 (s.2.2.2 ++ [d.toNatClampNeg / 2])) else none
/-- a high one goes ahead -/
def cPre (s : Cr) : Option Cr := if ¬ s.1 14 = 0 ∧ ¬ s.1 15 = 0 ∧ s.2.2.1 ≠ [] then
    if mj_in (s.1 12) 4016 ∧ s.2.2.1.length + s.2.2.2.length < 1090 then
      (cRest (sR (sR (sR (sR (sR (sR s 22 1) 23 (s.1 12)) 24 (s.1 8)) 25 (s.1 9)) 26 (s.1 10)) 27 (s.1 13))).map fun s => sQ s s.2.2.1 ((s.1 12).toNatClampNeg :: s.2.2.2)
    else none
  else some s
/-- the next one comes -/
def cNext (s : Cr) : Option Cr := if ¬ s.1 14 = 0 then some s else
  match s.2.2.1, s.2.2.2 with
  | n :: H, L => cStart (sQ s H L) n 0
  | [], n :: L => (cStart (sQ s [] L) n 1).bind fun s => if s.1 22 = 0 then some s else if s.1 23 = nI n then some (sR (sR (sR (sR (sR s 8 (s.1 24)) 9 (s.1 25)) 10 (s.1 26)) 13 (s.1 27)) 22 0) else none
  | [], [] => some s
def cSettle (s : Cr) : Option Cr := (cPre s).bind cNext
def cPush (s : Cr) (v : Int32) : Cr := sR (sR (sR s 10 (s.1 9)) 9 (s.1 8)) 8 v
def cPop (s : Cr) : Cr := sR (sR s 8 (s.1 9)) 9 (s.1 10)
def cTwo (s : Cr) (v : Int32) : Cr := sR (cPop s) 8 v
def cFails (s : Cr) : Cr := sR (sR s 18 1) 14 0
/-- direct functions -/
def cDir (s : Cr) (f : Nat) (v : Int32) : Option Cr := match f with
  | 0 => if ¬ s.1 15 = 0 ∧ 64 ≤ s.1 16 ∧ s.2.2.2 ≠ [] then
      if mj_in (s.1 12) 4016 ∧ s.2.2.1.length + s.2.2.2.length < 1090 then (cRest (sR s 11 (s.1 11 + v))).map fun s => sQ s s.2.2.1 (s.2.2.2 ++ [(s.1 12).toNatClampNeg]) else none
    else some (sR s 11 (s.1 11 + v))
  | 1 => some (cPush s (s.1 12 + v))
  | 3 => (adM s (s.1 8 + v)).map fun x => sR s 8 (s.2.1 x)
  | 4 => some (cPush s v)
  | 5 => some (sR s 8 (s.1 8 + v))
  | 7 => (adM s (s.1 12 + v)).map fun x => cPush s (s.2.1 x)
  | 8 => some (sR s 8 (s.1 8 + v))
  | 9 => (adM s (s.1 12 - 4)).map fun x => sR (sM (sR s 12 (s.1 12 - 4)) x (s.1 11)) 11 (s.1 11 + v)
  | 10 => if s.1 8 = 0 then some (sR s 11 (s.1 11 + v)) else some (cPop s)
  | 11 => if mj_in (s.1 12 + v) 4016 then some (sR s 12 (s.1 12 + v)) else none
  | 12 => some (sR s 8 (if s.1 8 = v then 1 else 0))
  | 13 => (adM s (s.1 12 + v)).map fun x => sM (cPop s) x (s.1 8)
  | 14 => (adM s (s.1 8 + v)).map fun x => sM (cPop (cPop s)) x (s.1 9)
  | _ => none
/-- n words from x on -/
def cFill (s : Cr) (x : Int32) (v : Int32) : Nat → Option Cr
  | 0 => some s
  | n + 1 => (cFill s x v n).bind fun s => (adM s (x + nI n)).map fun y => sM s y v
/-- operations that no other process hears of -/
def cOpr (s : Cr) (o : Nat) : Option Cr := match o with
  | 0 => some (sR (sR s 8 (s.1 9)) 9 (s.1 8))
  | 1 => some (cTwo s (s.1 9 + s.1 8))
  | 2 => some (cTwo s (s.1 9 - s.1 8))
  | 3 => some (cTwo s (s.1 9 * s.1 8))
  | 4 => if s.1 8 = 0 then some (cFails s) else some (cTwo s (s.1 9 / s.1 8))
  | 5 => if s.1 8 = 0 then some (cFails s) else some (cTwo s (s.1 9 - s.1 9 / s.1 8 * s.1 8))
  | 6 => some (cTwo s (if s.1 9 ≤ s.1 8 then 0 else 1))
  | 7 => some (cTwo s (s.1 9 &&& s.1 8))
  | 8 => some (cTwo s (s.1 9 ||| s.1 8))
  | 9 => some (cTwo s (s.1 9 <<< ((s.1 8 &&& 31) &&& 31)))
  | 10 => some (cTwo s (((s.1 9).toUInt32 >>> ((s.1 8 &&& 31 : Int32).toUInt32 &&& Int32.toUInt32 31)).toInt32))
  | 11 => some (cTwo s (s.1 9 + s.1 8))
  | 12 => some (if 0 ≤ s.1 9 ∧ s.1 9 < s.1 8 then cPop s else cFails (cPop s))
  | 13 => some (sR s 8 (s.1 8 + s.1 11))
  | 14 => (cFill s (s.1 8) (s.1 10) (s.1 9).toNatClampNeg).map fun s => sR (sR (sR s 8 0) 9 0) 10 0
  | _ => none
/-- waiting at a channel -/
def cWait (s : Cr) (c : Nat) (v : Int32) : Option Cr := (adM s (s.1 12 - 1)).bind fun x1 => (adM s (s.1 12 - 2)).bind fun x2 => (adM s (s.1 12 - 3)).bind fun x3 =>
  if c ≠ x1 ∧ c ≠ x2 ∧ c ≠ x3 then cRest (sM (sM (sM s c (cSelf s)) x2 v) x3 0) else none
/-- one in ALT hears -/
def cWake (s : Cr) (d : Int32) : Option Cr := if mj_in d 8032 then (adM s (d / 2 - 3)).bind fun x => (if s.2.1 x = 2 then cReady s d else some s).map fun s => sM s x 3 else none
def cIn (s : Cr) (w : Wd) (ch ad : Int32) : Option (Cr × Wd) := (adM s ch).bind fun c =>
  if c = 13 then if w.1 1 ≤ w.1 2 then (cWait s c ad).map fun s => (s, w) else (adM s ad).bind fun x => if mj_in (w.1 2) 200 then some (sM s x (w.2.2.1 (w.1 2).toNatClampNeg), wH w 2 (w.1 2 + 1)) else none
  else if c < 12 then if w.2.1 c 4 = 4 then (adM s ad).map fun x => (sM s x (w.2.1 c 1), wL (wL w c 4 0) c 5 1) else (cWait s c ad).map fun s => (s, w)
  else if c = 12 then none
  else if s.2.1 c = -1 then (cWait s c ad).map fun s => (s, w)
  else if mj_in (s.2.1 c) 8032 then (adM s (s.2.1 c / 2 - 2)).bind fun y => (adM s ad).bind fun x => (cReady (sM (sM s x (s.2.1 y)) c (-1)) (s.2.1 c)).map fun s => (s, w) else none
def cOut (s : Cr) (w : Wd) (ch v : Int32) : Option (Cr × Wd) := (adM s ch).bind fun c =>
  if c = 12 then if w.1 4 < 0 then none else if 1000 ≤ w.1 4 then some (s, wH w 4 (w.1 4 + 1)) else some (s, wH (wO w (w.1 4).toNatClampNeg v) 4 (w.1 4 + 1))
  else if c < 12 then if w.2.1 c 0 = 0 ∧ w.2.1 c 2 = 0 ∧ w.2.1 c 3 = 0 then (cWait s c v).map fun s => (s, wL (wL w c 0 1) c 1 v) else none
  else if c = 13 then none
  else if s.2.1 c = -1 then (cWait s c v).map fun s => (s, w)
  else if mj_in (s.2.1 c) 8032 then (adM s (s.2.1 c / 2 - 3)).bind fun y =>
    if s.2.1 y = 0 then (adM s (s.2.1 c / 2 - 2)).bind fun z => (adM s (s.2.1 z)).bind fun x => (cReady (sM (sM s x v) c (-1)) (s.2.1 c)).map fun s => (s, w)
    else (adM s (s.1 12 - 1)).bind fun x1 => (adM s (s.1 12 - 2)).bind fun x2 => (adM s (s.1 12 - 3)).bind fun x3 => if y ≠ x1 ∧ y ≠ x2 ∧ y ≠ x3 ∧ y ≠ c then ((cWait s c v).bind fun s1 => cWake s1 (s.2.1 c)).map fun s => (s, w) else none
  else none
/-- is there something to take -/
def cHas (s : Cr) (w : Wd) (c : Nat) : Option Bool := if c = 13 then some (!decide (w.1 1 ≤ w.1 2)) else if c < 12 then some (decide (w.2.1 c 4 = 4)) else if c = 12 then none else some (!decide (s.2.1 c = -1) && !decide (s.2.1 c = cSelf s))
def cEnb (s : Cr) (w : Wd) (ch : Int32) : Option Cr := (adM s ch).bind fun c => (cHas s w c).bind fun b =>
  if b then (adM s (s.1 12 - 3)).map fun x => sM s x 3 else if s.2.1 c = -1 ∨ s.2.1 c = cSelf s then some (sM s c (cSelf s)) else none
def cDis (s : Cr) (w : Wd) (ch gd wy : Int32) : Option Cr := if gd = 0 then some s else (adM s ch).bind fun c => (cHas s w c).bind fun b => (adM s (s.1 12)).bind fun x =>
  if c = x then none else
  let s1 := if s.2.1 c = cSelf s then sM s c (-1) else s
  some (if b = true ∧ s.2.1 x = -1 then sM s1 x wy else s1)
/-- operations of the schedule -/
def cSch (s : Cr) (w : Wd) (o : Nat) : Option (Cr × Wd) := match o with
  | 15 => (adM s (s.1 8 - 1)).bind fun x1 => (adM s (s.1 8 - 3)).bind fun x3 => (cReady (sM (sM (cPop (cPop s)) x1 (s.1 9)) x3 0) (2 * s.1 8 + s.1 15)).map fun s => (s, w)
  | 16 => (adM s (s.1 8 - 1)).bind fun x1 => (adM s (s.1 8 - 3)).bind fun x3 => (cReady (sM (sM (cPop (cPop s)) x1 (s.1 9)) x3 0) (2 * s.1 8)).map fun s => (s, w)
  | 17 => (adM s (s.1 8)).bind fun x0 => (adM s (s.1 8 + 1)).bind fun x1 => (adM s (s.1 8 + 2)).bind fun x2 =>
      if s.2.1 x1 - 1 = 0 then
        if mj_in (s.2.1 x2) 8032 then (adM s (s.2.1 x2 / 2 - 1)).bind fun y1 => (adM s (s.2.1 x2 / 2 - 3)).bind fun y3 => if x0 = x1 ∨ x2 = x1 ∨ y1 = x0 ∨ y1 = x1 ∨ y1 = x2 then none else (cReady (sM (sM (sM s x1 0) y1 (s.2.1 x0)) y3 0) (s.2.1 x2)).map fun s => (sR s 14 0, w)
        else none
      else some (sR (sM s x1 (s.2.1 x1 - 1)) 14 0, w)
  | 18 => some (sR s 14 0, w)
  | 19 => if mj_in (s.1 12 + 4) 4016 then (adM s (s.1 12)).map fun x => (sR (sR s 11 (s.2.1 x)) 12 (s.1 12 + 4), w) else none
  | 20 => cIn (cPop (cPop s)) w (s.1 8) (s.1 9)
  | 21 => cOut (cPop (cPop s)) w (s.1 8) (s.1 9)
  | 22 => (adM s (s.1 12 - 3)).bind fun x3 => (adM s (s.1 12)).map fun x => (sM (sM s x3 1) x (-1), w)
  | 23 => if s.1 9 = 0 then some (cPop s, w) else (cEnb (cPop s) w (s.1 8)).map fun s => (s, w)
  | 24 => (adM s (s.1 12 - 3)).map fun x3 => (if s.1 8 = 0 then s else sM s x3 3, w)
  | 25 => (adM s (s.1 12 - 3)).bind fun x3 => if s.2.1 x3 = 3 then some (s, w) else (cRest (sM s x3 2)).map fun s => (s, w)
  | 26 => (cDis (cPop (cPop (cPop s))) w (s.1 8) (s.1 9) (s.1 10)).map fun s => (s, w)
  | 27 => if s.1 8 = 0 then some (cPop (cPop s), w) else (adM s (s.1 12)).map fun x => (if s.2.1 x = -1 then sM (cPop (cPop s)) x (s.1 9) else cPop (cPop s), w)
  | 28 => (adM s (s.1 12 - 3)).bind fun x3 => (adM s (s.1 12)).map fun x => (sR (sM s x3 0) 11 (s.1 11 + s.2.1 x), w)
  | 29 => some (cFails s, w)
  | 30 => some (cPush s (cSelf s), w)
  | 31 => some (sR (sR s 19 1) 14 0, w)
  | _ => none
/-- a byte -/
def cByte (s : Cr) (w : Wd) (x : Nat) : Option (Cr × Wd) :=
  let s1 := sR (sR (sR s 11 (s.1 11 + 1)) 17 (s.1 17 + 1)) 16 (s.1 16 + 1)
  let v := s.1 13 ||| nI (x % 16)
  if x / 16 = 2 then some (sR s1 13 (v <<< ((4 : Int32) &&& 31)), w)
  else if x / 16 = 6 then some (sR s1 13 ((v ^^^ (-1)) <<< ((4 : Int32) &&& 31)), w)
  else if x / 16 = 15 then if v.toNatClampNeg < 15 then (if v < 0 then none else (cOpr (sR s1 13 0) v.toNatClampNeg).map fun s => (s, w)) else cSch (sR s1 13 0) w v.toNatClampNeg
  else (cDir (sR s1 13 0) (x / 16) v).map fun s => (s, w)
def cStep (cd : Nat → Nat) (s : Cr) (w : Wd) : Option (Cr × Wd) := if mj_in (s.1 11) 6000 ∧ cd (s.1 11).toNatClampNeg < 256 then (cByte s w (cd (s.1 11).toNatClampNeg)).bind fun x => (cSettle x.1).map fun s => (s, x.2) else none
/-- something comes from outside -/
def cCome (s : Cr) (c : Nat) (v : Int32) : Option (Bool × Cr) := if s.2.1 c = -1 then some (false, s) else
  if mj_in (s.2.1 c) 8032 then (adM s (s.2.1 c / 2 - 3)).bind fun y =>
    if s.2.1 y = 0 then (adM s (s.2.1 c / 2 - 2)).bind fun z => (adM s (s.2.1 z)).bind fun x => (cReady (sM (sM s x v) c (-1)) (s.2.1 c)).map fun s => (true, s)
    else (cWake s (s.2.1 c)).map fun s => (false, s)
  else none
