/-! the twin's reader: a line that begins with a name -/
/-- behind the thing -/
def nmS (sy : List Sym) (vis : List Nat) (place : Nat) (y : Tm) (r : List Tok) : Rs Tm :=
  if isS 14909 (hd r) then
    bnd (chkS (okVar sy y) 4 place) fun _ =>
    bnd (exT sy vis 0 r.tail) fun e => bnd (endS e.2) fun _ => .inr (.add y e.1)
  else if isS 33 (hd r) then
    bnd (chkS (okChn sy y) 4 place) fun _ =>
    bnd (exT sy vis 0 r.tail) fun e => bnd (endS e.2) fun _ => .inr (.sub y e.1)
  else if isS 63 (hd r) then
    bnd (chkS (okChn sy y) 4 place) fun _ =>
    bnd (refS okVar sy vis 1 0 r.tail) fun e => bnd (endS e.2) fun _ => .inr (.mul y e.1)
  else .inl (1, (hd r).2.1)
theorem nm_110 {t : Nat → Nat} {n D u i s nn nn1 place bd : Nat} {row : Bool} {x4 : Int32} {y : Tm} {h h1 : mj_H} {pa : List (List Nat)} {sy : List Sym} {vis : List Nat} {ts : List Tok} {L : List PL} (a : TX t n h1 sy vis 0 nn1 u i ts L) (g : tN nn h h1) (hn : nn ≤ nn1) (hs : inSy sy s) (hb : nn1 + ts.length + 1 ≤ bd) (hbd : bd ≤ 3390) (hD : 60 ≤ D)
    (ix : (x4 = 0 ∧ y = .arg s ∧ row = false) ∨ ∃ e l, y = .elem (.arg s) e ∧ x4 = nI l ∧ row = true ∧ tE u nn nn1 h1 e l) :
    mP (mj_R mg D mq_257 (110, [(5, vI (bI row)), (4, vI x4), (3, vI (nI (kdS sy s))), (2, vI (nI (tw s))), (1, vI (nI place)), (0, vR 15 0)], [], h1)) (fun v h' => qS t n pa sy vis nn u L bd h v h' (nmS sy vis place y ts)) := sorry
