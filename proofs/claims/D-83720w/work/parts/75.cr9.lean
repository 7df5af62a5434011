/-! the component's reader: calls -/
def fnS (ts : List Tok) : Rs Unit := bnd (tkS (isS 41 (hd ts)) ts) fun r => endS r
def argR (sy : List Sym) (vis : List Nat) : List Nat → List Tok → Rs (List Tm)
  | [], ts => bnd (chkS (!(isS 44 (hd ts))) 4 (hd ts).2.1) fun _ => bnd (fnS ts) fun _ => .inr []
  | q :: qs, ts =>
    bnd (chkS (!(isS 41 (hd ts))) 4 (hd ts).2.1) fun _ =>
    bnd (argS sy vis q ts) fun x =>
    bnd (if qs.isEmpty then .inr x.2 else bnd (chkS (!(isS 41 (hd x.2))) 4 (hd x.2).2.1) fun _ => tkS (isS 44 (hd x.2)) x.2) fun r =>
    bnd (argR sy vis qs r) fun l => .inr (x.1 :: l)
theorem bnd_as {ε α β γ : Type} (x : Sum ε α) (f : α → Sum ε β) (g : β → Sum ε γ) : bnd (bnd x f) g = bnd x fun a => bnd (f a) g := sorry
theorem argR_eq (sy : List Sym) (vis : List Nat) : ∀ (q : Nat) (qs : List Nat) (ts : List Tok), (bnd (argsS sy vis (q :: qs) ts) fun x => bnd (tkS (isS 41 (hd x.2)) x.2) fun r => bnd (endS r) fun _ => (.inr x.1 : Rs Tm)) = bnd (argR sy vis (q :: qs) ts) fun l => .inr (tmL l) := sorry
/-- a call in the midst of its arguments: its part c, its PROC p, those that are there -/
def cI (t : Nat → Nat) (n : Nat) (sy : List Sym) (vis : List Nat) (u i c p bd : Nat) (L : List PL) (h h1 : mj_H) (np1 : Nat) (ts : List Tok) (as : List Tm) (x5 : Int32) : Prop :=
  CX t n h1 sy vis 1 np1 u i ts L ∧ gF c h h1 ∧ rN u c np1 h1 c 5 ∧ (h1.1 26 0 c = nI p ∧ h1.1 27 0 c = -1) ∧ np1 + ts.length ≤ bd + 1 ∧ c < np1 ∧
  ((as = [] ∧ x5 = -1 ∧ h1.1 23 0 c = -1) ∨ ∃ l, x5 = nI l ∧ l < np1 ∧ chl (nA u (c + 1) np1 h1) (fun k => h1.1 27 0 k) (c + 1) as (h1.1 23 0 c) l)
def pC2 (t : Nat → Nat) (n : Nat) (sy : List Sym) (vis : List Nat) (u : Nat) (L : List PL) (bd p c : Nat) (as : List Tm) (h : mj_H) (v : Option mj_V) (h' : mj_H) (r : Rs (List Tm)) : Prop := pC t n sy vis c u L bd p c h v h' (bnd r fun l => .inr (as ++ l))
theorem nA.mv {u lo lo' hi hi' : Nat} {h h' : mj_H} {a : Tm} {k : Nat} (x : nA u lo hi h a k) (hl : lo' ≤ lo) (hh : hi ≤ hi') (f : gF hi h h') : nA u lo' hi' h' a k := sorry
/-- the end of a call -/
theorem cg320 {t : Nat → Nat} {n d u i c p bd np1 : Nat} {x1 x2 x4 x5 x6 x7 x8 : Int32} {h h1 : mj_H} {sy : List Sym} {vis : List Nat} {ts : List Tok} {L : List PL} {as : List Tm} (I : cI t n sy vis u i c p bd L h h1 np1 ts as x5) (hbd : bd ≤ 3040) : mP (mj_R mg (d + 7) mq_73 (320, [(7, vI x7), (6, vI x6), (5, vI x5), (4, vI x4), (3, vI (nI c)), (0, vR 5 0), (1, vI x1), (2, vI x2)], [], h1)) (fun v h' => pC2 t n sy vis u L bd p c as h v h' (bnd (fnS ts) fun _ => .inr [])) := sorry
/-- the end of a call -/
theorem cg320_2 {t : Nat → Nat} {n d u i c p bd np1 : Nat} {x1 x2 x4 x5 x6 x7 x8 : Int32} {h h1 : mj_H} {sy : List Sym} {vis : List Nat} {ts : List Tok} {L : List PL} {as : List Tm} (I : cI t n sy vis u i c p bd L h h1 np1 ts as x5) (hbd : bd ≤ 3040) : mP (mj_R mg (d + 7) mq_73 (320, [(7, vI x7), (5, vI x5), (8, vI x8), (6, vI x6), (4, vI x4), (3, vI (nI c)), (0, vR 5 0), (1, vI x1), (2, vI x2)], [], h1)) (fun v h' => pC2 t n sy vis u L bd p c as h v h' (bnd (fnS ts) fun _ => .inr [])) := sorry
