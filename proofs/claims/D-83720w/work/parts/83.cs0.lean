/-! the component's reader: a guard -/
def grA (sy : List Sym) (vis : List Nat) (e C : Tm) (ts : List Tok) : Rs ((Tm × Tm × Tm) × List Tok) :=
  bnd (tkS (isS 63 (hd ts)) ts) fun r2 => bnd (refS okVar sy vis 1 0 r2) fun w => .inr ((e, C, w.1), w.2)
def grB (sy : List Sym) (vis : List Nat) (e : Tm) (ts : List Tok) : Rs ((Tm × Tm × Tm) × List Tok) :=
  bnd (tkS (isS 38 (hd ts)) ts) fun r =>
  if isW 7 (hd r) then .inr ((e, .null, .null), r.tail)
  else bnd (refS okChn sy vis 2 0 r) fun c => grA sy vis e c.1 c.2
def grC (sy : List Sym) (vis : List Nat) (C : Tm) (place : Nat) (ts : List Tok) : Rs ((Tm × Tm × Tm) × List Tok) :=
  bnd (tkS (isS 63 (hd ts)) ts) fun r2 => bnd (chkS (okChn sy C) 4 place) fun _ => bnd (refS okVar sy vis 1 0 r2) fun w => .inr ((.null, C, w.1), w.2)
def grd0 (sy : List Sym) (vis : List Nat) (ts : List Tok) : Rs ((Tm × Tm × Tm) × List Tok) :=
  if (hd ts).1 = 1 then
    bnd (thT sy vis 0 0 ts) fun c =>
    if isS 38 (hd c.2) || isO (hd c.2) then
      bnd (chkS (okVal sy c.1) 4 (hd ts).2.1) fun _ =>
      bnd (behS (expS sy vis 8) sy vis 0 c.1 c.2) fun e => grB sy vis e.1 e.2
    else grC sy vis c.1 (hd ts).2.1 c.2
  else bnd (exT sy vis 0 ts) fun e => grB sy vis e.1 e.2
theorem bnd_ite {ε α β : Type} {p : Prop} [Decidable p] (x y : Sum ε α) (f : α → Sum ε β) : bnd (if p then x else y) f = if p then bnd x f else bnd y f := sorry
theorem grdS_eq (sy : List Sym) (vis : List Nat) (ts : List Tok) : grdS sy vis ts = bnd (grd0 sy vis ts) fun x => bnd (endS x.2) fun _ => .inr x.1 := sorry
/-- a guard's part, c -/
def gS (u c np : Nat) (h : mj_H) : Prop := rN u c np h c 14 ∧ h.1 27 0 c = -1
theorem gS.mv {u c np np' m : Nat} {h h' : mj_H} (a : gS u c np h) (hm : c < m) (hh : np ≤ np') (f : gF m h h') : gS u c np' h' := sorry
theorem gS.st {u c np k : Nat} {v : Int32} {h : mj_H} (a : gS u c np h) (hk : 23 ≤ k ∧ k ≤ 26) : gS u c np (mj_sI h k 0 c v) := sorry
def gE (u c np : Nat) (h : mj_H) (e : Tm) (x : Int32) : Prop := (e = .null ∧ x = -1) ∨ ∃ a, x = nI a ∧ rE u (c + 1) np h e a
theorem gE.mv {u c np np' : Nat} {h h' : mj_H} {e : Tm} {x : Int32} (a : gE u c np h e x) (hh : np ≤ np') (f : gF np h h') : gE u c np' h' e x := sorry
theorem gE.st {u c np k : Nat} {h : mj_H} {e : Tm} {x v : Int32} (a : gE u c np h e x) : gE u c np (mj_sI h k 0 c v) e x := sorry
def gR (u c np : Nat) (h : mj_H) (x : Tm × Tm × Tm) : Prop := gS u c np h ∧ gE u c np h x.1 (h.1 23 0 c) ∧ ((x.2.1 = .null ∧ h.1 24 0 c = -1) ∨ ∃ a b, h.1 24 0 c = nI a ∧ rE u (c + 1) np h x.2.1 a ∧ h.1 26 0 c = nI b ∧ rE u (c + 1) np h x.2.2 b)
def pG (t : Nat → Nat) (n : Nat) (sy : List Sym) (vis : List Nat) (c u i : Nat) (L : List PL) (bd : Nat) (h : mj_H) (v : Option mj_V) (h' : mj_H) : Rs ((Tm × Tm × Tm) × List Tok) → Prop
  | .inl f => v = none ∧ pB t n c h h' (f.1, some (u, f.2)) 3060
  | .inr x => v = none ∧ ∃ np', CX t n h' sy vis 0 np' u i x.2 L ∧ gF c h h' ∧ gR u c np' h' x.1 ∧ np' + x.2.length ≤ bd ∧ c < np'
theorem gdB201 {t : Nat → Nat} {n d c B : Nat} {x2 x3 : Int32} {h h1 : mj_H} {f : Flt} (b : pB t n c h h1 f B) (hc : c < 3100) : mP (mj_R mg (d + 7) mq_84 (201, [(2, vI x2), (3, vI x3), (0, vR 5 0), (1, vI (nI c))], [], h1)) (fun v h' => v = none ∧ pB t n c h h' f B) := sorry
theorem gd201 {t : Nat → Nat} {n d c np1 u i k bd : Nat} {x2 x3 : Int32} {h h1 : mj_H} {sy : List Sym} {vis : List Nat} {ts : List Tok} {L : List PL} {e C : Tm} (a : CX t n h1 sy vis 0 np1 u i ts L) (g : gF c h h1) (hS : gS u c np1 h1) (he : gE u c np1 h1 e x2) (hx3 : x3 = nI k) (hC : rE u (c + 1) np1 h1 C k) (hb : np1 + ts.length ≤ bd) (hbd : bd ≤ 3040) : mP (mj_R mg (d + 54) mq_84 (201, [(2, vI x2), (3, vI x3), (0, vR 5 0), (1, vI (nI c))], [], h1)) (fun v h' => pG t n sy vis c u i L bd h v h' (grA sy vis e C ts)) := sorry
