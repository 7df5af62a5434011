/-! the twin's reader: variables and channels -/
def okB (c : Bool) (sy : List Sym) (a : Tm) : Bool := if c then okChn sy a else okVar sy a
def wB (c : Bool) : Nat := if c then 2 else 1
theorem t_behind {t : Nat → Nat} {n D m br nn u i s place : Nat} {c : Bool} {h : mj_H} {sy : List Sym} {vis : List Nat} {ts : List Tok} {L : List PL} (hEX : 0 < m → TEk m) (hm : br + m = 8) (a : TX t n h sy vis br nn u i ts L) (hb : nn + ts.length ≤ 3400) (hs : inSy sy s) (hD : 5 * m + 12 ≤ D) :
    mP (mj_R mg D mq_244 (0, [(0, vR 15 0), (1, vI (nI (tw s))), (2, vI (nI place)), (3, vI (bI c))], [], h)) (fun v h' => qE t n sy vis br nn u i L (nn + ts.length + 1) (3421 + 10 * m) h v h' (bnd (thOf (expS sy vis m) sy s place (wB c) br ts) fun x => bnd (chkS (okB c sy x.1) 4 place) fun _ => .inr x)) := sorry
def rfS (c : Bool) (sy : List Sym) (vis : List Nat) (m br : Nat) (ts : List Tok) : Rs (Tm × List Tok) := bnd (thg (expS sy vis m) sy vis (wB c) br ts) fun x => bnd (chkS (okB c sy x.1) 4 (hd ts).2.1) fun _ => .inr x
theorem t_ref0 {d : Nat} {x : Int32} {h : mj_H} (hB : h.1 15 0 16 ≠ 0) : mj_R mg (d + 1) mq_243 (0, [(0, vR 15 0), (1, vI x)], [], h) = some (.inl (some (vI 0), h)) := sorry
theorem t_ref {t : Nat → Nat} {n D m br nn u i : Nat} {c : Bool} {h : mj_H} {sy : List Sym} {vis : List Nat} {ts : List Tok} {L : List PL} (hEX : 0 < m → TEk m) (hm : br + m = 8) (a : TX t n h sy vis br nn u i ts L) (hb : nn + ts.length ≤ 3400) (hD : 5 * m + 13 ≤ D) :
    mP (mj_R mg D mq_243 (0, [(0, vR 15 0), (1, vI (bI c))], [], h)) (fun v h' => qE t n sy vis br nn u i L (nn + ts.length) (3421 + 10 * m) h v h' (rfS c sy vis m br ts)) := sorry
theorem rfS_var (sy : List Sym) (vis : List Nat) (br : Nat) (ts : List Tok) : refS okVar sy vis 1 br ts = rfS false sy vis (8 - br) br ts := sorry
theorem rfS_chn (sy : List Sym) (vis : List Nat) (br : Nat) (ts : List Tok) : refS okChn sy vis 2 br ts = rfS true sy vis (8 - br) br ts := sorry
/-! arguments -/
def qA (t : Nat → Nat) (n : Nat) (sy : List Sym) (vis : List Nat) (nn u i q : Nat) (L : List PL) (bd : Nat) (h : mj_H) (v : Option mj_V) (h' : mj_H) : Rs (Tm × List Tok) → Prop
  | .inl f => (∃ r, v = some (vI r)) ∧ qB t n nn h h' (f.1, some (u, f.2)) 3520
  | .inr x => ∃ k nn' j, v = some (vI (nI k)) ∧ TX t n h' sy vis 1 nn' u i x.2 L ∧ tN nn h h' ∧ tM u nn nn' h' k 7 ∧ h'.1 89 0 k = nI j ∧ tE u nn nn' h' x.1 j ∧ h'.1 90 0 k = nI (tw q) ∧ h'.1 94 0 k = 0 ∧ nn' + x.2.length ≤ bd + 1 ∧ nn ≤ nn'

