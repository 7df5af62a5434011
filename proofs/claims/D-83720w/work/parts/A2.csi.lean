/-! the component's reader: LINKs -/
theorem wrB78 {t : Nat → Nat} {n d B : Nat} {x1 x2 x3 : Int32} {h h1 : mj_H} {f : Flt} (b : pX t n h h1 f B) : mP (mj_R mg (d + 7) mq_87 (78, [(3, vI x3), (2, vI x2), (1, vI x1), (0, vR 5 0)], [], h1)) (pXn t n h f B) := sorry
theorem PBc_lk {np q a b : Nat} {h : mj_H} {bs : List Tm} {lk : List (Nat × Nat)} {rt : List (Nat × Tm)} (c : PBc h np q bs lk rt) (hl : lk.length < 12) (ha : a ≤ 5) (hb : b ≤ 5) (hab : a ≠ b) : PBc (mj_sI (mj_sI (mj_sI h 4 0 25 (nI (lk.length + 1))) 44 0 lk.length (nI a)) 45 0 lk.length (nI b)) np q bs (lk ++ [(a, b)]) rt := sorry
def wiX (u : Nat) (has : Nat) (sy : List Sym) (ts : List Tok) (F : List Sym → Nat → Nat → Fr Pg) : Fr Pg :=
  bnd (lft u (gloS 1 0 12 has sy ts)) fun n =>
  bnd (lft u (tkS (isW 22 (hd n.2)) n.2)) fun r =>
  bnd (lft u (numS 0 5 r)) fun a =>
  bnd (lft u (tkS (isW 23 (hd a.2)) a.2)) fun r2 =>
  bnd (lft u (chkS (!((hd r2).1 == 3 && (hd r2).2.2.1 == a.1)) 1 (hd r2).2.1)) fun _ =>
  bnd (lft u (numS 0 5 r2)) fun b =>
  bnd (lft u (tkS (isS 58 (hd b.2)) b.2)) fun r3 =>
  bnd (lft u (endS r3)) fun _ => F (sy ++ [((hd ts).2.2.2, 1, has)]) a.1 b.1
theorem wiX_eq (u has : Nat) (sy : List Sym) (ts : List Tok) (F : List Sym → Nat → Nat → Fr Pg) : (bnd (lft u (wirS has sy ts)) fun z => F z.1 z.2.1 z.2.2) = wiX u has sy ts F := sorry
theorem numS_ok {lo hi : Nat} {ts : List Tok} {x : Nat × List Tok} (h : numS lo hi ts = .inr x) : (hd ts).1 = 3 ∧ x.1 = (hd ts).2.2.1 ∧ lo ≤ x.1 ∧ x.1 ≤ hi := sorry
theorem q_wire {t : Nat → Nat} {n d np u i bd : Nat} {h : mj_H} {sy : List Sym} {vis : List Nat} {ts : List Tok} {L : List PL} {pa : List (List Nat)} {bs : List Tm} {lk : List (Nat × Nat)} {rt : List (Nat × Tm)} (a : CX t n h sy vis 0 np u i ts L) (hP : PAc h sy vis pa) (hB : PBc h np pa.length bs lk rt) (hbl : bs.length = pa.length) (hne : (hd ts).1 ≠ 0) (hb : np + wt L ≤ bd) (hbd : bd ≤ 3030) :
    mP (mj_R mg (d + 8) mq_87 (0, [(0, vR 5 0)], [], h)) (fun v h' => pQ t n bd L h v h' (wiX u lk.length sy ts.tail fun s a b => .inr (pa, bs, lk ++ [(a, b)], rt, s, sy.length :: vis, L))) := sorry
