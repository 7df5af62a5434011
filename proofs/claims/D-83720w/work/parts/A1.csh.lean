/-! the component's reader: PROCs, whole -/
def PGc (t : Nat → Nat) (n : Nat) (h : mj_H) (p : Pg) (np : Nat) : Prop := CY t n h p.2.2.2.2.1 p.2.2.2.2.2.1 np p.2.2.2.2.2.2 ∧ PAc h p.2.2.2.2.1 p.2.2.2.2.2.1 p.1 ∧ PBc h np p.1.length p.2.1 p.2.2.1 p.2.2.2.1 ∧ p.2.1.length = p.1.length
def pQ (t : Nat → Nat) (n bd : Nat) (L0 : List PL) (h : mj_H) (v : Option mj_V) (h' : mj_H) : Fr Pg → Prop
  | .inl f => v = none ∧ pX t n h h' f 3070
  | .inr q => v = none ∧ gZ h h' ∧ ∃ np', PGc t n h' q np' ∧ np' + wt q.2.2.2.2.2.2 ≤ bd ∧ q.2.2.2.2.2.2 <:+ L0
theorem CY.sU {t : Nat → Nat} {n np g j : Nat} {v : Int32} {h : mj_H} {sy : List Sym} {vis : List Nat} {L : List PL} (a : CY t n h sy vis np L) (hg : (g = 4 ∧ j = 17) ∨ (g = 4 ∧ j = 25) ∨ (35 ≤ g ∧ g ≤ 46)) : CY t n (mj_sI h g 0 j v) sy vis np L := sorry
theorem PAc_add {h : mj_H} {sy : List Sym} {vis : List Nat} {pa : List (List Nat)} {fr cnt s : Nat} (a : PAc h sy vis pa) (h1 : parI h pa.length fr cnt) (hc : cnt ≤ 6) (hf : fr + cnt ≤ sy.length) (hp : pa.length < 24) (hz : szO sy s = pa.length) : PAc h sy (s :: vis) (pa ++ [List.range' fr cnt]) := sorry
theorem PBc_38 {h : mj_H} {np q j : Nat} {v : Int32} {bs : List Tm} {lk : List (Nat × Nat)} {rt : List (Nat × Tm)} (a : PBc h np q bs lk rt) (hj : bs.length ≤ j) : PBc (mj_sI h 38 0 j v) np q bs lk rt := sorry
theorem PBc_add {h : mj_H} {np np' q x : Nat} {bs : List Tm} {B : Tm} {lk : List (Nat × Nat)} {rt : List (Nat × Tm)} (a : PBc h np q bs lk rt) (hn : np ≤ np') (h38 : h.1 38 0 bs.length = nI x) (hr : rQ np np' h B 0 (nI x)) : PBc h np' q (bs ++ [B]) lk rt := sorry
def cloB (L : List PL) : Fr (List PL) := match L with
  | [] => .inl (0, none)
  | (u, _, ts) :: L2 => bnd (lft u (bnd (tkS (isS 58 (hd ts)) ts) fun r => endS r)) fun _ => .inr L2
theorem cloS_s (L : List PL) : cloS L = if isAt 0 L then cloB L else .inl (lvlF L) := sorry
def prX (pa : List (List Nat)) (bs : List Tm) (lk : List (Nat × Nat)) (rt : List (Nat × Tm)) (sy : List Sym) (vis : List Nat) (L : List PL) (sy2 : List Sym) : Fr Pg :=
  bnd (proS pa fuel 1 (seeS vis (sy.length + 1) (sy2.length - (sy.length + 1))) sy2 L) fun x =>
  bnd (cloS x.2.2) fun L3 =>
  .inr (pa ++ [List.range' (sy.length + 1) (sy2.length - (sy.length + 1))], bs ++ [x.1], lk, rt, x.2.1, sy.length :: vis, L3)
theorem prcS_eq (u : Nat) (ts : List Tok) (L L0 : List PL) (pa : List (List Nat)) (bs : List Tm) (lk : List (Nat × Nat)) (rt : List (Nat × Tm)) (sy : List Sym) (vis : List Nat) : prcS u ts L (pa, bs, lk, rt, sy, vis, L0) = bnd (lft u (gloS 0 0 24 pa.length sy ts.tail)) fun n =>
    bnd (lft u (parS (sy ++ [((hd ts.tail).2.2.2, 0, pa.length)]).length (sy ++ [((hd ts.tail).2.2.2, 0, pa.length)]) n.2)) fun x => bnd (lft u (endS x.2)) fun _ => prX pa bs lk rt sy vis L x.1 := sorry
theorem q_procedure {t : Nat → Nat} {n d np u i bd : Nat} {h : mj_H} {sy : List Sym} {vis : List Nat} {ts : List Tok} {L L0 : List PL} {pa : List (List Nat)} {bs : List Tm} {lk : List (Nat × Nat)} {rt : List (Nat × Tm)} (a : CX t n h sy vis 0 np u i ts L) (hP : PAc h sy vis pa) (hB : PBc h np pa.length bs lk rt) (hbl : bs.length = pa.length) (hne : (hd ts).1 ≠ 0) (hF : ∀ y ∈ L, frs y) (hb : np + wt L ≤ bd) (hbd : bd ≤ 3030) (hL : L.length ≤ 2990) :
    mP (mj_R mg (d + 1270) mq_86 (0, [(0, vR 5 0)], [], h)) (fun v h' => pQ t n bd L h v h' (prcS u ts L (pa, bs, lk, rt, sy, vis, L0))) := sorry
