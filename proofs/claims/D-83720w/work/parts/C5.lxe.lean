/-! the twin's lexer: lines of tokens -/
theorem lns_sp {t : Nat → Nat} {n : Nat} : ∀ m b u, ∀ x : Lin, x ∈ lns t n m b u → spE t x.2.2.2 x.2.2.1 = x.2.2.1 := sorry
theorem lns_len {t : Nat → Nat} {n : Nat} : ∀ m b u, (lns t n m b u).length ≤ m := sorry
/-- what reading leaves alone -/
def tG (h h' : mj_H) : Prop := (∀ g i j, ¬ (g = 15 ∧ 9 ≤ j ∧ j ≤ 15) → h'.1 g i j = h.1 g i j) ∧ (∀ g i j, ¬ (g = 15 ∧ j = 14) → h'.2.1 g i j = h.2.1 g i j) ∧ h'.2.2 = h.2.2
theorem tG.rf (h : mj_H) : tG h h := sorry
theorem tG.tr {h h1 h2 : mj_H} (a : tG h h1) (b : tG h1 h2) : tG h h2 := sorry
theorem tG_I (h : mj_H) (j : Nat) (v : Int32) (hj : 9 ≤ j ∧ j ≤ 15) : tG h (mj_sI h 15 0 j v) := sorry
theorem tF.g {h h' : mj_H} (a : tF h h') : tG h h' := sorry
theorem TT.mg {t : Nat → Nat} {n : Nat} {h h' : mj_H} (a : TT t n h) (f : tG h h') : TT t n h' := sorry
theorem TLs.mg {L : List Lin} {h h' : mj_H} (a : TLs h L) (f : tG h h') : TLs h' L := sorry
/-- ahead of line m: the lines that are left -/
def TQ (t : Nat → Nat) (n : Nat) (h : mj_H) (L : List PL) : Prop := ∃ m, TT t n h ∧ TLs h (lnsE t n 0 0) ∧ h.1 15 0 9 = nI m ∧ m ≤ (lnsE t n 0 0).length ∧ L = ((lnsE t n 0 0).drop m).map (plF t)
/-- within a line -/
def TP (t : Nat → Nat) (n : Nat) (h : mj_H) (x : PL) (L : List PL) : Prop := ∃ m b f e p, TT t n h ∧ TLs h (lnsE t n 0 0) ∧ h.1 15 0 9 = nI m ∧ (lnsE t n 0 0)[m]? = some (x.1, b, f, e) ∧ f ≤ p ∧ p ≤ e ∧ h.1 15 0 10 = nI (tkZ t e p) ∧ TTk h (tkA t b e p) ∧ x.2.1 = f - b ∧ x.2.2 = tkL t b e p ∧ L = ((lnsE t n 0 0).drop (m + 1)).map (plF t)
theorem lnE_ok {t : Nat → Nat} {n m : Nat} {x : Lin} (h : (lnsE t n 0 0)[m]? = some x) : x.1 ≤ x.2.1 ∧ x.2.1 ≤ x.2.2.1 ∧ x.2.2.1 < x.2.2.2 ∧ x.2.2.2 ≤ n ∧ m ≤ n ∧ m < (lnsE t n 0 0).length := sorry
theorem drop_head {α : Type} {l : List α} {m : Nat} {x : α} {r : List α} (h : l.drop m = x :: r) : l[m]? = some x ∧ l.drop (m + 1) = r := sorry
theorem tq_open {t : Nat → Nat} {n d : Nat} {x : PL} {L : List PL} {h : mj_H} (a : TQ t n h (x :: L)) : mP (mj_R mg (d + 4) mq_211 (0, [(0, vR 15 0)], [], h)) (fun v h' => v = none ∧ tG h h' ∧ h'.1 15 0 15 = 0 ∧ TP t n h' x L) := sorry
theorem tp_next {t : Nat → Nat} {n d u i : Nat} {k : Tok} {ts : List Tok} {L : List PL} {h : mj_H} (a : TP t n h (u, i, k :: ts) L) (hk : k.1 ≠ 0) : mP (mj_R mg (d + 3) mq_212 (0, [(0, vR 15 0)], [], h)) (fun v h' => v = none ∧ tF h h' ∧ TP t n h' (u, i, ts) L) := sorry
/-- the line is left -/
theorem tp_done {t : Nat → Nat} {n : Nat} {x : PL} {L : List PL} {h : mj_H} (a : TP t n h x L) : TQ t n (mj_sI h 15 0 9 (h.1 15 0 9 + 1)) L := sorry
theorem TP.tok {t : Nat → Nat} {n : Nat} {h : mj_H} {u i : Nat} {k : Tok} {ts : List Tok} {L : List PL} (a : TP t n h (u, i, k :: ts) L) : ∃ m, TTk h k ∧ h.1 15 0 9 = nI m ∧ m < (lnsE t n 0 0).length ∧ m ≤ 3000 ∧ h.1 15 0 3 = nI (lnsE t n 0 0).length ∧ (lnsE t n 0 0).length ≤ 3001 ∧ h.1 73 0 m = nI u ∧ h.1 77 0 m = lvI i ∧ u ≤ 3000 ∧ i ≤ 3000 ∧ (k.1 = 0 ↔ ts = []) := sorry
