/-! lines of tokens -/
def tkl (t : Nat → Nat) (b e : Nat) : Nat → Nat → List Tok
  | 0, p => [tkA t b e p]
  | m + 1, p => if e ≤ p then [tkA t b e p] else tkA t b e p :: tkl t b e m (spE t e (tkZ t e p))
theorem tkl_fuel {t : Nat → Nat} {n b e : Nat} (hT : txOK t n) (he : e ≤ n) : ∀ m m' p, e ≤ p + m → e ≤ p + m' → p ≤ e → tkl t b e m p = tkl t b e m' p := sorry
def tkL (t : Nat → Nat) (b e p : Nat) : List Tok := tkl t b e (e - p) p
theorem tkL_end {t : Nat → Nat} {b e p : Nat} (h : e ≤ p) : tkL t b e p = [tkA t b e p] := sorry
theorem tkL_cons {t : Nat → Nat} {n b e p : Nat} (hT : txOK t n) (he : e ≤ n) (h : p < e) : tkL t b e p = tkA t b e p :: tkL t b e (spE t e (tkZ t e p)) := sorry
theorem tkA_end {t : Nat → Nat} {b e p : Nat} (h : e ≤ p) : tkA t b e p = (0, e - b, 0, []) := sorry
theorem tkA_k0 {t : Nat → Nat} {b e p : Nat} (h : p < e) : (tkA t b e p).1 ≠ 0 := sorry
/-- a line as the reader sees it: number, indentation, tokens -/
abbrev PL := Nat × Nat × List Tok
def plF (t : Nat → Nat) (l : Lin) : PL := (l.1, l.2.2.1 - l.2.1, tkL t l.2.1 l.2.2.2 l.2.2.1)
def CQ (t : Nat → Nat) (n : Nat) (h : mj_H) : List PL → Prop
  | [] => CO t n h
  | (u, i, ts) :: ls => ∃ b f e p nx, CS t n h u b f e p nx ∧ i = f - b ∧ ts = tkL t b e p ∧ u < nx ∧ ls = (lnsE t n nx (u + 1)).map (plF t)
theorem CN.q {t : Nat → Nat} {n : Nat} {h : mj_H} {l : List Lin} (a : CN t n h l) : CQ t n h (l.map (plF t)) := sorry
theorem CQ.ct {t : Nat → Nat} {n : Nat} {h : mj_H} {L : List PL} (a : CQ t n h L) : CT t n h := sorry
theorem CQ.tok {t : Nat → Nat} {n : Nat} {h : mj_H} {u i : Nat} {k : Tok} {ts : List Tok} {L : List PL} (a : CQ t n h ((u, i, k :: ts) :: L)) : CTk h k ∧ h.1 6 0 7 = 0 ∧ h.1 6 0 3 = nI u ∧ h.1 6 0 8 = nI (i / 2) ∧ h.1 6 0 9 = bI (oddI i) ∧ u ≤ 3000 ∧ i ≤ 3000 ∧ (k.1 = 0 ↔ ts = []) := sorry
theorem CQ.ne {t : Nat → Nat} {n : Nat} {h : mj_H} {u i : Nat} {ts : List Tok} {L : List PL} (a : CQ t n h ((u, i, ts) :: L)) : ∃ k r, ts = k :: r := sorry
theorem cq_step {t : Nat → Nat} {n d u i : Nat} {k : Tok} {ts : List Tok} {L : List PL} {h : mj_H} (a : CQ t n h ((u, i, k :: ts) :: L)) (hk : k.1 ≠ 0) : mP (mj_R mg (d + 4) mq_95 (0, [(0, vR 6 0)], [], h)) (fun v h' => v = none ∧ cG h h' ∧ CQ t n h' ((u, i, ts) :: L)) := sorry
theorem cq_next {t : Nat → Nat} {n d : Nat} {x : PL} {L : List PL} {h : mj_H} (a : CQ t n h (x :: L)) : mP (mj_R mg (d + 5) mq_94 (0, [(0, vR 6 0)], [], h)) (fun v h' => v = none ∧ cG h h' ∧ CQ t n h' L) := sorry
theorem cq_start {t : Nat → Nat} {n d : Nat} {h : mj_H} (hT : CT t n h) : mP (mj_R mg (d + 6) mq_92 (0, [(0, vR 6 0)], [], h)) (fun v h' => v = none ∧ cG h h' ∧ CQ t n h' ((lnsE t n 0 0).map (plF t))) := sorry
