/-! the component's lexer: the state at a token, the next line -/
abbrev Lin := Nat × Nat × Nat × Nat
def oddI (i : Nat) : Bool := decide (i % 2 = 1 ∨ 16 ≤ i / 2)
/-- at line (u, b, f, e), the token at hand begins at p, the next line at nx -/
def CS (t : Nat → Nat) (n : Nat) (h : mj_H) (u b f e p nx : Nat) : Prop :=
  CT t n h ∧ u ≤ b ∧ b ≤ f ∧ f ≤ p ∧ p ≤ e ∧ e ≤ n ∧ nx ≤ n + 1 ∧ h.1 6 0 2 = nI nx ∧ h.1 6 0 3 = nI u ∧ h.1 6 0 4 = nI b ∧ h.1 6 0 5 = nI e ∧ h.1 6 0 7 = 0 ∧ h.1 6 0 8 = nI ((f - b) / 2) ∧ h.1 6 0 9 = bI (oddI (f - b)) ∧ h.1 6 0 6 = nI (tkZ t e p) ∧ CTk h (tkA t b e p)
def CO (t : Nat → Nat) (n : Nat) (h : mj_H) : Prop := CT t n h ∧ h.1 6 0 7 = 1 ∧ h.1 6 0 10 = 0 ∧ h.1 6 0 8 = -1
theorem tkZ_le {t : Nat → Nat} {n e p : Nat} (hT : txOK t n) (he : e ≤ n) (hp : p ≤ e) : p ≤ tkZ t e p ∧ tkZ t e p ≤ e := sorry
theorem c_step {t : Nat → Nat} {n u b f e p nx d : Nat} {h : mj_H} (hS : CS t n h u b f e p nx) : mP (mj_R mg (d + 4) mq_95 (0, [(0, vR 6 0)], [], h)) (fun v h' => v = none ∧ cG h h' ∧ CS t n h' u b f e (spE t e (tkZ t e p)) nx) := sorry
/-- where a search for a line ends -/
def CN (t : Nat → Nat) (n : Nat) (h : mj_H) : List Lin → Prop
  | [] => CO t n h
  | (u, b, f, e) :: r => ∃ nx, lnsE t n nx (u + 1) = r ∧ f < e ∧ u < nx ∧ CS t n h u b f e f nx
theorem n_out {t : Nat → Nat} {n d : Nat} {x1 : Int32} {x2 : Int32} {h : mj_H} {u b f e nx : Nat} (hT : CT t n h) (h0 : u ≤ b) (h1 : b ≤ f) (h2 : f < e) (h4 : e ≤ n) (h5 : nx ≤ n + 1) (h6 : h.1 6 0 2 = nI nx) (h7 : h.1 6 0 3 = nI u) (h8 : h.1 6 0 4 = nI b) (h9 : h.1 6 0 5 = nI e) (h10 : h.1 6 0 7 = 0) (h11 : h.1 6 0 6 = nI f) (hsp : spE t e f = f) : mP (mj_R mg (d + 5) mq_94 (231, [(1, vI x1), (2, vI x2), (0, vR 6 0)], [], h)) (fun v h' => v = none ∧ cG h h' ∧ CS t n h' u b f e f nx) := sorry
theorem n_over {t : Nat → Nat} {n d : Nat} {x1 : Int32} {x2 : Int32} {h : mj_H} (hT : CT t n h) (h10 : h.1 6 0 7 = 1) : mP (mj_R mg (d + 5) mq_94 (231, [(1, vI x1), (2, vI x2), (0, vR 6 0)], [], h)) (fun v h' => v = none ∧ cG h h' ∧ CO t n h') := sorry
/-- beyond the text: one more empty line -/
theorem n_past {t : Nat → Nat} {n b d : Nat} {x1 : Int32} {h : mj_H} (hT : CT t n h) (hB : h.1 6 0 4 = nI b) (hb : n < b) (hb2 : b ≤ 4000) :
    ∃ h' x2, mj_R mg (d + 5) mq_94 (49, [(2, vI (nI b)), (1, vI x1), (0, vR 6 0)], [], h) = mj_R mg (d + 5) mq_94 (2, [(1, vI 0), (2, vI x2), (0, vR 6 0)], [], h') ∧ cG h h' ∧ h'.1 6 0 7 = h.1 6 0 7 := sorry
/-- the search, from the second time on -/
theorem n_loop {t : Nat → Nat} {n : Nat} (b u d : Nat) (x2 : Int32) (h : mj_H) (hT : CT t n h) (h2 : h.1 6 0 2 = nI b) (h3 : h.1 6 0 3 + 1 = nI u) (h7 : h.1 6 0 7 = 0) (hb : b ≤ n + 1) (hu : u ≤ b) :
    mP (mj_R mg (d + 5) mq_94 (2, [(1, vI 0), (2, vI x2), (0, vR 6 0)], [], h)) (fun v h' => v = none ∧ cG h h' ∧ CN t n h' (lnsE t n b u)) := sorry
theorem c_next {t : Nat → Nat} {n b u d : Nat} {h : mj_H} (hT : CT t n h) (h2 : h.1 6 0 2 = nI b) (h3 : h.1 6 0 3 + 1 = nI u) (h7 : h.1 6 0 7 = 0) (hb : b ≤ n + 1) (hu : u ≤ b) :
    mP (mj_R mg (d + 5) mq_94 (0, [(0, vR 6 0)], [], h)) (fun v h' => v = none ∧ cG h h' ∧ CN t n h' (lnsE t n b u)) := sorry
theorem c_start {t : Nat → Nat} {n d : Nat} {h : mj_H} (hT : CT t n h) : mP (mj_R mg (d + 6) mq_92 (0, [(0, vR 6 0)], [], h)) (fun v h' => v = none ∧ cG h h' ∧ CN t n h' (lnsE t n 0 0)) := sorry
