/-! the component's lexer: lines -/
def cG (h h' : mj_H) : Prop := ∀ g, g ≠ 6 → h'.1 g = h.1 g ∧ h'.2.1 g = h.2.1 g ∧ h'.2.2 g = h.2.2 g
theorem cG.rf (h : mj_H) : cG h h := sorry
theorem cG.tr {h h1 h2 : mj_H} (a : cG h h1) (b : cG h1 h2) : cG h h2 := sorry
theorem cG_I (h : mj_H) (j : Nat) (v : Int32) : cG h (mj_sI h 6 0 j v) := sorry
theorem CT.mg {t : Nat → Nat} {n : Nat} {h h' : mj_H} (a : CT t n h) (f : cG h h') : CT t n h' := sorry
def lnK (t : Nat → Nat) (n b : Nat) : Nat := skE (fun k => !(Nat.beq (t k) 10)) n b
def cmt (t : Nat → Nat) (K i : Nat) : Bool := Nat.beq (t i) 45 && (Nat.ble (i + 2) K && Nat.beq (t (i + 1)) 45)
def lnE (t : Nat → Nat) (K b : Nat) : Nat := skE (fun i => !(cmt t K i)) K b
/-- the lines that count: number, begin, first, end -/
def lns (t : Nat → Nat) (n : Nat) : Nat → Nat → Nat → List (Nat × Nat × Nat × Nat)
  | 0, _, _ => []
  | m + 1, b, u => if n < b then [] else if spE t (lnE t (lnK t n b) b) b < lnE t (lnK t n b) b then (u, b, spE t (lnE t (lnK t n b) b) b, lnE t (lnK t n b) b) :: lns t n m (lnK t n b + 1) (u + 1) else lns t n m (lnK t n b + 1) (u + 1)
theorem lnK_spec {t : Nat → Nat} {n b : Nat} (h : b ≤ n) : b ≤ lnK t n b ∧ lnK t n b ≤ n := sorry
theorem lnE_spec {t : Nat → Nat} {K b : Nat} (h : b ≤ K) : b ≤ lnE t K b ∧ lnE t K b ≤ K := sorry
theorem spE_spec {t : Nat → Nat} {e b : Nat} (h : b ≤ e) : b ≤ spE t e b ∧ spE t e b ≤ e := sorry
theorem spE_id {t : Nat → Nat} {e b : Nat} (h : b ≤ e) : spE t e (spE t e b) = spE t e b := sorry
/-- enough fuel is enough -/
theorem lns_fuel {t : Nat → Nat} {n : Nat} : ∀ m m' b u, n < b + m → n < b + m' → lns t n m b u = lns t n m' b u := sorry
def lnsE (t : Nat → Nat) (n b u : Nat) : List (Nat × Nat × Nat × Nat) := lns t n (n + 1 - b) b u
theorem lnsE_end {t : Nat → Nat} {n b u : Nat} (h : n < b) : lnsE t n b u = [] := sorry
theorem lnsE_one {t : Nat → Nat} {n b u : Nat} (h : b ≤ n) : lnsE t n b u = if spE t (lnE t (lnK t n b) b) b < lnE t (lnK t n b) b then (u, b, spE t (lnE t (lnK t n b) b) b, lnE t (lnK t n b) b) :: lnsE t n (lnK t n b + 1) (u + 1) else lnsE t n (lnK t n b + 1) (u + 1) := sorry
theorem nA_loop {t : Nat → Nat} {n b : Nat} (i d : Nat) (x1 : Int32) (h : mj_H) (hT : CT t n h) (hB : h.1 6 0 4 = nI b) (hi : b ≤ i) (hb : i ≤ 4000) :
    mj_R mg (d + 5) mq_94 (49, [(2, vI (nI i)), (1, vI x1), (0, vR 6 0)], [], h) = mj_R mg (d + 5) mq_94 (91, [(2, vI (nI (lnK t n i))), (1, vI x1), (0, vR 6 0)], [], mj_sI (mj_sI h 6 0 2 (nI (lnK t n i + 1))) 6 0 5 (nI b)) := sorry
/-- what the line's search leaves alone -/
def nF (h h' : mj_H) : Prop := cG h h' ∧ h'.1 6 0 2 = h.1 6 0 2 ∧ h'.1 6 0 3 = h.1 6 0 3 ∧ h'.1 6 0 4 = h.1 6 0 4 ∧ h'.1 6 0 7 = h.1 6 0 7
theorem nF.rf (h : mj_H) : nF h h := sorry
theorem nF.tr {h h1 h2 : mj_H} (a : nF h h1) (b : nF h1 h2) : nF h h2 := sorry
theorem nF_I (h : mj_H) (j : Nat) (v : Int32) (hj : j = 5 ∨ j = 6) : nF h (mj_sI h 6 0 j v) := sorry
theorem nB_loop {t : Nat → Nat} {n K : Nat} (hK : K ≤ n) (i d : Nat) (x1 : Int32) (h : mj_H) (hT : CT t n h) (hE : h.1 6 0 5 = nI i) (hi : i ≤ K) :
    ∃ h', mj_R mg (d + 5) mq_94 (91, [(2, vI (nI K)), (1, vI x1), (0, vR 6 0)], [], h) = mj_R mg (d + 5) mq_94 (156, [(2, vI (nI K)), (1, vI x1), (0, vR 6 0)], [], h') ∧ nF h h' ∧ h'.1 6 0 5 = nI (lnE t K i) := sorry
theorem nC_loop {t : Nat → Nat} {n e : Nat} (he : e ≤ n) (i d : Nat) (x1 x2 : Int32) (h : mj_H) (hT : CT t n h) (hE : h.1 6 0 5 = nI e) (ha : h.1 6 0 6 = nI i) (hi : i ≤ e) :
    ∃ h', mj_R mg (d + 5) mq_94 (164, [(2, vI x2), (1, vI x1), (0, vR 6 0)], [], h) = mj_R mg (d + 5) mq_94 (201, [(2, vI x2), (1, vI x1), (0, vR 6 0)], [], h') ∧ nF h h' ∧ h'.1 6 0 5 = nI e ∧ h'.1 6 0 6 = nI (spE t e i) := sorry
/-- one line is looked at -/
theorem n_one {t : Nat → Nat} {n b d : Nat} {x1 : Int32} {h : mj_H} (hT : CT t n h) (hB : h.1 6 0 4 = nI b) (hb : b ≤ n) :
    ∃ h' x2, mj_R mg (d + 5) mq_94 (49, [(2, vI (nI b)), (1, vI x1), (0, vR 6 0)], [], h) = mj_R mg (d + 5) mq_94 (2, [(1, vI (bI (decide (spE t (lnE t (lnK t n b) b) b < lnE t (lnK t n b) b)))), (2, vI x2), (0, vR 6 0)], [], h') ∧ cG h h' ∧ h'.1 6 0 2 = nI (lnK t n b + 1) ∧ h'.1 6 0 3 = h.1 6 0 3 + 1 ∧ h'.1 6 0 4 = nI b ∧ h'.1 6 0 5 = nI (lnE t (lnK t n b) b) ∧ h'.1 6 0 6 = nI (spE t (lnE t (lnK t n b) b) b) ∧ h'.1 6 0 7 = h.1 6 0 7 := sorry
