/-! the component's lexer: words -/
def cmF (t : Nat → Nat) (f k : Nat) : Nat → Nat → Bool
  | 0, _ => true
  | n + 1, i => Nat.beq (mt_sch k i) (t (f + i)) && cmF t f k n (i + 1)
/-- word k stands from f to j -/
def wdM (t : Nat → Nat) (f j k : Nat) : Bool := Nat.beq (mt_sln k) (j - f) && cmF t f k (mt_sln k) 0
/-- the last one of the first n words that stands there, counted from one; nought: none -/
def wdL (t : Nat → Nat) (f j : Nat) : Nat → Nat
  | 0 => 0
  | n + 1 => bif wdM t f j n then n + 1 else wdL t f j n
theorem wd_ln : ∀ k, k < 23 → mt_sln k < 10 := sorry
theorem wd_ch : ∀ k, k < 23 → ∀ i, i < 10 → mt_sch k i < 128 := sorry
theorem tw_in {t : Nat → Nat} {n e f k : Nat} (he : e ≤ n) (hk : k < 23) (hj : f + mt_sln k ≤ e) {x4 x3 : Int32} {d : Nat} {h : mj_H} (hT : CT t n h) (hE : h.1 6 0 5 = nI e) : ∀ m i, i + m = mt_sln k → ∃ i', mj_R mg (d + 3) mq_97 (91, [(8, vI (nI i)), (7, vI 1), (6, vR 9 k), (5, vR 16 k), (4, vI x4), (3, vI x3), (2, vR 48 0), (1, vI (nI f)), (0, vR 6 0)], [], h) = mj_R mg (d + 3) mq_97 (137, [(8, vI (nI i')), (7, vI (bI (cmF t f k m i))), (6, vR 9 k), (5, vR 16 k), (4, vI x4), (3, vI x3), (2, vR 48 0), (1, vI (nI f)), (0, vR 6 0)], [], h) := sorry
/-- one word -/
theorem tw_one {t : Nat → Nat} {n e f j k : Nat} (he : e ≤ n) (hk : k < 23) (hf : f ≤ j) (hj : j ≤ e) {x4 x3 : Int32} {d : Nat} {h : mj_H} (hT : CT t n h) (hE : h.1 6 0 5 = nI e) : ∃ i', mj_R mg (d + 3) mq_97 (91, [(8, vI 0), (7, vI (bI (Nat.beq (mt_sln k) (j - f)))), (6, vR 9 k), (5, vR 16 k), (4, vI x4), (3, vI x3), (2, vR 48 0), (1, vI (nI f)), (0, vR 6 0)], [], h) = mj_R mg (d + 3) mq_97 (48, [(4, vI (x4 + 1)), (8, vI (nI i')), (7, vI (bI (wdM t f j k))), (6, vR 9 k), (5, vR 16 k), (3, vI x3), (2, vR 48 0), (1, vI (nI f)), (0, vR 6 0)], [], bif wdM t f j k then mj_sI (mj_sR h 6 0 12 (k + 1)) 6 0 10 2 else h) := sorry
def twP (t : Nat → Nat) (f j : Nat) (h0 h : mj_H) (k : Nat) : Prop := cF h0 h ∧ h.1 6 0 6 = nI j ∧ h.1 6 0 10 = nI (if wdL t f j k = 0 then 5 else 2) ∧ (wdL t f j k ≠ 0 → h.2.2 6 0 12 = wdL t f j k) ∧ h.1 6 0 11 = h0.1 6 0 11
theorem tw_nx {t : Nat → Nat} {f j k : Nat} {h0 h : mj_H} (p : twP t f j h0 h k) : twP t f j h0 (bif wdM t f j k then mj_sI (mj_sR h 6 0 12 (k + 1)) 6 0 10 2 else h) (k + 1) := sorry
theorem tw_loop {t : Nat → Nat} {n e f j : Nat} (he : e ≤ n) (hf : f ≤ j) (hj : j ≤ e) {d : Nat} {h0 : mj_H} : ∀ m k (h : mj_H) (x8 x7 : Int32) (k6 k5 : Nat), k + m = 23 → CT t n h → h.1 6 0 5 = nI e → twP t f j h0 h k → mP (mj_R mg (d + 3) mq_97 (48, [(4, vI (nI k)), (8, vI x8), (7, vI x7), (6, vR 9 k6), (5, vR 16 k5), (3, vI (nI 23)), (2, vR 48 0), (1, vI (nI f)), (0, vR 6 0)], [], h)) (fun v h' => v = none ∧ twP t f j h0 h' 23) := sorry
theorem cp_loop {t : Nat → Nat} {n e f : Nat} (he : e ≤ n) (i d : Nat) (h : mj_H) (hT : CT t n h) (hE : h.1 6 0 5 = nI e) (hi : i ≤ e) (ha : h.1 6 0 6 = nI i) :
    ∃ h', mj_R mg (d + 3) mq_97 (5, [(1, vI (nI f)), (0, vR 6 0)], [], h) = mj_R mg (d + 3) mq_97 (48, [(4, vI 0), (3, vI (nI 23)), (2, vR 48 0), (1, vI (nI f)), (0, vR 6 0)], [], mj_sI h' 6 0 10 5) ∧ cF h h' ∧ h'.1 6 0 6 = nI (skE (fun k => isCp (t k)) e i) ∧ h'.1 6 0 11 = h.1 6 0 11 := sorry
theorem l_word {t : Nat → Nat} {n e f d : Nat} {h : mj_H} (he : e ≤ n) (hT : CT t n h) (hE : h.1 6 0 5 = nI e) (hf : f ≤ e) (ha : h.1 6 0 6 = nI f) :
    mP (mj_R mg (d + 3) mq_97 (0, [(0, vR 6 0)], [], h)) (fun v h' => v = none ∧ twP t f (skE (fun k => isCp (t k)) e f) h h' 23) := sorry
