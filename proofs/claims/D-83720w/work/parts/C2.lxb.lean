/-! the twin's lexer: words -/
def wcd (k : Nat) : Nat := bsL 27 ((List.range (mt_sln k)).map (fun i => mt_sch k i - 64))
def wkL (v : Nat) : Nat → Nat
  | 0 => 0
  | n + 1 => bif Nat.beq (wcd n) v then n + 1 else wkL v n
theorem wk_hit : ∀ k, k < 23 → kof (wcd k) (mt_sln 25) 0 = k + 1 ∧ wkL (wcd k) 23 = k + 1 := sorry
theorem wk_com : ∀ i, i < mt_sln 25 → (Nat.beq (mt_sch 25 i) 44 = false ∨ ∃ k, k < 23 ∧ (kwS i).1 = wcd k) := sorry
theorem wk_cap : ∀ k, k < 23 → ∀ i, i < mt_sln k → 65 ≤ mt_sch k i ∧ mt_sch k i ≤ 90 := sorry
theorem kof_0 {v : Nat} (hv : ∀ k, k < 23 → wcd k ≠ v) : ∀ m i, i + m = mt_sln 25 → kof v m i = 0 := sorry
theorem wkL_0 {v : Nat} : ∀ m, (∀ k, k < m → wcd k ≠ v) → wkL v m = 0 := sorry
theorem kof_wk (v : Nat) : kof v (mt_sln 25) 0 = wkL v 23 := sorry
theorem wkL_le (v : Nat) : ∀ m, wkL v m ≤ m := sorry
theorem cmF_iff {t : Nat → Nat} {f k : Nat} : ∀ m i, cmF t f k m i = true ↔ ∀ x, i ≤ x → x < i + m → mt_sch k x = t (f + x) := sorry
theorem wdM_iff {t : Nat → Nat} {f j k : Nat} : wdM t f j k = true ↔ mt_sln k = j - f ∧ ∀ x, x < mt_sln k → mt_sch k x = t (f + x) := sorry
def kyL (t : Nat → Nat) (f m : Nat) : List Nat := (List.range m).map (fun x => t (f + x) - 64)
theorem wdM_wcd {t : Nat → Nat} {f j k : Nat} (hk : k < 23) (hc : ∀ x, x < j - f → isCp (t (f + x)) = true) : wdM t f j k = Nat.beq (wcd k) (bsL 27 (kyL t f (j - f))) := sorry
theorem wdL_wkL {t : Nat → Nat} {f j : Nat} (hc : ∀ x, x < j - f → isCp (t (f + x)) = true) : ∀ m, m ≤ 23 → wdL t f j m = wkL (bsL 27 (kyL t f (j - f))) m := sorry
theorem wdL_far {t : Nat → Nat} {f j : Nat} (hj : 12 < j - f) : ∀ m, m ≤ 23 → wdL t f j m = 0 := sorry
def kyF (t : Nat → Nat) (f : Nat) : Nat → Nat
  | 0 => 0
  | k + 1 => 27 * kyF t f k + (t (f + k) - 64)
theorem kyF_L (t : Nat → Nat) (f : Nat) : ∀ k, kyF t f k = bsL 27 (kyL t f k) := sorry
theorem kyF_lt {t : Nat → Nat} {f : Nat} : ∀ k, (∀ x, x < k → isCp (t (f + x)) = true) → kyF t f k < 27 ^ k := sorry
theorem uk_end {t : Nat → Nat} {n l b e f i d : Nat} {h : mj_H} (hi : i ≤ 3000) (ha : h.1 15 0 10 = nI i) (hc : ∀ x, x < i - f → isCp (t (f + x)) = true) :
    mP (if nI (i - f) ≤ nI 12 then mj_xi (mj_R mg (d + 1) mq_216 (0, [(0, vR 15 0), (1, vL (lN (kyF t f (min (i - f) 12))))], [], h)) (fun r3 h3 => mj_R mg (d + 2) mq_215 (82, [(1, vI (nI (i - f))), (2, vL (lN (kyF t f (min (i - f) 12)))), (0, vR 15 0)], [vI r3, vR 15 0], h3)) else mj_R mg (d + 2) mq_215 (82, [(1, vI (nI (i - f))), (2, vL (lN (kyF t f (min (i - f) 12)))), (0, vR 15 0)], [vI 0, vR 15 0], h)) (fun v h' => v = none ∧ tF h h' ∧ h'.1 15 0 10 = nI i ∧ h'.1 15 0 11 = nI (if wdL t f i 23 = 0 then 5 else 2) ∧ h'.1 15 0 13 = nI (wdL t f i 23) ∧ h'.1 15 0 12 = h.1 15 0 12) := sorry
theorem uk_loop {t : Nat → Nat} {n l b e f : Nat} (he : e ≤ n) (i d : Nat) (h : mj_H) (hT : TT t n h) (hL : TL h l b e) (hf : f ≤ i) (hi : i ≤ e) (ha : h.1 15 0 10 = nI i) (hcp : ∀ x, x < i - f → isCp (t (f + x)) = true) :
    mP (mj_R mg (d + 2) mq_215 (4, [(1, vI (nI (i - f))), (2, vL (lN (kyF t f (min (i - f) 12)))), (0, vR 15 0)], [], h)) (fun v h' => v = none ∧ tF h h' ∧ h'.1 15 0 10 = nI (cpE t e i) ∧ h'.1 15 0 11 = nI (if wdL t f (cpE t e i) 23 = 0 then 5 else 2) ∧ h'.1 15 0 13 = nI (wdL t f (cpE t e i) 23) ∧ h'.1 15 0 12 = h.1 15 0 12) := sorry
theorem u_key {t : Nat → Nat} {n l b e f d : Nat} {h : mj_H} (he : e ≤ n) (hT : TT t n h) (hL : TL h l b e) (hf : f < e) (ha : h.1 15 0 10 = nI f) (hd : isCp (t f) = true) :
    mP (mj_R mg (d + 2) mq_215 (0, [(0, vR 15 0)], [], h)) (fun v h' => v = none ∧ tF h h' ∧ h'.1 15 0 10 = nI (cpE t e f) ∧ h'.1 15 0 11 = nI (if wdL t f (cpE t e f) 23 = 0 then 5 else 2) ∧ h'.1 15 0 13 = nI (wdL t f (cpE t e f) 23) ∧ h'.1 15 0 12 = h.1 15 0 12) := sorry
