/-! intervals that lie apart -/
def smN (g : Nat → Nat) : Nat → Nat
  | 0 => 0
  | n + 1 => smN g n + g n
theorem smN_le {g g' : Nat → Nat} : ∀ n, (∀ i, i < n → g i ≤ g' i) → smN g n ≤ smN g' n := sorry
theorem smN_0 {g : Nat → Nat} : ∀ n, (∀ i, i < n → g i = 0) → smN g n = 0 := sorry
theorem smN_add {g g' : Nat → Nat} : ∀ n, smN (fun i => g i + g' i) n = smN g n + smN g' n := sorry
theorem smN_mul {g : Nat → Nat} {c : Nat} : ∀ n, smN (fun i => c * g i) n = c * smN g n := sorry
theorem smN_1 {g : Nat → Nat} : ∀ n, (∀ i, i < n → g i ≤ 1) → (∀ i j, i < n → j < n → g i = 1 → g j = 1 → i = j) → smN g n ≤ 1 := sorry
/-- disjoint intervals below N -/
theorem smN_dj {a b : Nat → Nat} {n : Nat} (hd : ∀ i j, i < n → j < n → i ≠ j → b i ≤ a j ∨ b j ≤ a i) : ∀ N, smN (fun i => min (b i) N - a i) n ≤ N := sorry
theorem smN_dj2 {a b : Nat → Nat} {n N : Nat} (hd : ∀ i j, i < n → j < n → i ≠ j → b i ≤ a j ∨ b j ≤ a i) (hN : ∀ i, i < n → b i ≤ N) : smN (fun i => b i - a i) n ≤ N := sorry
/-- all labels of a processor's code -/
theorem tSu_b {sy : List Sym} {pa : List (List Nat)} {bs : List Tm} {rt : List (Nat × Tm)} {rg sg : Nat → Nat × Nat} {nn nl p : Nat} {h : mj_H} {R : Nat × Tm} (a0 : rgs nn bs.length rt rg) (s0 : rgs sy.length bs.length rt sg) (hb : ∀ k B, bs[k]? = some B → bdy sy pa nl k B (sg (2 * k)) ∧ ∃ x, tQ (pa.take k) (rg (2 * k)).1 (rg (2 * k)).2 h B 0 0 0 x)
    (hf : rt.find? (fun x => x.1 == p) = some R) (hr : rut sy pa nl R.2 (sg (2 * p + 1))) (hq : ∃ x, tQ pa (rg (2 * p + 1)).1 (rg (2 * p + 1)).2 h R.2 0 0 0 x) : tSu bs bs.length + tWl R.2 0 ≤ 3 * nn + 15 * sy.length := sorry
