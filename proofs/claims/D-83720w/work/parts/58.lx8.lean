/-! numbers of signs: digits from one on -/
def bsL (B : Nat) (l : List Nat) : Nat := l.foldl (fun a c => B * a + c) 0
theorem bsL_app (B : Nat) (l : List Nat) (c : Nat) : bsL B (l ++ [c]) = B * bsL B l + c := sorry
theorem bs_split {B a b c d : Nat} (hc : c < B) (hd : d < B) (h : B * a + c = B * b + d) : a = b ∧ c = d := sorry
theorem bsL_inj {B : Nat} : ∀ (m : Nat) (l l' : List Nat), l.length ≤ m → (∀ x ∈ l, 0 < x ∧ x < B) → (∀ x ∈ l', 0 < x ∧ x < B) → bsL B l = bsL B l' → l = l' := sorry
theorem bsL_lt {B : Nat} : ∀ (m : Nat) (l : List Nat), l.length = m → (∀ x ∈ l, x < B) → bsL B l < B ^ m := sorry
theorem wdL_le (t : Nat → Nat) (f j : Nat) : ∀ m, wdL t f j m ≤ m := sorry
/-- all lines are as they should be -/
theorem lns_ok {t : Nat → Nat} {n : Nat} : ∀ m b u, u ≤ b → ∀ x, x ∈ lns t n m b u → x.1 ≤ x.2.1 ∧ x.2.1 ≤ x.2.2.1 ∧ x.2.2.1 < x.2.2.2 ∧ x.2.2.2 ≤ n := sorry
