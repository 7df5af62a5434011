/-! the least line depends on the members alone -/
def lst (L : List Nat) (x : Int32) : Prop := (x = -1 ∧ L = []) ∨ ∃ v, v ∈ L ∧ x = nI v ∧ ∀ u, u ∈ L → v ≤ u
theorem lst_go : ∀ (L A : List Nat) (x : Int32), (∀ u, u ∈ A ++ L → u < 100000) → lst A x → lst (A ++ L) (mnL x L) := sorry
theorem mnL_eq {A B : List Nat} (h : ∀ u, u ∈ A ↔ u ∈ B) (hb : ∀ u, u ∈ A → u < 100000) : mnL (-1) A = mnL (-1) B := sorry
