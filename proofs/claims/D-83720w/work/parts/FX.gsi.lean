/-! the component's coder: labels that are placed in the midst (PAR, ALT) -/
/-- as kF, but labels from lb up to lc0 may be placed too -/
def kL (s : Nat × Nat × Nat) (n lb lc0 l : Nat) (h h' : mj_H) : Prop := (∀ g i j, ¬ ((58 ≤ g ∧ g ≤ 62 ∧ n ≤ j) ∨ (g = 64 ∧ (l ≤ j ∨ (lb ≤ j ∧ j < lc0))) ∨ (g = 10 ∧ (j = 7 ∨ j = 9 ∨ j = 13 ∨ j = 14)) ∨ ((g = 35 ∨ g = 36) ∧ s.1 ≤ j ∧ j < s.2.1) ∨ (g = 66 ∧ s.2.2 < j)) → h'.1 g i j = h.1 g i j) ∧ h'.2 = h.2
def TyL (s : Nat × Nat × Nat) (n lb lc0 l : Nat) (ve : List (Nat × Nat)) (C : List It) (l' f : Nat) (h h' : mj_H) : Prop := kL s n lb lc0 l h h' ∧ CK (n + C.length) l' f h' ∧ (l ≤ l' ∧ lb ≤ l ∧ lb ≤ lc0) ∧ (n + C.length ≤ 6000 → cdC lc0 l' ve h' n C)
section
variable {s : Nat × Nat × Nat} {n n1 lb lc0 l l1 l2 f f2 : Nat} {ve : List (Nat × Nat)} {A B C : List It} {h h1 h2 : mj_H}
theorem TyC.toL (a : TyC s n l ve C l1 f h h1) (h0 : lc0 ≤ l) (hb : lb ≤ lc0) : TyL s n lb lc0 l ve C l1 f h h1 := sorry
theorem TyL.ap (a : TyL s n lb lc0 l ve A l1 f h h1) (b : TyL s n1 lb lc0 l1 ve B l2 f2 h1 h2) (hn : n1 = n + A.length) : TyL s n lb lc0 l ve (A ++ B) l2 f2 h h2 := sorry
/-- one of those labels is placed -/
theorem TyL.pl {p : Nat} {v : Int32} (K : CK n l f (mj_sI h 64 0 p v)) (h1 : lb ≤ p) (h2 : p < lc0) (h3 : lb ≤ l) : TyL s n lb lc0 l ve [] l f h (mj_sI h 64 0 p v) := sorry
/-- all of them have been placed -/
theorem TyL.fin {ve0 : List (Nat × Nat)} {h0 : mj_H} (p : kF s n lb h0 h) (a : TyL s n lb lc0 l (ve0 ++ ve) C l1 f h h1) (h0l : lc0 ≤ l1) (hp : n + C.length ≤ 6000 → ∀ x, x ∈ ve0 → lb ≤ x.1 ∧ x.1 < lc0 ∧ h1.1 64 0 x.1 = nI x.2) : TyC s n lb ve C l1 f h0 h1 := sorry
theorem kL.kf (a : kL s n lb lc0 l h h1) : kF s n 0 h h1 := sorry
theorem kF.toL (a : kF s n l h h1) : kL s n lb lc0 l h h1 := sorry
theorem kL.tr (a : kL s n lb lc0 l h h1) (b : kL s n1 lb lc0 l1 h1 h2) (hn : n ≤ n1) (hl : l ≤ l1) : kL s n lb lc0 l h h2 := sorry
end

