/-! the twin measures: what is kept stays -/
section
variable {sy : List Sym} {pz : List (Nat × Nat)} {pa : List (List Nat)}
theorem tQF.mv {h h' : mj_H} : ∀ (A : Tm) (m l : Nat) (vis : List Nat) (slo shi : Nat), wfQ sy pa A m l vis slo shi → ∀ (md f c : Nat) (x : Int32) (lo hi q lv : Nat), (md = m ∨ (m = 1 ∧ md = 4)) → tKS lo hi slo shi h h' → tQF sy pz pa h A md f c x lo hi q lv → tQF sy pz pa h' A md f c x lo hi q lv := sorry
end

