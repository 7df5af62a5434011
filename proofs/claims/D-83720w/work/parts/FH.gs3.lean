/-! the component's coder: instructions, labels -/
theorem sh_4 {x : Nat} (hx : x < 2 ^ 31) : (nI x) >>> ((4 : Int32) &&& 31) = nI (x / 16) := sorry
theorem not_n {v : Int32} (h : v < 0) : (v ^^^ (-1)) = nI (-(v.toInt) - 1).toNat ∧ (-(v.toInt) - 1).toNat < 2 ^ 31 := sorry
def dgN (x : Nat) : Nat := if x ≤ 15 then 1 else dgN (x / 16) + 1
termination_by x
decreasing_by omega
/-- how many bytes a value takes -/
def lnV (v : Int32) : Nat := if v < 0 then dgN ((-(v.toInt) - 1).toNat / 16) + 1 else dgN v.toNatClampNeg

theorem c_dgN {d : Nat} {v0 : Int32} {h : mj_H} : ∀ (x n : Nat), x < 2 ^ 31 → mj_R mg d mq_133 (4, [(1, vI (nI n)), (2, vI (nI x)), (0, vI v0)], [], h) = some (.inl (some (vI (nI (n + dgN x - 1))), h)) := sorry
theorem n_cl {v : Int32} (h : ¬ v < 0) : v = nI v.toNatClampNeg ∧ v.toNatClampNeg < 2 ^ 31 := sorry
theorem c_len {d : Nat} {v : Int32} {h : mj_H} : mj_R mg d mq_133 (0, [(0, vI v)], [], h) = some (.inl (some (vI (nI (lnV v))), h)) := sorry
