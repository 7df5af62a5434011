/-! labels are paid for by nodes and names -/
theorem lE_nd {u : Nat} {h : mj_H} : ∀ (e : Tm) (lo hi k : Nat), tER u h e lo hi k → 2 * lE e + 1 + lo ≤ hi := sorry
theorem lA_nd {u : Nat} {h : mj_H} : ∀ (qs : List Nat) (as : Tm) (x : Int32) (lo hi : Nat), tAR u h qs as x lo hi → lo ≤ hi → 2 * lA as + lo ≤ hi := sorry
def prM (A : Tm) (m l slo shi lo hi : Nat) : Prop :=
  (m = 0 → lo < hi ∧ tWl A 0 + 3 + 15 * slo ≤ 3 * (hi - lo) + 15 * shi ∧ tL A 0 ≤ 18 * l + (hi - lo)) ∧
  (m = 1 → tWl A 1 + 3 * tmN A + 15 * slo ≤ 3 * (hi - lo) + 15 * shi ∧ tL A 1 ≤ 18 * l + (hi - lo)) ∧
  (m = 2 → tWl A 2 + tmN A + 15 * slo ≤ 3 * (hi - lo) + 15 * shi ∧ tO A 2 ≤ hi - lo ∧ tL A 2 ≤ 18 * l + (hi - lo)) ∧
  (m = 3 → lH A + tWl A 3 + 3 * tmN A + 15 * slo ≤ 3 * (hi - lo) + 15 * shi ∧ 2 * (lH A + tO A 3) ≤ hi - lo ∧ lH A + tO A 3 + tL A 3 ≤ 18 * l + (hi - lo))
theorem prM.m0 {A : Tm} {l slo shi lo hi : Nat} (a : lo < hi ∧ tWl A 0 + 3 + 15 * slo ≤ 3 * (hi - lo) + 15 * shi ∧ tL A 0 ≤ 18 * l + (hi - lo)) : prM A 0 l slo shi lo hi := sorry
theorem pr_all {sy : List Sym} {pa : List (List Nat)} {h : mj_H} : ∀ (A : Tm) (m l : Nat) (vis : List Nat) (slo shi : Nat), wfQ sy pa A m l vis slo shi → ∀ (f c : Nat) (x : Int32) (lo hi : Nat), tQR pa h A m f c x lo hi → prM A m l slo shi lo hi := sorry
