/-! the component's coder: all expressions -/
section
variable {sy : List Sym} {vis : List Nat} {wd r : Nat → Int32} {u lo hi : Nat}
theorem CK.lb {n lc f : Nat} {s : Nat × Nat × Nat} {h : mj_H} {v : Int32} : kF s n lc h (mj_sI h 10 0 9 v) := sorry
theorem CK.fr {n lc f f' : Nat} {h : mj_H} (a : CK n lc f h) : CK n lc f' (mj_sI h 10 0 13 (nI f')) := sorry
/-- the free word was another one meanwhile -/
theorem TyC.fr {n lc l1 f f0 f1 : Nat} {s : Nat × Nat × Nat} {ve : List (Nat × Nat)} {C : List It} {h h' : mj_H} (a : TyC s n lc ve C l1 f0 (mj_sI h 10 0 13 (nI f)) h') : TyC s n lc ve C l1 f1 h (mj_sI h' 10 0 13 (nI f1)) := sorry
theorem nI_neC {a b : Nat} (ha : a < 2 ^ 31) (hb : b < 2 ^ 31) (h : a ≠ b) : ¬ nI a = nI b := sorry
theorem k_exp (hh : hi ≤ 3100) : ∀ (e : Tm) (k : Nat), wfE sy vis e → ∀ (h : mj_H) (n lc f D : Nat) (ve : List (Nat × Nat)), rE u lo hi h e k → eS sy vis wd r h → CK n lc f h → lc + lE e ≤ 12000 → 2 * eH e + 8 ≤ D →
    ∃ h' lc', mj_R mg D mq_137 (0, [(0, vR 10 0), (1, vI (nI k))], [], h) = some (.inl (none, h')) ∧ TyC s0 n lc ve (kE sy wd r e f n) lc' f h h' ∧ lc' ≤ lc + lE e := sorry
end

