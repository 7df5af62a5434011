/-! the component's coder: how PAR's branches are started -/
/-- labels of branches, and where these begin -/
def stV (sy : List Sym) (pa : List (List Nat)) : Tm → Nat → Nat → List (Nat × Nat)
  | .elem p ps, l, st => (l, st) :: stV sy pa ps (l + 1) (st + nQ sy pa p 0 + 2)
  | _, _, _ => []
theorem c_labs {D n fr many : Nat} {x1 x2 x3 x4 x6 x7 : Int32} (hm : many < 1000) : ∀ (m k l : Nat) (h : mj_H), k + m = many → CK n l fr h → l + m ≤ 12000 → ∃ h', kF s0 n l h h' ∧ CK n (l + m) fr h' ∧ mj_R mg (D + 1) mq_151 (111, [(8, vI (nI k)), (7, vI x7), (6, vI x6), (5, vI (nI many)), (4, vI x4), (3, vI x3), (2, vI x2), (0, vR 10 0), (1, vI x1)], [], h) = mj_R mg (D + 1) mq_151 (111, [(8, vI (nI many)), (7, vI x7), (6, vI x6), (5, vI (nI many)), (4, vI x4), (3, vI x3), (2, vI x2), (0, vR 10 0), (1, vI x1)], [], h') := sorry
theorem rQ_1 {lo hi : Nat} {h : mj_H} {ps : Tm} {x : Int32} (r : rQ lo hi h ps 1 x) : (ps = .null ∧ x = -1) ∨ ∃ p qs, ps = .elem p qs := sorry
section
variable {sy : List Sym} {pa : List (List Nat)} {pz : List (Nat × Nat)} {u : Nat}
theorem k_hB {lo hi kk n0 many first q Dp w : Nat} {x3 x4 x6 : Int32} {ve : List (Nat × Nat)} (hh : hi ≤ 3100) (hm : many < 1000) (hD : 10 ≤ Dp) (hf : first + many ≤ 12000) : ∀ (ps : Tm) (k n l st b lo1 : Nat) (x9 : Int32) (h : mj_H), rN u lo hi h kk w → w < 20 → rQ lo1 hi h ps 1 x9 → cM sy pz h ps 1 x9 → (mz sy pz ps 4).2 < 1000000 → (∀ y ∈ stV sy pa ps (first + k) st, y ∈ ve) → CK n l q h → l + tmN ps ≤ 12000 → k + tmN ps = many → b + (mz sy pz ps 4).2 < 2000000 →
    ∃ h' b', mj_R mg (Dp + 1) mq_151 (162, [(10, vI (nI k)), (9, vI x9), (8, vI (nI b)), (7, vI (nI first)), (6, vI x6), (5, vI (nI many)), (4, vI x4), (3, vI x3), (2, vI 0), (0, vR 10 0), (1, vI (nI kk))], [], h) = mj_R mg (Dp + 1) mq_151 (162, [(10, vI (nI many)), (9, vI (-1)), (8, vI b'), (7, vI (nI first)), (6, vI x6), (5, vI (nI many)), (4, vI x4), (3, vI x3), (2, vI 0), (0, vR 10 0), (1, vI (nI kk))], [], h') ∧
      TyC s0 n l ve (hB sy pz pa (decide (k = 0) && decide (w = 10)) ps n st b) (l + tmN ps) q h h' := sorry
end

