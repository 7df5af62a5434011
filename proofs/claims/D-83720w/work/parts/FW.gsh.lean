/-! the component's coder: how PAR FOR's branches are started -/
section
variable {sy : List Sym} {pa : List (List Nat)} {pz : List (Nat × Nat)} {u : Nat}
theorem k_hF {lo hi kk n st l j many first q Dp : Nat} {p : Tm} {x3 x4 x6 : Int32} {ve : List (Nat × Nat)} {h : mj_H} (hh : hi ≤ 3100) (hm : many < 1000) (hD : 10 ≤ Dp) (hf : first + many ≤ 12000) (y : rN u lo hi h kk 9) (hj : j < 3100) (d1 : h.1 29 0 j = nI (mz sy pz p 0).1) (d2 : h.1 30 0 j = nI (mz sy pz p 0).2) (hl : l + many ≤ 12000) (hv : ∀ k, k < many → (first + k, st + k * (nQ sy pa p 0 + 2)) ∈ ve) :
    ∀ (m k : Nat) (h1 : mj_H), k + m = many → TyC s0 n l ve (catN (fun k => hB1 (n + 4 * k) (st + k * (nQ sy pa p 0 + 2)) (3 + k * blk sy pz p + 1 + (mz sy pz p 0).1) 15) k) (l + k) q h h1 →
    ∃ h' b', mj_R mg (Dp + 1) mq_151 (162, [(10, vI (nI k)), (9, vI (nI j)), (8, vI (nI (3 + k * blk sy pz p))), (7, vI (nI first)), (6, vI x6), (5, vI (nI many)), (4, vI x4), (3, vI x3), (2, vI 1), (0, vR 10 0), (1, vI (nI kk))], [], h1) = mj_R mg (Dp + 1) mq_151 (162, [(10, vI (nI many)), (9, vI (nI j)), (8, vI b'), (7, vI (nI first)), (6, vI x6), (5, vI (nI many)), (4, vI x4), (3, vI x3), (2, vI 1), (0, vR 10 0), (1, vI (nI kk))], [], h') ∧
      TyC s0 n l ve (catN (fun k => hB1 (n + 4 * k) (st + k * (nQ sy pa p 0 + 2)) (3 + k * blk sy pz p + 1 + (mz sy pz p 0).1) 15) many) (l + many) q h h' := sorry
end

