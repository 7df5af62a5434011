/-! the component's coder: one of PAR's branches -/
section
variable {sy : List Sym} {pz : List (Nat × Nat)} {lv : Nat}
theorem k_br1 {k j b first many w kk n l lb lc0 q Dp slo shi N B : Nat} {p : Tm} {x3 x6 : Int32} {ve : List (Nat × Nat)} {h : mj_H} {P : List It} (hk : k < many) (hm : many < 1000) (hj : j < 3100) (hfk : first + k < lc0) (hfb : lb ≤ first + k) (hl0 : lc0 ≤ l) (hl : l ≤ 12000) (hK : CK n l q h) (hn : n ≤ 6000) (d1 : h.1 29 0 j = nI (mz sy pz p 0).1) (d2 : h.1 30 0 j = nI (mz sy pz p 0).2)
    (br : ∀ h1, h1 = mj_sI h 64 0 (first + k) (nI (min n 6000)) → CK n l q h1 → ∃ h2 l2, mj_R mg Dp mq_153 (0, [(0, vR 10 0), (1, vI (nI j)), (2, vI (nI (b + 1 + (mz sy pz p 0).1))), (3, vI (nI w))], [], h1) = some (.inl (none, h2)) ∧ TyC (slo, shi, lv) n l ve P l2 q h1 h2 ∧ lbQ n l l2 N B) :
    ∃ h2 l2, mj_R mg (Dp + 1) mq_151 (307, [(10, vI (nI k)), (9, vI (nI j)), (8, vI (nI b)), (7, vI (nI first)), (6, vI x6), (5, vI (nI many)), (4, vI (nI w)), (3, vI x3), (2, vI 0), (0, vR 10 0), (1, vI (nI kk))], [], h) = mj_R mg (Dp + 1) mq_151 (307, [(10, vI (nI (k + 1))), (9, vI (h.1 27 0 j)), (8, vI (nI (b + blk sy pz p))), (7, vI (nI first)), (6, vI x6), (5, vI (nI many)), (4, vI (nI w)), (3, vI x3), (2, vI 0), (0, vR 10 0), (1, vI (nI kk))], [], h2) ∧
      TyL (slo, shi, lv) n lb lc0 l ve P l2 q h h2 ∧ h2.1 64 0 (first + k) = nI n ∧ (∀ i, i < l → i ≠ first + k → h2.1 64 0 i = h.1 64 0 i) ∧ lbQ n l l2 N B := sorry
end

