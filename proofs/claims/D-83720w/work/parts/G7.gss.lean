/-! the component's coder: PAR, its header -/
section
variable {s : Nat × Nat × Nat} {n n1 lb lc0 l l1 l2 f f2 : Nat} {ve : List (Nat × Nat)} {A B C : List It} {h h1 h2 : mj_H}
theorem TyC.toL0 (a : TyC s n l ve C l f h h1) (hb : lb ≤ l) (h0 : lb ≤ lc0) : TyL s n lb lc0 l ve C l f h h1 := sorry
theorem TyL.lab (a : kF s n l h h1) (K : CK n l1 f h1) (hl : l ≤ l1) (hb : lb ≤ l) (h0 : lb ≤ lc0) : TyL s n lb lc0 l ve [] l1 f h h1 := sorry
theorem TyL.ov (K : CK n l f h) (hn : 6000 < n) (hb : lb ≤ l) (h0 : lb ≤ lc0) : TyL s n lb lc0 l ve C l f h h := sorry
theorem TyL.nil (K : CK n l f h) (hb : lb ≤ l) (h0 : lb ≤ lc0) : TyL s n lb lc0 l ve [] l f h h := sorry
end
theorem k_cn1 {hi d : Nat} {x1 : Int32} (hh : hi ≤ 3100) : ∀ (ps : Tm) (j lo : Nat) (x : Int32) (h : mj_H), rQ lo hi h ps 1 x → mj_R mg d mq_150 (37, [(3, vI x), (2, vI (nI j)), (0, vR 10 0), (1, vI x1)], [], h) = some (.inl (some (vI (nI (j + tmN ps))), h)) := sorry
/-- the header, until branches are started -/
theorem k_hd {n lc q kk many beh Dp : Nat} {s0' x9 : Int32} {V : List (Nat × Nat)} {h : mj_H} (hkk : kk < 3100) (hm : many < 1000) (hx : (s0' = 0 ∧ x9 = h.1 23 0 kk) ∨ (s0' = 1 ∧ x9 = h.1 25 0 kk)) (hK : CK n lc q h) (hD : 20 ≤ Dp) (v1 : (lc, beh) ∈ V) (v2 : (lc + 1, n + 2) ∈ V) (hl : lc + 2 + many ≤ 12000)
    (c150 : mj_R mg Dp mq_150 (0, [(0, vR 10 0), (1, vI (nI kk))], [], mj_sI h 10 0 13 (nI (q + 3))) = some (.inl (some (vI (nI many)), mj_sI h 10 0 13 (nI (q + 3))))) :
    ∃ h8, mj_R mg (Dp + 1) mq_151 (20, [(0, vR 10 0), (1, vI (nI kk))], [vI s0'], h) = mj_R mg (Dp + 1) mq_151 (162, [(10, vI (nI 0)), (9, vI x9), (8, vI (nI 3)), (7, vI (nI (lc + 2))), (6, vI (nI lc)), (5, vI (nI many)), (4, vI (nI q)), (3, vI (nI q)), (2, vI s0'), (0, vR 10 0), (1, vI (nI kk))], [], h8) ∧
      TyL s0 n lc (lc + 2 + many) lc V (hdQ n q many beh) (lc + 2 + many) (q + 3) (mj_sI h 10 0 13 (nI (q + 3))) h8 ∧ (n + 2 ≤ 6000 → h8.1 64 0 (lc + 1) = nI (n + 2)) := sorry
