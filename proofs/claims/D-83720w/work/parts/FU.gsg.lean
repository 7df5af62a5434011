/-! the component's coder: processes without others within -/
section
variable {sy : List Sym} {pa : List (List Nat)} {pz : List (Nat × Nat)} {vis : List Nat} {rh : Nat → Nat × Nat} {D : Nat → Int32} {lv : Nat} {r : Nat → Int32} {u lo hi : Nat}
/-- there is too much already -/
theorem k_ov {d n lc q : Nat} {x : Int32} {h : mj_H} (hK : CK n lc q h) (hn : 6000 < n) : mj_R mg (d + 1) mq_142 (0, [(0, vR 10 0), (1, vI x)], [], h) = some (.inl (none, h)) := sorry
theorem k_nov {n lc q : Nat} {h : mj_H} (hK : CK n lc q h) (hn : n ≤ 6000) : h.1 10 0 14 = 0 := sorry
/-- SKIP -/
theorem k_skip (hh : hi ≤ 3100) {k n lc q Dp : Nat} {s : Nat × Nat × Nat} {ve : List (Nat × Nat)} {h : mj_H} (x : rN u lo hi h k 0) (hK : CK n lc q h) (hn : n ≤ 6000) : ∃ h' lc', mj_R mg (Dp + 1) mq_142 (0, [(0, vR 10 0), (1, vI (nI k))], [], h) = some (.inl (none, h')) ∧ TyC s n lc ve [] lc' q h h' ∧ lbQ n lc lc' 0 (6000 - n) := sorry
/-- STOP -/
theorem k_stop (hh : hi ≤ 3100) {k n lc q Dp : Nat} {s : Nat × Nat × Nat} {ve : List (Nat × Nat)} {h : mj_H} (x : rN u lo hi h k 1) (hK : CK n lc q h) (hn : n ≤ 6000) : ∃ h' lc', mj_R mg (Dp + 4) mq_142 (0, [(0, vR 10 0), (1, vI (nI k))], [], h) = some (.inl (none, h')) ∧ TyC s n lc ve [iO 18] lc' q h h' ∧ lbQ n lc lc' 1 (6000 - n) := sorry
/-- SEND -/
theorem k_send (hh : hi ≤ 3100) {k a b n lc q Dp : Nat} {s : Nat × Nat × Nat} {c e : Tm} {ve : List (Nat × Nat)} {h : mj_H} (wc : wfC sy vis c) (we : wfX sy vis e) (x : rN u lo hi h k 3) (x1 : h.1 23 0 k = nI a) (x2 : h.1 24 0 k = nI b) (bc : rE u lo hi h c a) (be : rE u lo hi h e b) (S : qSt sy pa pz vis rh D lv r h) (hs : s.2.2 ≤ 40) (hK : CK n lc q h) (hn : n ≤ 6000) (hD : 70 ≤ Dp) (hb : lc + lE e + lE c ≤ 12000) :
    ∃ h' lc', mj_R mg (Dp + 1) mq_142 (0, [(0, vR 10 0), (1, vI (nI k))], [], h) = some (.inl (none, h')) ∧ TyC s n lc ve (kE sy (wdO rh D) r e q n ++ kA sy (wdO rh D) r c q (n + nE sy e) ++ [iO 21]) lc' q h h' ∧ lc' ≤ lc + lE e + lE c := sorry
/-- TAKE -/
theorem k_take (hh : hi ≤ 3100) {k a b n lc q Dp : Nat} {s : Nat × Nat × Nat} {c v : Tm} {ve : List (Nat × Nat)} {h : mj_H} (wc : wfC sy vis c) (wv : wfV sy vis v) (x : rN u lo hi h k 4) (x1 : h.1 23 0 k = nI a) (x2 : h.1 24 0 k = nI b) (bc : rE u lo hi h c a) (bv : rE u lo hi h v b) (S : qSt sy pa pz vis rh D lv r h) (hs : s.2.2 ≤ 40) (hK : CK n lc q h) (hn : n ≤ 6000) (hD : 70 ≤ Dp) (hb : lc + lE v + lE c ≤ 12000) :
    ∃ h' lc', mj_R mg (Dp + 1) mq_142 (0, [(0, vR 10 0), (1, vI (nI k))], [], h) = some (.inl (none, h')) ∧ TyC s n lc ve (kA sy (wdO rh D) r v q n ++ kA sy (wdO rh D) r c q (n + nD sy v) ++ [iO 20]) lc' q h h' ∧ lc' ≤ lc + lE v + lE c := sorry
/-- one of SEQ's row -/
theorem k_seq1 (hh : hi ≤ 3100) {j n lc q Dp N M slo shi tp tq : Nat} {x1 : Int32} {ve : List (Nat × Nat)} {h : mj_H} {P R : List It} (hj : j < hi) (hN : P.length = N) (hK : CK n lc q h)
    (ih : ∃ h' lc', mj_R mg Dp mq_142 (0, [(0, vR 10 0), (1, vI (nI j))], [], h) = some (.inl (none, h')) ∧ TyC (slo, shi, lv) n lc ve P lc' q h h' ∧ lbQ n lc lc' N (bB n tp 0))
    (rest : ∀ h1 l1, kF (slo, shi, lv) n lc h h1 → CK (n + N) l1 q h1 → lc ≤ l1 → l1 + bB (n + N) tq 0 ≤ lc + bB n (max tp tq) 0 → ∃ h' lc', mj_R mg (Dp + 1) mq_142 (201, [(2, vI (h.1 27 0 j)), (0, vR 10 0), (1, vI x1)], [], h1) = some (.inl (none, h')) ∧ TyC (slo, shi, lv) (n + N) l1 ve R lc' q h1 h' ∧ lbQ (n + N) l1 lc' M (bB (n + N) tq 0)) :
    ∃ h' lc', mj_R mg (Dp + 1) mq_142 (201, [(2, vI (nI j)), (0, vR 10 0), (1, vI x1)], [], h) = some (.inl (none, h')) ∧ TyC (slo, shi, lv) n lc ve (P ++ R) lc' q h h' ∧ lbQ n lc lc' (N + M) (bB n (max tp tq) 0) := sorry
theorem k_seq0 {n lc q Dp t : Nat} {x1 : Int32} {s : Nat × Nat × Nat} {ve : List (Nat × Nat)} {h : mj_H} (hK : CK n lc q h) : ∃ h' lc', mj_R mg (Dp + 1) mq_142 (201, [(2, vI (-1)), (0, vR 10 0), (1, vI x1)], [], h) = some (.inl (none, h')) ∧ TyC s n lc ve [] lc' q h h' ∧ lbQ n lc lc' 0 (bB n t 0) := sorry
end

