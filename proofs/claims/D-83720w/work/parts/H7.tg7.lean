/-! the twin's coder: IF, SEQ -/
section
variable {sy : List Sym} {pa : List (List Nat)} {pz : List (Nat × Nat)} {vis : List Nat} {rh : Nat → Nat × Nat} {D : Nat → Int32} {lv al : Nat} {r : Nat → Int32} {u : Nat}
/-- one of IF's choices -/
theorem g_grd {g a q n lc Dp slo shi N NR le x tp tr lo hi m1 : Nat} {x1 : Int32} {e : Tm} {ve : List (Nat × Nat)} {h : mj_H} {P R : List It} (hh : hi ≤ 7000) (hlo : 1 ≤ lo) (we : wfX sy vis e) (y : tM u lo hi h g 34) (y1 : h.1 89 0 g = nI a) (hm : m1 ≤ hi) (be : tEF u h e lo m1 a q) (S : qY sy pa pz vis rh D lv al r h) (hK : KG n lc h) (hD : 80 ≤ Dp) (hN : P.length = N) (hle : 1 ≤ le ∧ le ≤ lc) (hve : (le, x) ∈ ve) (hb : lc + ((7000 - n) + (1 + lE e + tp + tr)) < 19990)
    (ih : inG (slo, shi, lv, al) n lc h (n + nE sy e + 1) N tp Dp P (h.1 93 0 g))
    (rest : ∀ h7 l6, fY (slo, shi, lv, al) n lc h h7 → KG (n + nE sy e + N + 2) l6 h7 → lc < l6 → l6 + ((7000 - (n + nE sy e + N + 2)) + tr) < 19990 → ∃ h'' lc', mj_R mg (Dp + 1) mq_310 (12, [(3, vI (h.1 94 0 g)), (2, vI (nI le)), (0, vR 15 0), (1, vI x1)], [], h7) = some (.inl (none, mj_sI h'' 122 0 le (nI (min (n + nE sy e + N + 2 + NR) 7000)))) ∧ TyG (slo, shi, lv, al) (n + nE sy e + N + 2) l6 ve R lc' h7 h'' ∧ lbT (n + nE sy e + N + 2) l6 lc' (NR - 1) tr) :
    ∃ h'' lc', mj_R mg (Dp + 1) mq_310 (12, [(3, vI (nI g)), (2, vI (nI le)), (0, vR 15 0), (1, vI x1)], [], h) = some (.inl (none, mj_sI h'' 122 0 le (nI (min (n + (nE sy e + N + 2 + NR)) 7000)))) ∧ TyG (slo, shi, lv, al) n lc ve (kE sy (wdO rh D) r e q n ++ iW 10 (n + nE sy e + N + 2) :: (P ++ iW 0 x :: R)) lc' h h'' ∧ lbT n lc lc' (nE sy e + N + 2 + (NR - 1)) (1 + lE e + tp + tr) := sorry
/-- the end of IF's row -/
theorem g_gr0 {n lc Dp le tl : Nat} {s : Nat × Nat × Nat × Nat} {x1 : Int32} {ve : List (Nat × Nat)} {h : mj_H} (hK : KG n lc h) (hle : le < 20000) : ∃ h'' lc', mj_R mg (Dp + 2) mq_310 (12, [(3, vI 0), (2, vI (nI le)), (0, vR 15 0), (1, vI x1)], [], h) = some (.inl (none, mj_sI h'' 122 0 le (nI (min (n + 1) 7000)))) ∧ TyG s n lc ve [iO 29] lc' h h'' ∧ lbT n lc lc' 0 tl := sorry
theorem g_if {k n lc Dp slo shi NR tr lo hi f0 c0 : Nat} {ve : List (Nat × Nat)} {h : mj_H} {R : List It} (hh : hi ≤ 7000) (y : tD u lo hi h k 30 f0 c0) (S : qY sy pa pz vis rh D lv al r h) (hK : KG n lc h) (hR : R.length = NR) (hlc : lc + 1 < 19990)
    (row : ∀ h1, fY sT0 n lc h h1 → KG n (lc + 1) h1 → ∃ h'' lc', mj_R mg (Dp + 1) mq_310 (12, [(3, vI (h.1 93 0 k)), (2, vI (nI (lc + 1))), (0, vR 15 0), (1, vI (nI k))], [], h1) = some (.inl (none, mj_sI h'' 122 0 (lc + 1) (nI (min (n + NR) 7000)))) ∧ TyG (slo, shi, lv, al) n (lc + 1) ((lc + 1, n + NR) :: ve) R lc' h1 h'' ∧ lbT n (lc + 1) lc' (NR - 1) tr) (hNR : 1 ≤ NR) :
    ∃ h' lc', mj_R mg (Dp + 1) mq_310 (0, [(0, vR 15 0), (1, vI (nI k))], [], h) = some (.inl (none, h')) ∧ TyG (slo, shi, lv, al) n lc ve R lc' h h' ∧ lbT n lc lc' NR (1 + tr) := sorry
/-- one of SEQ's row -/
theorem g_seq1 {j n lc Dp N M hi tp tq : Nat} {s : Nat × Nat × Nat × Nat} {x1 : Int32} {ve : List (Nat × Nat)} {h : mj_H} {P R : List It} (hh : hi ≤ 7000) (hj1 : 1 ≤ j) (hj : j < hi) (hN : P.length = N)
    (ih : ∃ h' lc', mj_R mg Dp mq_306 (0, [(0, vR 15 0), (1, vI (nI j))], [], h) = some (.inl (none, h')) ∧ TyG s n lc ve P lc' h h' ∧ lbT n lc lc' N tp)
    (rest : ∀ h1 l1, fY s n lc h h1 → KG (n + N) l1 h1 → lc ≤ l1 → l1 + ((7000 - (n + N)) + tq) ≤ lc + ((7000 - n) + (tp + tq)) → ∃ h' lc', mj_R mg (Dp + 1) mq_306 (261, [(2, vI (h.1 94 0 j)), (0, vR 15 0), (1, vI x1)], [], h1) = some (.inl (none, h')) ∧ TyG s (n + N) l1 ve R lc' h1 h' ∧ lbT (n + N) l1 lc' M tq) :
    ∃ h' lc', mj_R mg (Dp + 1) mq_306 (261, [(2, vI (nI j)), (0, vR 15 0), (1, vI x1)], [], h) = some (.inl (none, h')) ∧ TyG s n lc ve (P ++ R) lc' h h' ∧ lbT n lc lc' (N + M) (tp + tq) := sorry
theorem g_seq0 {n lc Dp t : Nat} {x1 : Int32} {s : Nat × Nat × Nat × Nat} {ve : List (Nat × Nat)} {h : mj_H} (hK : KG n lc h) : ∃ h' lc', mj_R mg (Dp + 1) mq_306 (261, [(2, vI 0), (0, vR 15 0), (1, vI x1)], [], h) = some (.inl (none, h')) ∧ TyG s n lc ve [] lc' h h' ∧ lbT n lc lc' 0 t := sorry
end

