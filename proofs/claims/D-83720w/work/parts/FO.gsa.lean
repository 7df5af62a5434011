/-! the component's coder: IF -/
def bB (n t o : Nat) : Nat := if 6000 < n then o else 6000 - n + t
section
variable {sy : List Sym} {pa : List (List Nat)} {pz : List (Nat × Nat)} {vis : List Nat} {rh : Nat → Nat × Nat} {D : Nat → Int32} {lv : Nat} {r : Nat → Int32} {u lo hi : Nat}
/-- what is known of a process within: at n, N instructions P, tp labels beyond -/
def inK (s : Nat × Nat × Nat) (n lc : Nat) (h : mj_H) (n1 N tp q Dp : Nat) (P : List It) (x : Int32) : Prop := ∀ h1 l1 ve', kF s n lc h h1 → lc ≤ l1 → CK n1 l1 q h1 → l1 + bB n1 tp 0 ≤ 12000 → ∃ h' lc', mj_R mg Dp mq_142 (0, [(0, vR 10 0), (1, vI x)], [], h1) = some (.inl (none, h')) ∧ TyC s n1 l1 ve' P lc' q h1 h' ∧ lbQ n1 l1 lc' N (bB n1 tp 0)
theorem row_148 {D : Nat} {h : mj_H} {x1 x2 x3 x4 : Int32} : mj_R mg (D + 1) mq_148 (15, [(3, vI x3), (2, vI x2), (0, vR 10 0), (1, vI x1)], [], h) = mj_R mg (D + 1) mq_148 (15, [(3, vI x3), (4, vI x4), (2, vI x2), (0, vR 10 0), (1, vI x1)], [], h) := sorry
/-- one of IF's choices -/
theorem k_grd (hh : hi ≤ 3100) {g a q n lc Dp slo shi N NR le x tp tO' tL' : Nat} {x1 x4 : Int32} {e : Tm} {ve : List (Nat × Nat)} {h : mj_H} {P R : List It} (we : wfX sy vis e) (y : rN u lo hi h g 14) (y1 : h.1 23 0 g = nI a) (be : rE u lo hi h e a) (S : qSt sy pa pz vis rh D lv r h) (hK : CK n lc q h) (hD : 70 ≤ Dp) (hN : P.length = N) (hle : le < lc) (hve : (le, x) ∈ ve)
    (hb : lc + bB n (max (1 + lE e + tp + tO') tL') (1 + lE e + tO') ≤ 12000)
    (ih : inK (slo, shi, lv) n lc h (n + nE sy e + 1) N tp q Dp P (h.1 25 0 g))
    (rest : ∀ h7 l6, kF (slo, shi, lv) n lc h h7 → CK (n + nE sy e + N + 2) l6 q h7 → lc < l6 → l6 + bB (n + nE sy e + N + 2) tL' tO' ≤ 12000 → ∃ h'' lc', mj_R mg (Dp + 1) mq_148 (15, [(3, vI (h.1 27 0 g)), (4, vI (nI lc)), (2, vI (nI le)), (0, vR 10 0), (1, vI x1)], [], h7) = some (.inl (none, mj_sI h'' 64 0 le (nI (min (n + nE sy e + N + 2 + NR) 6000)))) ∧ TyC (slo, shi, lv) (n + nE sy e + N + 2) l6 ve R lc' q h7 h'' ∧ lbQ (n + nE sy e + N + 2) l6 lc' (NR - 1) (bB (n + nE sy e + N + 2) tL' tO')) :
    ∃ h'' lc', mj_R mg (Dp + 1) mq_148 (15, [(3, vI (nI g)), (4, vI x4), (2, vI (nI le)), (0, vR 10 0), (1, vI x1)], [], h) = some (.inl (none, mj_sI h'' 64 0 le (nI (min (n + (nE sy e + N + 2 + NR)) 6000)))) ∧ TyC (slo, shi, lv) n lc ve (kE sy (wdO rh D) r e q n ++ iW 10 (n + nE sy e + N + 2) :: (P ++ iW 0 x :: R)) lc' q h h'' ∧ lbQ n lc lc' (nE sy e + N + 2 + (NR - 1)) (bB n (max (1 + lE e + tp + tO') tL') (1 + lE e + tO')) := sorry
/-- the end of IF's row -/
theorem k_gr0 {q n lc Dp le slo shi tl : Nat} {x1 x4 : Int32} {ve : List (Nat × Nat)} {h : mj_H} (hK : CK n lc q h) (hle : le < 12000) : ∃ h'' lc', mj_R mg (Dp + 4) mq_148 (15, [(3, vI (-1)), (4, vI x4), (2, vI (nI le)), (0, vR 10 0), (1, vI x1)], [], h) = some (.inl (none, mj_sI h'' 64 0 le (nI (min (n + 1) 6000)))) ∧ TyC (slo, shi, lv) n lc ve [iO 29] lc' q h h'' ∧ lbQ n lc lc' 0 (bB n tl 0) := sorry
end

