/-! the component's coder: a branch -/
section
variable {sy : List Sym} {pa : List (List Nat)} {pz : List (Nat × Nat)} {vis : List Nat} {rh : Nat → Nat × Nat} {D : Nat → Int32} {lv : Nat} {r : Nat → Int32}
theorem k_brn {x : Int32} {q n lc d w Dp slo shi N B : Nat} {ve : List (Nat × Nat)} {h : mj_H} {P : List It} (S : qSt sy pa pz vis rh D lv r h) (hlv : lv + 1 < 40) (hK : CK n lc q h) (hD : 70 ≤ Dp)
    (ih : ∀ hA, (∀ g i j, g ≠ 66 → g ≠ 10 → hA.1 g i j = h.1 g i j) → hA.2 = h.2 → CK n lc 1 hA → qSt sy pa pz vis rh (shD D lv d) (lv + 1) r hA → ∃ hB lc', mj_R mg Dp mq_142 (0, [(0, vR 10 0), (1, vI x)], [], hA) = some (.inl (none, hB)) ∧ TyC (slo, shi, lv + 1) n lc ve P lc' 1 hA hB ∧ lbQ n lc lc' N B) :
    ∃ h' lc', mj_R mg (Dp + 1) mq_153 (0, [(0, vR 10 0), (1, vI x), (2, vI (nI d)), (3, vI (nI w))], [], h) = some (.inl (none, h')) ∧ TyC (slo, shi, lv) n lc ve (P ++ [iV 1 (D lv + nI d + nI w), iO 17]) lc' q h h' ∧ lbQ n lc lc' N B := sorry
end

