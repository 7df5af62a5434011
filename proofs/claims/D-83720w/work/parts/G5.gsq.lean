/-! the component's coder: ALT's bodies -/
theorem bB_n {n t o : Nat} (h : n ≤ 6000) : bB n t o = 6000 - n + t := sorry
theorem bB_o {n t o : Nat} (h : 6000 < n) : bB n t o = o := sorry
section
variable {sy : List Sym} {vis : List Nat} {wd r : Nat → Int32} {u lo hi lv : Nat}
theorem lD_n {a : Tm} (w : wfD sy vis a) : lE a ≤ nD sy a := sorry
theorem lH_n : ∀ gs, wfH sy vis gs → lH gs ≤ nH1 sy gs ∧ 2 * tmN gs ≤ nH2 gs := sorry
theorem eS.mvL {h h' : mj_H} {n lb lc0 l : Nat} (A : eS sy vis wd r h) (f : kL s0 n lb lc0 l h h') : eS sy vis wd r h' := sorry
theorem k_al4 (hh : hi ≤ 3100) {g k w n l f first le x lb lc0 Dp slo shi N tp : Nat} {x1 x2 x4 x7 x10 : Int32} {c v : Tm} {ve : List (Nat × Nat)} {h : mj_H} {P : List It} (hlv : lv ≤ 40) (y : rN u lo hi h g 14) (A : eS sy vis wd r h) (hK : CK n l f h) (hD : 70 ≤ Dp) (hN : P.length = N) (hf1 : lb ≤ first + k) (hf2 : first + k < lc0) (hl0 : lc0 ≤ l) (hle : le < l) (hve : (le, x) ∈ ve)
    (gc : (isNl c = true ∧ h.1 24 0 g = -1) ∨ (isNl c = false ∧ (¬ h.1 24 0 g = -1) ∧ ∃ b, h.1 26 0 g = nI b ∧ wfV sy vis v ∧ rE u lo hi h v b)) (hb : l + bB n (lE v + tp) (lE v) ≤ 12000)
    (ih : ∀ h1 l1, kL s0 n lb lc0 l h h1 → l ≤ l1 → CK (n + (if isNl c then 0 else nD sy v + 2)) l1 f h1 → l1 + bB (n + (if isNl c then 0 else nD sy v + 2)) tp 0 ≤ 12000 → ∃ h' lc', mj_R mg Dp mq_142 (0, [(0, vR 10 0), (1, vI (h.1 25 0 g))], [], h1) = some (.inl (none, h')) ∧ TyC (slo, shi, lv) (n + (if isNl c then 0 else nD sy v + 2)) l1 ve P lc' f h1 h' ∧ lbQ (n + (if isNl c then 0 else nD sy v + 2)) l1 lc' N (bB (n + (if isNl c then 0 else nD sy v + 2)) tp 0)) :
    ∃ h2 l2, mj_R mg (Dp + 1) mq_154 (461, [(9, vI (nI g)), (5, vI (nI k)), (10, vI x10), (8, vI (nI le)), (7, vI x7), (6, vI (nI first)), (4, vI x4), (3, vI (nI w)), (2, vI x2), (0, vR 10 0), (1, vI x1)], [], h) = mj_R mg (Dp + 1) mq_154 (461, [(9, vI (h.1 27 0 g)), (5, vI (nI (k + 1))), (10, vI x10), (8, vI (nI le)), (7, vI x7), (6, vI (nI first)), (4, vI x4), (3, vI (nI w)), (2, vI x2), (0, vR 10 0), (1, vI x1)], [], h2) ∧
      TyL (slo, shi, lv) n lb lc0 l ve ((if isNl c then [] else kA sy wd r v f n ++ [iV 7 (nI (w + 2 * k + 1)), iO 20]) ++ P ++ [iW 0 x]) l2 f h h2 ∧ (n ≤ 6000 → h2.1 64 0 (first + k) = nI n) ∧ (∀ i, i < l → i ≠ first + k → h2.1 64 0 i = h.1 64 0 i) ∧ lbQ n l l2 ((if isNl c then 0 else nD sy v + 2) + N + 1) (bB n (lE v + tp) (lE v)) := sorry
end

