/-! the component's coder: ALT's guards are kept -/
section
variable {sy : List Sym} {vis : List Nat} {wd r : Nat → Int32} {u lo hi : Nat}
theorem wfE_nl {e : Tm} (w : wfE sy vis e) : isNl e = false := sorry
theorem wfC_nl {e : Tm} (w : wfC sy vis e) : isNl e = false := sorry
theorem k_al1 (hh : hi ≤ 3100) {g k w n l f Dp : Nat} {x1 x2 x4 : Int32} {e c : Tm} {ve : List (Nat × Nat)} {h : mj_H} (y : rN u lo hi h g 14) (A : eS sy vis wd r h) (hK : CK n l f h) (hD : 70 ≤ Dp) (hl : l + lE e + lE c ≤ 12000)
    (ge : (e = .null ∧ h.1 23 0 g = -1) ∨ ∃ a, h.1 23 0 g = nI a ∧ a < 2 ^ 31 ∧ wfX sy vis e ∧ rE u lo hi h e a) (gc : (c = .null ∧ h.1 24 0 g = -1) ∨ ∃ a, h.1 24 0 g = nI a ∧ a < 2 ^ 31 ∧ wfC sy vis c ∧ rE u lo hi h c a) :
    ∃ h' l', mj_R mg (Dp + 1) mq_154 (44, [(6, vI (nI g)), (5, vI (nI k)), (4, vI x4), (3, vI (nI w)), (2, vI x2), (0, vR 10 0), (1, vI x1)], [], h) = mj_R mg (Dp + 1) mq_154 (44, [(6, vI (h.1 27 0 g)), (5, vI (nI (k + 1))), (4, vI x4), (3, vI (nI w)), (2, vI x2), (0, vR 10 0), (1, vI x1)], [], h') ∧ TyC s0 n l ve (kG1 sy wd r e c (w + 2 * k) f n) l' f h h' ∧ l' ≤ l + lE e + lE c := sorry
end

