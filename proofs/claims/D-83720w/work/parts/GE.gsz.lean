/-! the component's coder: one PROC is typed -/
theorem nI_ex (x : Int32) : ∃ f, x = nI f := sorry
theorem row_156 {D : Nat} {h : mj_H} {x1 x3 x4 : Int32} {k2 : Nat} : mj_R mg (D + 1) mq_156 (17, [(3, vI x3), (0, vR 10 0), (1, vI x1), (2, vR 69 k2)], [], h) = mj_R mg (D + 1) mq_156 (17, [(3, vI x3), (4, vI x4), (0, vR 10 0), (1, vI x1), (2, vR 69 k2)], [], h) := sorry
section
variable {sy : List Sym} {pz : List (Nat × Nat)} {pa : List (List Nat)} {bs : List Tm} {nl : Nat} {sg : Nat → Nat × Nat} {h0 : mj_H}
theorem glo_01 {np s : Nat} (h : glo np nl sy s) : srO sy s = 0 ∨ srO sy s = 1 := sorry
theorem glo_in {np s : Nat} (h : glo np nl sy s) : inSy sy s := sorry
/-- what the tree holds for the coder -/
def cTr (sy : List Sym) (pz : List (Nat × Nat)) (pa : List (List Nat)) (bs : List Tm) (nl : Nat) (sg : Nat → Nat × Nat) (h0 : mj_H) : Prop := SYc h0 sy ∧ h0.1 4 0 17 = nI bs.length ∧ bs.length = pa.length ∧ pa.length ≤ 24 ∧
  (∀ k B, bs[k]? = some B → (∃ x lo hi, h0.1 38 0 k = nI x ∧ rQ lo hi h0 B 0 (nI x) ∧ hi ≤ 3100 ∧ cM sy pz h0 B 0 (nI x)) ∧ (mz sy pz B 0).2 < 1000000 ∧ tL B 0 ≤ 5900 ∧ bdy sy pa nl k B (sg k) ∧ (sg k).2 ≤ sy.length) ∧
  ∀ k, k < pa.length → (pa.getD k []).length ≤ 6 ∧ h0.1 39 0 k = nI (pa.getD k []).length ∧ h0.1 41 0 k = nI (pz.getD k (0, 0)).1 ∧ ∀ i q, (pa.getD k [])[i]? = some q → h0.1 40 0 (6 * k + i) = nI q ∧ inSy sy q
theorem take_D {p k : Nat} (hp : p < k) : (pa.take k).getD p [] = pa.getD p [] := sorry
/-- PROCs that were typed, for calls -/
theorem JT.pr {m : Nat} {h : mj_H} (T : cTr sy pz pa bs nl sg h0) (hm : m ≤ bs.length) (g : gT h0 h) (hl : ∀ p, p < m → ∃ l, l < 12000 ∧ h.1 65 0 p = nI l) : kPr sy (pa.take m) pz h := sorry
theorem k_tp1 {m n lc Dp k2 : Nat} {x1 x4 : Int32} {h : mj_H} (T : cTr sy pz pa bs nl sg h0) (hm : m < bs.length) (hD : 560 ≤ Dp) (J : JT sy pz pa bs h0 m n lc h) :
    ∃ h' n' lc' x4', mj_R mg (Dp + 1) mq_156 (17, [(3, vI (nI m)), (4, vI x4), (0, vR 10 0), (1, vI x1), (2, vR 69 k2)], [], h) = mj_R mg (Dp + 1) mq_156 (17, [(3, vI (nI (m + 1))), (4, vI x4'), (0, vR 10 0), (1, vI x1), (2, vR 69 k2)], [], h') ∧ JT sy pz pa bs h0 (m + 1) n' lc' h' := sorry
end

