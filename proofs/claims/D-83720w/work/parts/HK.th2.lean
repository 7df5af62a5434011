/-! the twin: PROCs are typed -/
/-- what typing may change -/
def gG (h h' : mj_H) : Prop := (∀ g i j, ¬ ((116 ≤ g ∧ g ≤ 119) ∨ g = 122 ∨ (g = 15 ∧ (j = 70 ∨ j = 77 ∨ j = 79 ∨ j = 81 ∨ j = 89)) ∨ g = 85 ∨ g = 123 ∨ g = 124 ∨ g = 128 ∨ g = 129 ∨ g = 130) → h'.1 g i j = h.1 g i j) ∧ h'.2 = h.2
theorem gG.rf (h : mj_H) : gG h h := sorry
theorem gG.tr {h h1 h2 : mj_H} (a : gG h h1) (b : gG h1 h2) : gG h h2 := sorry
theorem fY.gg {s : Nat × Nat × Nat × Nat} {n l : Nat} {h h' : mj_H} (f : fY s n l h h') : gG h h' := sorry
theorem gG.sy {sy : List Sym} {h h' : mj_H} (f : gG h h') (S : gSy sy h) : gSy sy h' := sorry
theorem itV.mvO {m k : Nat} {vl vl' : Nat → Nat → Prop} {h h' : mj_H} {it : It} (a : itV vl h k it) (ok : it.2.2.1 = 3 → it.2.2.2.1 < m) (f1 : ∀ g, 116 ≤ g → g ≤ 119 → h'.1 g 0 k = h.1 g 0 k) (f3 : ∀ p, p < m → h'.1 124 0 p = h.1 124 0 p) (f2 : ∀ l t, vl l t → vl' l t) : itV vl' h' k it := sorry
section
variable {sy : List Sym} {pz : List (Nat × Nat)} {pa : List (List Nat)} {bs : List Tm} {nl : Nat} {sg : Nat → Nat × Nat} {h0 : mj_H}
def tTr (sy : List Sym) (pz : List (Nat × Nat)) (pa : List (List Nat)) (bs : List Tm) (nl : Nat) (sg : Nat → Nat × Nat) (h0 : mj_H) : Prop := gSy sy h0 ∧ h0.1 15 0 46 = nI bs.length ∧ bs.length = pa.length ∧ pa.length ≤ 24 ∧
  (∀ k B, bs[k]? = some B → (∃ x lo hi, h0.1 103 0 k = nI x ∧ (1 ≤ lo ∧ hi ≤ 7000) ∧ tQF sy pz (pa.take k) h0 B 0 0 0 (nI x) lo hi (1 + (pa.getD k []).length) 0) ∧ (mz sy pz B 0).2 < 1000000 ∧ bdy sy pa nl k B (sg k) ∧ (sg k).2 ≤ sy.length) ∧
  ∀ k, k < pa.length → (pa.getD k []).length ≤ 6 ∧ h0.1 104 0 k = nI (pz.getD k (0, 0)).1 ∧ ∀ i q, (pa.getD k [])[i]? = some q → q < sy.length ∧ srO sy q ≤ 11 ∧ h0.1 79 0 (q + 2) = nI (kdT (srO sy q)) ∧ h0.1 81 0 (q + 2) = nI (1 + i) ∧ h0.1 82 0 (q + 2) = 0
/-- labels of bodies -/
def tSu (bs : List Tm) : Nat → Nat
  | 0 => 0
  | m + 1 => tSu bs m + tWl (bs.getD m .null) 0
theorem tSu_le {bs : List Tm} {m : Nat} : ∀ k, m ≤ k → tSu bs m ≤ tSu bs k := sorry
/-- between PROCs -/
def JG (sy : List Sym) (pz : List (Nat × Nat)) (pa : List (List Nat)) (bs : List Tm) (h0 : mj_H) (m n lc : Nat) (h : mj_H) : Prop := gG h0 h ∧ KG n lc h ∧ n = (kBs sy pz pa bs m).length ∧ (∀ p, p < bs.length → h.1 124 0 p = nI (p + 1)) ∧ (n ≤ 7000 → ∀ p, p < m → h.1 122 0 (p + 1) = nI (kBs sy pz pa bs p).length) ∧ (n ≤ 7000 → cdG bs.length lc [] h 0 (kBs sy pz pa bs m)) ∧ (n ≤ 7000 → lc ≤ bs.length + n) ∧ lc + (7000 - n) ≤ bs.length + 7000 + tSu bs m ∧ bs.length ≤ lc ∧ h.1 15 0 81 = nI 0 ∧ h.1 15 0 89 = nI 0
theorem JG.pr {m : Nat} {h : mj_H} (T : tTr sy pz pa bs nl sg h0) (hm : m ≤ bs.length) (g : gG h0 h) (hl : ∀ p, p < bs.length → h.1 124 0 p = nI (p + 1)) : gPr sy (pa.take m) pz h := sorry
theorem t_g1 {m n lc Dp : Nat} {x1 : Int32} {h : mj_H} (T : tTr sy pz pa bs nl sg h0) (hm : m < bs.length) (hD : 170 ≤ Dp) (hS : tSu bs bs.length ≤ 12900) (J : JG sy pz pa bs h0 m n lc h) :
    ∃ h' n' lc', mj_R mg (Dp + 1) mq_318 (60, [(2, vI (nI m)), (0, vR 15 0), (1, vI x1)], [], h) = mj_R mg (Dp + 1) mq_318 (60, [(2, vI (nI (m + 1))), (0, vR 15 0), (1, vI x1)], [], h') ∧ JG sy pz pa bs h0 (m + 1) n' lc' h' := sorry
theorem t_gs {Dp : Nat} {x1 : Int32} (T : tTr sy pz pa bs nl sg h0) (hD : 170 ≤ Dp) (hS : tSu bs bs.length ≤ 12900) : ∀ (j m n lc : Nat) (h : mj_H), m + j = bs.length → JG sy pz pa bs h0 m n lc h →
    ∃ h' n' lc', mj_R mg (Dp + 1) mq_318 (60, [(2, vI (nI m)), (0, vR 15 0), (1, vI x1)], [], h) = mj_R mg (Dp + 1) mq_318 (60, [(2, vI (nI bs.length)), (0, vR 15 0), (1, vI x1)], [], h') ∧ JG sy pz pa bs h0 bs.length n' lc' h' := sorry
/-- the labels of PROCs -/
theorem t_labs {D n : Nat} {x1 : Int32} : ∀ (j m : Nat) (h : mj_H), m + j = n → n ≤ 24 → h.1 15 0 46 = nI n → KG 0 m h → (∀ p, p < m → h.1 124 0 p = nI (p + 1)) → ∃ h', mj_R mg (D + 1) mq_318 (34, [(2, vI (nI m)), (0, vR 15 0), (1, vI x1)], [], h) = mj_R mg (D + 1) mq_318 (60, [(2, vI (nI 0)), (0, vR 15 0), (1, vI x1)], [], h') ∧ KG 0 n h' ∧ (∀ p, p < n → h'.1 124 0 p = nI (p + 1)) ∧ (∀ g i j, ¬ (g = 124 ∨ (g = 15 ∧ j = 77)) → h'.1 g i j = h.1 g i j) ∧ h'.2 = h.2 := sorry
end

