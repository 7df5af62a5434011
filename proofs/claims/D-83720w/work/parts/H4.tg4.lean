/-! the twin's coder: statements -/
section
variable {sy : List Sym} {vis : List Nat} {wd r : Nat → Int32} {now : Nat} {u : Nat}
theorem bl_ve {s : Nat × Nat × Nat × Nat} {n lc l1 : Nat} {ve : List (Nat × Nat)} {C : List It} {h h' : mj_H} (a : TyG sT0 n lc ve C l1 h h') (h3 : s.2.2.1 ≤ 40) (h4 : s.2.2.2 ≤ 40) : TyG s n lc ve C l1 h h' := sorry
theorem fY.s {s : Nat × Nat × Nat × Nat} {n l : Nat} {h h' : mj_H} (a : fY sT0 n l h h') (h3 : s.2.2.1 ≤ 40) (h4 : s.2.2.2 ≤ 40) : fY s n l h h' := sorry
/-- stores -/
theorem g_store {v : Tm} (w : wfV sy vis v) {k : Nat} {h : mj_H} {n lc f D lo hi : Nat} {ve : List (Nat × Nat)} (b : tEF u h v lo hi k f) (hh : hi ≤ 7000) (a : eG sy vis wd r now h) (hK : KG n lc h) (hl : lc + lE v < 19990) (hD : 80 ≤ D) :
    ∃ h' lc', mj_R mg D mq_307 (0, [(0, vR 15 0), (1, vI (nI k))], [], h) = some (.inl (none, h')) ∧ TyG sT0 n lc ve (kAs sy wd r v f n) lc' h h' ∧ lc' ≤ lc + lE v := sorry
/-- the PROCs -/
def gPr (sy : List Sym) (pa : List (List Nat)) (pz : List (Nat × Nat)) (h : mj_H) : Prop := pa.length ≤ 24 ∧ ∀ p, p < pa.length → (pa.getD p []).length ≤ 6 ∧ h.1 104 0 p = nI (pz.getD p (0, 0)).1 ∧ (∃ l, (1 ≤ l ∧ l < 20000) ∧ h.1 124 0 p = nI l) ∧ ∀ k q, (pa.getD p [])[k]? = some q → q < sy.length ∧ srO sy q ≤ 11 ∧ h.1 79 0 (q + 2) = nI (kdT (srO sy q)) ∧ h.1 81 0 (q + 2) = nI (1 + k)
theorem gPr.mv {pa : List (List Nat)} {pz : List (Nat × Nat)} {s : Nat × Nat × Nat × Nat} {n l : Nat} {h h' : mj_H} (a : gPr sy pa pz h) (f : fY s n l h h') : gPr sy pa pz h' := sorry
theorem wfA_P {q : Nat} {qs : List Nat} {a as : Tm} (w : wfA sy vis (q :: qs) (.elem a as)) (h3 : srO sy q ≠ 3) : wfPl sy vis a := sorry
theorem nI_0le {k : Nat} (h1 : 1 ≤ k) (h2 : k < 2 ^ 31) : ¬ nI k ≤ 0 := sorry
theorem g_args {pa : List (List Nat)} {pz : List (Nat × Nat)} {p f D : Nat} {x1 : Int32} {ve : List (Nat × Nat)} (hsy : sy.length ≤ 200) (hp : p < pa.length) (hD : 80 ≤ D) : ∀ (qs : List Nat) (as : Tm) (k : Nat) (x3 : Int32) (h : mj_H) (n lc lo hi : Nat), wfA sy vis qs as → tAF u h qs as x3 lo hi f → 1 ≤ lo → hi ≤ 7000 → (∀ i q, qs[i]? = some q → (pa.getD p [])[k + i]? = some q) → gPr sy pa pz h → eG sy vis wd r now h → KG n lc h → lc + lA as < 19990 →
    ∃ h' lc', mj_R mg D mq_308 (14, [(3, vI x3), (2, vI (nI p)), (0, vR 15 0), (1, vI x1)], [], h) = some (.inl (none, h')) ∧ TyG sT0 n lc ve (kC sy wd r (pz.getD p (0, 0)).1 k qs as f n ++ [iC p]) lc' h h' ∧ lc' ≤ lc + lA as := sorry
/-- declared names are filled -/
def dcW (sy : List Sym) (wd : Nat → Int32) (f : Nat) (c : Nat) : List It := catN (fun k => [iV 4 (if srO sy (f + k) = 7 ∨ srO sy (f + k) = 9 then -1 else 0), iV 4 (nI (wsz sy (f + k))), iV 1 (wd (f + k)), iO 14]) c
theorem dcW_len (wd : Nat → Int32) (f c : Nat) : (dcW sy wd f c).length = 4 * c := sorry
theorem g_decls {D k f c n lc lo hi w : Nat} {ve : List (Nat × Nat)} {h : mj_H} (hh : hi ≤ 7000) (b : tM u lo hi h k w) (b1 : h.1 95 0 k = nI (f + 2)) (b2 : h.1 96 0 k = nI c) (hf : f + c ≤ sy.length) (A : eG sy vis wd r now h) (hd : ∀ i, i < c → f + i ∈ vis ∧ dcl sy (f + i)) : ∀ (m i : Nat) (h1 : mj_H), i + m = c → TyG sT0 n lc ve (dcW sy wd f i) lc h h1 →
    ∃ h', mj_R mg (D + 2) mq_306 (7, [(2, vI (nI (f + 2 + i))), (0, vR 15 0), (1, vI (nI k))], [], h1) = mj_R mg (D + 2) mq_306 (7, [(2, vI (nI (f + 2 + c))), (0, vR 15 0), (1, vI (nI k))], [], h') ∧ TyG sT0 n lc ve (dcW sy wd f c) lc h h' := sorry
end

