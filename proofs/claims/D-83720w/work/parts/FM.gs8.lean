/-! the component's coder: addresses, assignments, calls -/
def wfD (sy : List Sym) (vis : List Nat) (a : Tm) : Prop := (∃ s, a = .arg s ∧ s ∈ vis ∧ kepS (srO sy s) = true) ∨ ∃ s e, a = .elem (.arg s) e ∧ s ∈ vis ∧ kepS (srO sy s) = true ∧ srO sy s ≠ 1 ∧ wfX sy vis e
theorem kep_n {k : Nat} (h : kepS k = true) : k ≠ 11 ∧ k ≠ 0 := sorry
theorem kep_V {k : Nat} (h : sVar k = true) : kepS k = true := sorry
theorem kep_A {k : Nat} (h : sArr k = true) : kepS k = true ∧ k ≠ 1 := sorry
theorem kep_C {k : Nat} (h : sChn k = true) : kepS k = true := sorry
section
variable {sy : List Sym} {vis : List Nat} {wd r : Nat → Int32} {u lo hi : Nat}
theorem wfV_D {a : Tm} (w : wfV sy vis a) : wfD sy vis a := sorry
theorem wfC_D {a : Tm} (w : wfC sy vis a) : wfD sy vis a := sorry
theorem wfA_D {q : Nat} {qs : List Nat} {a as : Tm} (w : wfA sy vis (q :: qs) (.elem a as)) (h3 : srO sy q ≠ 3) : wfD sy vis a := sorry
theorem k_adr (hh : hi ≤ 3100) {a : Tm} (wf : wfD sy vis a) {h : mj_H} {n lc f D k : Nat} {ve : List (Nat × Nat)} (b : rE u lo hi h a k) (A : eS sy vis wd r h) (hK : CK n lc f h) (hl : lc + lE a ≤ 12000) (hD : 60 ≤ D) :
    ∃ h' lc', mj_R mg D mq_136 (0, [(0, vR 10 0), (1, vI (nI k))], [], h) = some (.inl (none, h')) ∧ TyC s0 n lc ve (kA sy wd r a f n) lc' f h h' ∧ lc' ≤ lc + lE a := sorry
/-- assignments -/
theorem k_asg (hh : hi ≤ 3100) {v e : Tm} (wv : wfV sy vis v) (we : wfX sy vis e) {h : mj_H} {n lc f D k a b : Nat} {ve : List (Nat × Nat)} (x : rN u lo hi h k 2) (x1 : h.1 23 0 k = nI a) (x2 : h.1 24 0 k = nI b) (bv : rE u lo hi h v a) (be : rE u lo hi h e b) (A : eS sy vis wd r h) (hK : CK n lc f h) (hl : lc + lE e + lE v ≤ 12000) (hD : 70 ≤ D) :
    ∃ h' lc', mj_R mg D mq_144 (0, [(0, vR 10 0), (1, vI (nI k))], [], h) = some (.inl (none, h')) ∧ TyC s0 n lc ve (kE sy wd r e f n ++ kAs sy wd r v f (n + nE sy e)) lc' f h h' ∧ lc' ≤ lc + lE e + lE v := sorry
/-- the PROCs -/
def kPr (sy : List Sym) (pa : List (List Nat)) (pz : List (Nat × Nat)) (h : mj_H) : Prop := pa.length ≤ 24 ∧ ∀ p, p < pa.length → (pa.getD p []).length ≤ 6 ∧ h.1 41 0 p = nI (pz.getD p (0, 0)).1 ∧ (∃ l, l < 12000 ∧ h.1 65 0 p = nI l) ∧ ∀ k q, (pa.getD p [])[k]? = some q → h.1 40 0 (6 * p + k) = nI q ∧ inSy sy q
theorem kPr.mv {pa : List (List Nat)} {pz : List (Nat × Nat)} {s : Nat × Nat × Nat} {n l : Nat} {h h' : mj_H} (a : kPr sy pa pz h) (f : kF s n l h h') : kPr sy pa pz h' := sorry
def lA : Tm → Nat
  | .elem a as => lE a + lA as
  | _ => 0
/-- arguments, and the call -/
theorem k_args (hh : hi ≤ 3100) {pa : List (List Nat)} {pz : List (Nat × Nat)} {p f D kk : Nat} {ve : List (Nat × Nat)} (hp : p < pa.length) (hD : 70 ≤ D) : ∀ (qs : List Nat) (as : Tm) (k : Nat) (x4 : Int32) (h : mj_H) (n lc : Nat), wfA sy vis qs as → rAs u lo hi h as x4 → (∀ i q, qs[i]? = some q → (pa.getD p [])[k + i]? = some q) → k + qs.length ≤ 6 → kPr sy pa pz h → eS sy vis wd r h → CK n lc f h → lc + lA as ≤ 12000 →
    ∃ h' lc', mj_R mg D mq_145 (23, [(4, vI x4), (3, vI (nI k)), (2, vI (nI p)), (0, vR 10 0), (1, vI (nI kk))], [], h) = some (.inl (none, h')) ∧ TyC s0 n lc ve (kC sy wd r (pz.getD p (0, 0)).1 k qs as f n ++ [iC p]) lc' f h h' ∧ lc' ≤ lc + lA as := sorry
/-- calls -/
theorem k_call (hh : hi ≤ 3100) {pa : List (List Nat)} {pz : List (Nat × Nat)} {p n lc f D k : Nat} {as : Tm} {h : mj_H} {ve : List (Nat × Nat)} (hp : p < pa.length) (hD : 70 ≤ D) (wa : wfA sy vis (pa.getD p []) as) (x : rN u lo hi h k 5) (x1 : h.1 26 0 k = nI p) (x2 : rAs u lo hi h as (h.1 23 0 k)) (hP : kPr sy pa pz h) (A : eS sy vis wd r h) (hK : CK n lc f h) (hl : lc + lA as ≤ 12000) :
    ∃ h' lc', mj_R mg D mq_145 (0, [(0, vR 10 0), (1, vI (nI k))], [], h) = some (.inl (none, h')) ∧ TyC s0 n lc ve (kC sy wd r (pz.getD p (0, 0)).1 0 (pa.getD p []) as f n ++ [iC p]) lc' f h h' ∧ lc' ≤ lc + lA as := sorry
end

