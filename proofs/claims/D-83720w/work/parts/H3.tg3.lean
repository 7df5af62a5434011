/-! the twin's coder: all expressions -/
section
variable {sy : List Sym} {vis : List Nat} {wd r : Nat → Int32} {now : Nat} {u : Nat}
theorem g_exp : ∀ (e : Tm), wfE sy vis e → ∀ (k : Nat) (h : mj_H) (n lc f D lo hi : Nat) (ve : List (Nat × Nat)), tEF u h e lo hi k f → hi ≤ 7000 → eG sy vis wd r now h → KG n lc h → lc + lE e < 19990 → 2 * eH e + 8 ≤ D →
    ∃ h' lc', mj_R mg D mq_303 (0, [(0, vR 15 0), (1, vI (nI k))], [], h) = some (.inl (none, h')) ∧ TyG sT0 n lc ve (kE sy wd r e f n) lc' h h' ∧ lc' ≤ lc + lE e := sorry
/-- what has a place -/
def wfPl (sy : List Sym) (vis : List Nat) (a : Tm) : Prop := (∃ s, a = .arg s ∧ s ∈ vis ∧ kepS (srO sy s) = true) ∨ ∃ s e, a = .elem (.arg s) e ∧ s ∈ vis ∧ (sArr (srO sy s) = true ∨ srO sy s = 9) ∧ wfX sy vis e
theorem wfV_P {a : Tm} (w : wfV sy vis a) : wfPl sy vis a := sorry
theorem wfC_P {a : Tm} (w : wfC sy vis a) : wfPl sy vis a := sorry
/-- places -/
theorem g_adr {v : Tm} (w : wfPl sy vis v) {k : Nat} {h : mj_H} {n lc f D lo hi : Nat} {ve : List (Nat × Nat)} (b : tEF u h v lo hi k f) (hh : hi ≤ 7000) (a : eG sy vis wd r now h) (hK : KG n lc h) (hl : lc + lE v < 19990) (hD : 70 ≤ D) :
    ∃ h' lc', mj_R mg D mq_302 (0, [(0, vR 15 0), (1, vI (nI k))], [], h) = some (.inl (none, h')) ∧ TyG sT0 n lc ve (kA sy wd r v f n) lc' h h' ∧ lc' ≤ lc + lE v := sorry
end

