/-! the twin's coder: expressions -/
def sT0 : Nat × Nat × Nat × Nat := (0, 0, 40, 40)
/-- names, as expressions see them -/
def eG (sy : List Sym) (vis : List Nat) (wd r : Nat → Int32) (now : Nat) (h : mj_H) : Prop := sy.length ≤ 200 ∧ (∀ s ∈ vis, inSy sy s) ∧ h.1 15 0 81 = nI now ∧ now < 40 ∧ ∀ s ∈ vis, h.1 79 0 (tw s) = nI (kdS sy s) ∧ (s < 200 → h.1 80 0 (tw s) = nI (szT (srO sy s) (szO sy s)) ∧ h.1 84 0 (tw s) = nI (nuT (srO sy s) (szO sy s))) ∧ srO sy s ≤ 11 ∧ (srO sy s = 11 → h.1 85 0 (tw s) = r s) ∧ (srO sy s ≠ 11 → srO sy s ≠ 1 → srO sy s ≠ 0 → ∃ l, l < 40 ∧ h.1 82 0 (tw s) = nI l ∧ (h.1 81 0 (tw s) + h.1 123 0 l) - h.1 123 0 now = wd s)
theorem fY.k7 {s : Nat × Nat × Nat × Nat} {n l lo hi : Nat} {h h' : mj_H} (f : fY s n l h h') : tK7 lo hi h h' := sorry
section
variable {sy : List Sym} {vis : List Nat} {wd r : Nat → Int32} {now : Nat} {u : Nat}
theorem eG.mv {n l : Nat} {h h' : mj_H} (a : eG sy vis wd r now h) (f : fY sT0 n l h h') : eG sy vis wd r now h' := sorry
theorem tw_260 {s : Nat} (h : inSy sy s) (hl : sy.length ≤ 200) : tw s < 260 := sorry
theorem g_word {d s : Nat} {h : mj_H} (a : eG sy vis wd r now h) (hs : s ∈ vis) (h1 : srO sy s ≠ 11) (h2 : srO sy s ≠ 1) (h3 : srO sy s ≠ 0) : mj_R mg d mq_301 (0, [(0, vR 15 0), (1, vI (nI (tw s)))], [], h) = some (.inl (some (vI (wd s)), h)) := sorry
theorem tEF_E {h : mj_H} : ∀ (e : Tm) (lo hi k q : Nat), tEF u h e lo hi k q → tE u lo hi h e k := sorry
theorem ndG_at {lo hi k w : Nat} {h : mj_H} (hh : hi ≤ 7000) (a : tM u lo hi h k w) : mj_in (nI k) 7000 ∧ (nI k).toNatClampNeg = k := sorry
theorem s_le {s : Nat} {h : mj_H} (a : eG sy vis wd r now h) (hs : s ∈ vis) : mj_in (nI (tw s)) 260 ∧ (nI (tw s)).toNatClampNeg = tw s := sorry
/-- a name whose kind is not a global's -/
theorem kd_lc {s : Nat} (h : inSy sy s) (h1 : srO sy s ≠ 1) (hl : sy.length ≤ 200) : s < 200 := sorry
theorem g_val {D n lc s k lo hi : Nat} {ve : List (Nat × Nat)} {f : Nat} {h : mj_H} (hh : hi ≤ 7000) (a : eG sy vis wd r now h) (hs : s ∈ vis) (hv : sVal (srO sy s) = true) (hK : KG n lc h) (b : tM u lo hi h k 2) (b2 : h.1 89 0 k = nI (tw s)) : ∃ h', mj_R mg (D + 1) mq_303 (0, [(0, vR 15 0), (1, vI (nI k))], [], h) = some (.inl (none, h')) ∧ TyG sT0 n lc ve (kE sy wd r (.arg s) f n) lc h h' := sorry
/-- the place of a name, alone -/
theorem g_adn {D n lc s k lo hi f : Nat} {ve : List (Nat × Nat)} {h : mj_H} (hh : hi ≤ 7000) (a : eG sy vis wd r now h) (hs : s ∈ vis) (n11 : srO sy s ≠ 11) (n0 : srO sy s ≠ 0) (hK : KG n lc h) (b : tM u lo hi h k 2) (b2 : h.1 89 0 k = nI (tw s)) : ∃ h', mj_R mg (D + 1) mq_302 (0, [(0, vR 15 0), (1, vI (nI k))], [], h) = some (.inl (none, h')) ∧ TyG sT0 n lc ve (kA sy wd r (.arg s) f n) lc h h' := sorry
/-- the place of an element, when its index is typed -/
theorem g_ade {D n lc s k lo hi j : Nat} {ve : List (Nat × Nat)} {C : List It} {l1 : Nat} {h h1 : mj_H} (hh : hi ≤ 7000) (a : eG sy vis wd r now h) (hs : s ∈ vis) (hA : sArr (srO sy s) = true ∨ srO sy s = 9) (b : tM u lo hi h k 3) (b2 : h.1 89 0 k = nI (tw s)) (b3 : h.1 90 0 k = nI j) (e1 : mj_R mg (D + 1) mq_303 (0, [(0, vR 15 0), (1, vI (nI j))], [], h) = some (.inl (none, h1))) (t1 : TyG sT0 n lc ve C l1 h h1) :
    ∃ h', mj_R mg (D + 2) mq_302 (0, [(0, vR 15 0), (1, vI (nI k))], [], h) = some (.inl (none, h')) ∧ TyG sT0 n lc ve (C ++ [iV 4 (nI (szO sy s)), iO 12, iV (if hldS (srO sy s) then 7 else 1) (wd s), iO 11]) l1 h h' := sorry
end

