/-! the component's coder: DECLARE -/
theorem TyC.gv {s : Nat × Nat × Nat} {n n1 lc l f f' : Nat} {ve : List (Nat × Nat)} {C : List It} {h h1 h2 : mj_H} (a : TyC s n lc ve C l f h h1) (hn : n1 = n + C.length) (b : kF s n1 l h1 h2) (K : CK n1 l f' h2) : TyC s n lc ve C l f' h h2 := sorry
section
variable {sy : List Sym} {pa : List (List Nat)} {pz : List (Nat × Nat)} {vis : List Nat} {rh : Nat → Nat × Nat} {D : Nat → Int32} {lv : Nat} {r : Nat → Int32} {u lo hi : Nat}
theorem c_max1 {d : Nat} {h : mj_H} {sy : List Sym} {s : Nat} (hz : szO sy s < 300) : mj_R mg d mq_366 (0, [(0, vI 1), (1, vI (nI (szO sy s)))], [], h) = some (.inl (some (vI (nI (wsz sy s))), h)) := sorry
theorem row_143 {D : Nat} {h : mj_H} {x1 x2 x3 x4 x5 : Int32} {k6 : Nat} : mj_R mg (D + 1) mq_143 (7, [(3, vI x3), (2, vI x2), (0, vR 10 0), (1, vI x1)], [], h) = mj_R mg (D + 1) mq_143 (7, [(3, vI x3), (6, vR 18 k6), (5, vI x5), (4, vI x4), (2, vI x2), (0, vR 10 0), (1, vI x1)], [], h) := sorry
def dc1 (sy : List Sym) (s lv q : Nat) (D : Nat → Int32) (k : Nat) : List It := [iV 4 (if srO sy (s + k) = 7 ∨ srO sy (s + k) = 9 then -1 else 0), iV 4 (nI (wsz sy (s + k))), iV 1 (D lv + nI (q + dsz sy s k)), iO 14]
theorem dcI_s (s lv q : Nat) (D : Nat → Int32) (k : Nat) : dcI sy s lv q D (k + 1) = dcI sy s lv q D k ++ dc1 sy s lv q D k := sorry
theorem k_decl (hh : hi ≤ 3100) {k s c q n lc Dp slo shi N B : Nat} {ve : List (Nat × Nat)} {h : mj_H} {P : List It} (hd : ∀ j, j < c → dcl sy (s + j)) (hs1 : slo ≤ s) (hs2 : s + c ≤ shi) (hs3 : s + c ≤ sy.length) (x : rN u lo hi h k 15) (x0 : h.1 26 0 k = nI s) (x1 : h.1 24 0 k = nI c) (S : qSt sy pa pz vis rh D lv r h) (hD : 70 ≤ Dp)
    (ih : ∀ h1, kF (slo, shi, lv) n lc h h1 → (∀ j, j < c → h1.1 35 0 (s + j) = nI lv ∧ h1.1 36 0 (s + j) = nI (q + dsz sy s j)) → CK (n + 4 * c) lc (q + dsz sy s c) h1 → ∃ h' lc', mj_R mg Dp mq_142 (0, [(0, vR 10 0), (1, vI (h.1 23 0 k))], [], h1) = some (.inl (none, h')) ∧ TyC (slo, shi, lv) (n + 4 * c) lc ve P lc' (q + dsz sy s c) h1 h' ∧ lbQ (n + 4 * c) lc lc' N B) :
    ∀ (m i : Nat) (x4 x5 : Int32) (k6 : Nat) (h1 : mj_H), i + m = c → TyC (slo, shi, lv) n lc ve (dcI sy s lv q D i) lc (q + dsz sy s i) h h1 → (∀ j, j < i → h1.1 35 0 (s + j) = nI lv ∧ h1.1 36 0 (s + j) = nI (q + dsz sy s j)) →
      ∃ h' lc', mj_R mg (Dp + 1) mq_143 (7, [(3, vI (nI i)), (6, vR 18 k6), (5, vI x5), (4, vI x4), (2, vI (nI q)), (0, vR 10 0), (1, vI (nI k))], [], h1) = some (.inl (none, h')) ∧ TyC (slo, shi, lv) n lc ve (dcI sy s lv q D c ++ P) lc' q h h' ∧ lbQ (n + 4 * c) lc lc' N B := sorry
end

