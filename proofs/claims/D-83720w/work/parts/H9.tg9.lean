/-! the twin's coder: PAR, its branches in a row -/
/-- labels of branches: where they begin, and what is behind LDPI -/
def stW (sy : List Sym) (pa : List (List Nat)) : Tm → Nat → Nat → Nat → List (Nat × Nat)
  | .elem p ps, l, st, a => (l, st) :: (l + 1, a + 2) :: stW sy pa ps (l + 2) (st + nQ sy pa p 0 + 2) (a + 4)
  | _, _, _, _ => []
def stO (sy : List Sym) (pa : List (List Nat)) : Tm → Nat → Nat → List (Nat × Nat)
  | .elem p ps, l, st => (l, st) :: stO sy pa ps (l + 2) (st + nQ sy pa p 0 + 2)
  | _, _, _ => []
def bRo (h : mj_H) : Tm → Nat → Nat → Prop
  | .elem _ ps, l, a => h.1 122 0 (l + 1) = nI (a + 2) ∧ bRo h ps (l + 2) (a + 4)
  | _, _, _ => True
def pRo (sy : List Sym) (pz : List (Nat × Nat)) (F : Int32) (h : mj_H) : Tm → Nat → Nat → Nat → Prop
  | .elem p ps, i, l, b => h.1 128 0 i = nI l ∧ h.1 129 0 i = F - nI (b + (1 + (mz sy pz p 0).1)) ∧ pRo sy pz F h ps (i + 1) (l + 2) (b + blk sy pz p)
  | _, _, _, _ => True
theorem bRo.mv {h h' : mj_H} : ∀ (ps : Tm) (l a : Nat), bRo h ps l a → (∀ j, l ≤ j → j < l + 2 * tmN ps → h'.1 122 0 j = h.1 122 0 j) → bRo h' ps l a := sorry
theorem pRo.mv {sy : List Sym} {pz : List (Nat × Nat)} {F : Int32} {h h' : mj_H} : ∀ (ps : Tm) (i l b : Nat), pRo sy pz F h ps i l b → (∀ j, i ≤ j → j < i + tmN ps → h'.1 128 0 j = h.1 128 0 j ∧ h'.1 129 0 j = h.1 129 0 j) → pRo sy pz F h' ps i l b := sorry
theorem stW_in {sy : List Sym} {pa : List (List Nat)} {h : mj_H} : ∀ (ps : Tm) (l st a : Nat), bRo h ps l a → (∀ z ∈ stO sy pa ps l st, h.1 122 0 z.1 = nI z.2) → ∀ z ∈ stW sy pa ps l st a, (l ≤ z.1 ∧ z.1 < l + 2 * tmN ps) ∧ h.1 122 0 z.1 = nI z.2 := sorry
theorem tQF_1 {sy : List Sym} {pz : List (Nat × Nat)} {pa : List (List Nat)} {h : mj_H} {ps : Tm} {f c lo hi q lv : Nat} {x : Int32} (r : tQF sy pz pa h ps 4 f c x lo hi q lv) : (ps = .null ∧ x = 0) ∨ ∃ p qs, ps = .elem p qs := sorry
section
variable {sy : List Sym} {pa : List (List Nat)} {pz : List (Nat × Nat)} {lv u : Nat} {W : Nat → Nat} {ve : List (Nat × Nat)}
theorem g_hB {Dp lo0 hi kk many q w0 : Nat} {x3 x5 : Int32} {pri : Bool} (hh : hi ≤ 7000) (hlv : lv < 40) (hm : many ≤ 8) : ∀ (ps : Tm) (k n l st b lo : Nat) (x8 : Int32) (h : mj_H), (∃ l vis slo shi, wfQ sy pa ps 1 l vis slo shi) → tM u lo0 hi h kk w0 → (h.1 89 0 kk = 1 ↔ pri = true) → tQF sy pz pa h ps 4 0 0 x8 lo hi q (lv + 1) → (mz sy pz ps 4).2 < 1000000 → h.1 15 0 81 = nI lv → (∀ y ∈ stW sy pa ps (l + 1) st n, y ∈ ve) → (∀ j, l < j → j ≤ l + 2 * tmN ps → W j = 1) → KG n l h → l + 2 * tmN ps < 19996 → k + tmN ps = many →
    ∃ h' b', mj_R mg (Dp + 3) mq_311 (118, [(9, vI (nI k)), (8, vI x8), (7, vI (nI b)), (6, vI (nI (8 * lv))), (5, vI x5), (4, vI (nI many)), (3, vI x3), (2, vI 0), (0, vR 15 0), (1, vI (nI kk))], [], h) = mj_R mg (Dp + 3) mq_311 (118, [(9, vI (nI many)), (8, vI 0), (7, vI b'), (6, vI (nI (8 * lv))), (5, vI x5), (4, vI (nI many)), (3, vI x3), (2, vI 0), (0, vR 15 0), (1, vI (nI kk))], [], h') ∧
      TyM (0, 0, lv, 40) n W l ve (hB sy pz pa (decide (k = 0) && pri) ps n st b) (l + 2 * tmN ps) h h' ∧ pRo sy pz (h.1 123 0 lv) h' ps (8 * lv + k) (l + 1) b ∧ (n + 4 * tmN ps ≤ 7000 → bRo h' ps (l + 1) n) ∧ (∀ j, j ≤ l → h'.1 122 0 j = h.1 122 0 j) ∧ ∀ j, j < 8 * lv + k → h'.1 128 0 j = h.1 128 0 j ∧ h'.1 129 0 j = h.1 129 0 j := sorry
end

