/-! the twin: places, ways, lengths -/
theorem t_dgN {d : Nat} {v0 : Int32} {h : mj_H} : ∀ (x n : Nat), x < 2 ^ 31 → mj_R mg d mq_313 (38, [(1, vI (nI n)), (2, vI (nI x)), (0, vI v0)], [], h) = some (.inl (some (vI (nI (n + dgN x - 1))), h)) := sorry
theorem t_len {d : Nat} {v : Int32} {h : mj_H} : mj_R mg d mq_313 (0, [(0, vI v)], [], h) = some (.inl (some (vI (nI (lnV v))), h)) := sorry
section
variable {X : List Rv} {L : Nat → Nat} {N : Nat}
/-- the typed instructions, and their labels -/
def TV (X : List Rv) (h : mj_H) : Prop := ∀ i x, X[i]? = some x → h.1 116 0 i = nI x.1 ∧ (x.2.2.1 = false → h.1 117 0 i = x.2.1 ∧ h.1 118 0 i = 0) ∧ (x.2.2.1 = true → ∃ l, h.1 118 0 i = nI l ∧ (1 ≤ l ∧ l < 20000) ∧ h.1 122 0 l = nI x.2.2.2.1 ∧ x.2.2.2.1 ≤ X.length ∧ x.2.2.2.2 ≤ X.length ∧ ((h.1 119 0 i = 0 ∧ x.2.2.2.2 = i + 1) ∨ ∃ l', h.1 119 0 i = nI l' ∧ (1 ≤ l' ∧ l' < 20000) ∧ h.1 122 0 l' = nI x.2.2.2.2))
theorem TV.mv {h h' : mj_H} (a : TV X h) (f : ∀ g j, (g = 116 ∨ g = 117 ∨ g = 118 ∨ g = 119 ∨ g = 122) → h'.1 g 0 j = h.1 g 0 j) : TV X h' := sorry
def LV (N : Nat) (L : Nat → Nat) (h : mj_H) : Prop := ∀ i, i < N → h.1 120 0 i = nI (L i)
def PV (N : Nat) (L : Nat → Nat) (h : mj_H) : Prop := ∀ k, k ≤ N → h.1 121 0 k = nI (plS L k)
theorem t_plc {d : Nat} (hN : N ≤ 7000) : ∀ (m k : Nat) (h : mj_H), k + m = N → h.1 15 0 70 = nI N → LV N L h → (∀ i, i ≤ k → h.1 121 0 i = nI (plS L i)) → ∃ h', mj_R mg d mq_314 (9, [(1, vI (nI k)), (0, vR 15 0)], [], h) = some (.inl (none, h')) ∧ PV N L h' ∧ (∀ g i j, g ≠ 121 → h'.1 g i j = h.1 g i j) ∧ h'.2 = h.2 := sorry
theorem t_plc0 {d : Nat} {h : mj_H} (hN : N ≤ 7000) (h7 : h.1 15 0 70 = nI N) (hL : LV N L h) : ∃ h', mj_R mg d mq_314 (0, [(0, vR 15 0)], [], h) = some (.inl (none, h')) ∧ PV N L h' ∧ (∀ g i j, g ≠ 121 → h'.1 g i j = h.1 g i j) ∧ h'.2 = h.2 := sorry
theorem n_le0 {l : Nat} (h : 1 ≤ l) (h2 : l < 2 ^ 31) : ¬ nI l ≤ 0 := sorry
theorem t_way2 {d i : Nat} {x : Rv} {h : mj_H} (hN : X.length ≤ 7000) (T : TV X h) (P : PV X.length L h) (hx : X[i]? = some x) (hw : x.2.2.1 = true) : mj_R mg d mq_315 (0, [(0, vR 15 0), (1, vI (nI i))], [], h) = some (.inl (some (vI (wyS L x)), h)) := sorry
/-- a pass, from i on -/
theorem t_pass {D : Nat} {Q : Option mj_V → mj_H → Prop} (hN : X.length ≤ 7000) (hL8 : ∀ i, L i ≤ 8) : ∀ (m i : Nat) (b : Bool) (h : mj_H), i + m = X.length → h.1 15 0 70 = nI X.length → TV X h → PV X.length L h → (∀ j, j < X.length → h.1 120 0 j = nI (if j < i then paS X L j else L j)) → (b = true ↔ ∃ j, j < i ∧ L j < paS X L j) →
    (∀ h' b', LV X.length (paS X L) h' → (b' = true ↔ ∃ j, j < X.length ∧ L j < paS X L j) → (∀ g i j, g ≠ 120 → h'.1 g i j = h.1 g i j) → h'.2 = h.2 → mP (mj_R mg (D + 1) mq_316 (46, [(1, vI (bI b')), (0, vR 15 0)], [], h')) Q) →
    mP (mj_R mg (D + 1) mq_316 (58, [(2, vI (nI i)), (1, vI (bI b)), (0, vR 15 0)], [], h)) Q := sorry
theorem t_settle_step {D : Nat} {Q : Option mj_V → mj_H → Prop} (hN : X.length ≤ 7000) (L : Nat → Nat) (h : mj_H) (hL8 : ∀ i, L i ≤ 8) (h7 : h.1 15 0 70 = nI X.length) (T : TV X h) (hL : LV X.length L h)
    (K : ∀ h', paS X L = L → LV X.length L h' → PV X.length L h' → (∀ g i j, g ≠ 120 → g ≠ 121 → h'.1 g i j = h.1 g i j) → h'.2 = h.2 → Q none h')
    (more : plS L X.length < plS (paS X L) X.length → paS X L ≠ L → ∀ (h1 : mj_H), h1.1 15 0 70 = nI X.length → TV X h1 → LV X.length (paS X L) h1 → (∀ g i j, g ≠ 120 → g ≠ 121 → h1.1 g i j = h.1 g i j) → h1.2 = h.2 → mP (mj_R mg (D + 1) mq_316 (46, [(1, vI 1), (0, vR 15 0)], [], h1)) Q) :
    mP (mj_R mg (D + 1) mq_316 (46, [(1, vI 1), (0, vR 15 0)], [], h)) Q := sorry
/-- what settling leaves -/
def tSe (X : List Rv) (L : Nat → Nat) (h : mj_H) : Option mj_V → mj_H → Prop := fun v h' => v = none ∧ ∃ L', stl X L L' ∧ LV X.length L' h' ∧ PV X.length L' h' ∧ (∀ g i j, g ≠ 120 → g ≠ 121 → h'.1 g i j = h.1 g i j) ∧ h'.2 = h.2
theorem t_settle {D : Nat} (hN : X.length ≤ 7000) : ∀ (k : Nat) (L : Nat → Nat) (h : mj_H), 8 * X.length - plS L X.length ≤ k → (∀ i, L i ≤ 8) → h.1 15 0 70 = nI X.length → TV X h → LV X.length L h → mP (mj_R mg (D + 1) mq_316 (46, [(1, vI 1), (0, vR 15 0)], [], h)) (tSe X L h) := sorry
/-- the first lengths -/
theorem t_first {D : Nat} (hN : X.length ≤ 7000) : ∀ (m i : Nat) (h : mj_H), i + m = X.length → h.1 15 0 70 = nI X.length → TV X h → (∀ j, j < i → h.1 120 0 j = nI (in0 X j)) → ∃ h', mj_R mg (D + 1) mq_316 (2, [(1, vI (nI i)), (0, vR 15 0)], [], h) = mj_R mg (D + 1) mq_316 (46, [(1, vI 1), (0, vR 15 0)], [], h') ∧ LV X.length (in0 X) h' ∧ (∀ g i j, g ≠ 120 → h'.1 g i j = h.1 g i j) ∧ h'.2 = h.2 := sorry
/-- findLengths -/
theorem t_lens {D : Nat} {h : mj_H} (hN : X.length ≤ 7000) (h7 : h.1 15 0 70 = nI X.length) (T : TV X h) : mP (mj_R mg (D + 1) mq_316 (0, [(0, vR 15 0)], [], h)) (tSe X (in0 X) h) := sorry
end

