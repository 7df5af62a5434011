/-! the component: places, ways, lengths -/
section
variable {X : List Rv} {L : Nat → Nat} {N : Nat}
/-- the typed instructions, and their labels -/
def TC (X : List Rv) (h : mj_H) : Prop := ∀ i x, X[i]? = some x → h.1 58 0 i = nI x.1 ∧ (x.2.2.1 = false → h.1 59 0 i = x.2.1 ∧ h.1 60 0 i = -1) ∧ (x.2.2.1 = true → ∃ l, h.1 60 0 i = nI l ∧ l < 12000 ∧ h.1 64 0 l = nI x.2.2.2.1 ∧ x.2.2.2.1 ≤ X.length ∧ x.2.2.2.2 ≤ X.length ∧ ((h.1 61 0 i = -1 ∧ x.2.2.2.2 = i + 1) ∨ ∃ l', h.1 61 0 i = nI l' ∧ l' < 12000 ∧ h.1 64 0 l' = nI x.2.2.2.2))
theorem TC.mv {h h' : mj_H} (a : TC X h) (f : ∀ g j, (g = 58 ∨ g = 59 ∨ g = 60 ∨ g = 61 ∨ g = 64) → h'.1 g 0 j = h.1 g 0 j) : TC X h' := sorry
/-- lengths, places -/
def LN (N : Nat) (L : Nat → Nat) (h : mj_H) : Prop := ∀ i, i < N → h.1 62 0 i = nI (L i)
def PN (N : Nat) (L : Nat → Nat) (h : mj_H) : Prop := ∀ k, k ≤ N → h.1 63 0 k = nI (plS L k)
theorem c_find {d : Nat} (hN : N ≤ 6000) : ∀ (m k : Nat) (h : mj_H), k + m = N → h.1 10 0 7 = nI N → LN N L h → (∀ i, i < k → h.1 63 0 i = nI (plS L i)) → ∃ h', mj_R mg d mq_158 (4, [(2, vI (nI k)), (1, vI (nI (plS L k))), (0, vR 10 0)], [], h) = some (.inl (none, h')) ∧ PN N L h' ∧ (∀ g i j, g ≠ 63 → h'.1 g i j = h.1 g i j) ∧ h'.2 = h.2 := sorry
theorem c_find0 {d : Nat} {h : mj_H} (hN : N ≤ 6000) (h7 : h.1 10 0 7 = nI N) (hL : LN N L h) : ∃ h', mj_R mg d mq_158 (0, [(0, vR 10 0)], [], h) = some (.inl (none, h')) ∧ PN N L h' ∧ (∀ g i j, g ≠ 63 → h'.1 g i j = h.1 g i j) ∧ h'.2 = h.2 := sorry
theorem c_way2 {d i : Nat} {x : Rv} {h : mj_H} (hN : X.length ≤ 6000) (T : TC X h) (P : PN X.length L h) (hx : X[i]? = some x) (hw : x.2.2.1 = true) : mj_R mg d mq_159 (0, [(0, vR 10 0), (1, vI (nI i))], [], h) = some (.inl (some (vI (wyS L x)), h)) := sorry
theorem row_157 {D : Nat} {h : mj_H} {x1 x2 x3 : Int32} (hx : ¬ h.1 10 0 7 ≤ x2) : mj_R mg (D + 1) mq_157 (14, [(2, vI x2), (1, vI x1), (0, vR 10 0)], [], h) = mj_R mg (D + 1) mq_157 (14, [(2, vI x2), (1, vI x1), (3, vI x3), (0, vR 10 0)], [], h) := sorry
/-- a pass, from i on -/
theorem c_pass {D : Nat} (hN : X.length ≤ 6000) (hL8 : ∀ i, L i ≤ 8) : ∀ (m i : Nat) (b : Bool) (x3 : Int32) (h : mj_H), i + m = X.length → h.1 10 0 7 = nI X.length → TC X h → PN X.length L h → (∀ j, j < X.length → h.1 62 0 j = nI (if j < i then paS X L j else L j)) → (b = true ↔ ∃ j, j < i ∧ L j < paS X L j) →
    ∃ h' b' y3, mj_R mg (D + 1) mq_157 (14, [(2, vI (nI i)), (1, vI (bI b)), (3, vI x3), (0, vR 10 0)], [], h) = mj_R mg (D + 1) mq_157 (2, [(2, vI (nI X.length)), (1, vI (bI b')), (3, vI y3), (0, vR 10 0)], [], h') ∧ LN X.length (paS X L) h' ∧ (b' = true ↔ ∃ j, j < X.length ∧ L j < paS X L j) ∧ (∀ g i j, g ≠ 62 → h'.1 g i j = h.1 g i j) ∧ h'.2 = h.2 := sorry
/-- one pass, and what follows -/
theorem c_settle_step {D : Nat} (hN : X.length ≤ 6000) (h0 : 0 < X.length) (L : Nat → Nat) (x2 x3 : Int32) (h : mj_H) (hL8 : ∀ i, L i ≤ 8) (h7 : h.1 10 0 7 = nI X.length) (T : TC X h) (hL : LN X.length L h)
    (more : plS L X.length < plS (paS X L) X.length → ∀ (h1 : mj_H) (y2 y3 : Int32), h1.1 10 0 7 = nI X.length → TC X h1 → LN X.length (paS X L) h1 → (∀ g i j, g ≠ 62 → g ≠ 63 → h1.1 g i j = h.1 g i j) → ∃ h' L', mj_R mg (D + 1) mq_157 (2, [(2, vI y2), (1, vI 1), (3, vI y3), (0, vR 10 0)], [], h1) = some (.inl (some (vI (bI (decide (plS L' X.length ≤ 6000)))), h')) ∧ stl X (paS X L) L' ∧ LN X.length L' h' ∧ PN X.length L' h' ∧ (∀ g i j, g ≠ 62 → g ≠ 63 → h'.1 g i j = h1.1 g i j) ∧ h'.2 = h1.2) :
    ∃ h' L', mj_R mg (D + 1) mq_157 (2, [(2, vI x2), (1, vI 1), (3, vI x3), (0, vR 10 0)], [], h) = some (.inl (some (vI (bI (decide (plS L' X.length ≤ 6000)))), h')) ∧ stl X L L' ∧ LN X.length L' h' ∧ PN X.length L' h' ∧ (∀ g i j, g ≠ 62 → g ≠ 63 → h'.1 g i j = h.1 g i j) ∧ h'.2 = h.2 := sorry
/-- settle -/
theorem c_settle {D : Nat} (hN : X.length ≤ 6000) (h0 : 0 < X.length) : ∀ (k : Nat) (L : Nat → Nat) (x2 x3 : Int32) (h : mj_H), 8 * X.length - plS L X.length ≤ k → (∀ i, L i ≤ 8) → h.1 10 0 7 = nI X.length → TC X h → LN X.length L h →
    ∃ h' L', mj_R mg (D + 1) mq_157 (2, [(2, vI x2), (1, vI 1), (3, vI x3), (0, vR 10 0)], [], h) = some (.inl (some (vI (bI (decide (plS L' X.length ≤ 6000)))), h')) ∧ stl X L L' ∧ LN X.length L' h' ∧ PN X.length L' h' ∧ (∀ g i j, g ≠ 62 → g ≠ 63 → h'.1 g i j = h.1 g i j) ∧ h'.2 = h.2 := sorry
end

