/-! the twin: bytes -/
theorem n_m1 {k : Nat} (h : k + 1 < 2 ^ 31) : nI (k + 1) - 1 = nI k := sorry
section
variable {D p : Nat} {x1 x2 : Int32}
/-- the bytes ahead of the last -/
theorem t_byt {u n at0 : Nat} {ng : Bool} {v : Int32} (hu : u = uV v) (hu2 : u < 2 ^ 31) (hng : ng = true ↔ v < 0) (hn : 1 ≤ n ∧ n ≤ 8) (ha : at0 + n ≤ 36000) : ∀ (k j : Nat) (h : mj_H), j + k = n → 1 ≤ j → ∃ h', mj_R mg (D + 1) mq_317 (106, [(8, vI (nI k - 1)), (7, vI (nI (u / 16 ^ j))), (6, vI (bI ng)), (5, vI (nI (n - 1))), (4, vI (nI at0)), (3, vI v), (0, vR 15 0), (1, vI x1), (2, vI x2)], [], h) = some (.inl (none, h')) ∧ (∀ t, j ≤ t → t < n → h'.1 125 0 (at0 + (n - 1 - t)) = bE p v t) ∧ (∀ g a b, ¬ (g = 125 ∧ a = 0 ∧ at0 ≤ b ∧ b + j < at0 + n) → h'.1 g a b = h.1 g a b) ∧ h'.2 = h.2 := sorry
end
section
variable {X : List Rv} {L : Nat → Nat} {D p : Nat}
theorem uV_31 (v : Int32) : uV v < 2 ^ 31 := sorry
/-- write -/
theorem t_write {i : Nat} {x : Rv} {h : mj_H} (hp : p < 6) (hN : X.length ≤ 7000) (hB : plS L X.length ≤ 6000) (hE : ∀ i x, X[i]? = some x → L i = lnV (vlS L x)) (hx : X[i]? = some x) (T : TV X h) (hL : LV X.length L h) (hP : PV X.length L h) :
    ∃ h', mj_R mg (D + 1) mq_317 (0, [(0, vR 15 0), (1, vI (nI p)), (2, vI (nI i))], [], h) = some (.inl (none, h')) ∧ (∀ t, t < L i → h'.1 125 0 (6000 * p + plS L i + t) = bE x.1 (vlS L x) (L i - 1 - t)) ∧ (∀ g a b, ¬ (g = 125 ∧ a = 0 ∧ 6000 * p + plS L i ≤ b ∧ b < 6000 * p + plS L i + L i) → h'.1 g a b = h.1 g a b) ∧ h'.2 = h.2 := sorry
/-- all bytes -/
theorem t_bytes {y2 : Int32} (hp : p < 6) (hN : X.length ≤ 7000) (hB : plS L X.length ≤ 6000) (hE : ∀ i x, X[i]? = some x → L i = lnV (vlS L x)) : ∀ (m i : Nat) (h : mj_H), i + m = X.length → h.1 15 0 70 = nI X.length → TV X h → LV X.length L h → PV X.length L h →
    ∃ h', mj_R mg (D + 2) mq_318 (219, [(3, vI (nI i)), (2, vI y2), (0, vR 15 0), (1, vI (nI p))], [], h) = some (.inl (some (vI 1), h')) ∧ (∀ j x, i ≤ j → X[j]? = some x → ∀ t, t < L j → h'.1 125 0 (6000 * p + plS L j + t) = bE x.1 (vlS L x) (L j - 1 - t)) ∧ (∀ g a b, ¬ (g = 125 ∧ a = 0 ∧ 6000 * p + plS L i ≤ b ∧ b < 6000 * p + 6000) → h'.1 g a b = h.1 g a b) ∧ h'.2 = h.2 := sorry
end

