/-! bytes -/
def uV (v : Int32) : Nat := if v < 0 then (-(v.toInt) - 1).toNat else v.toNatClampNeg
/-- the byte that lies k ahead of the last -/
def bE (f : Nat) (v : Int32) : Nat → Int32
  | 0 => (nI f <<< ((4 : Int32) &&& 31)) ||| (v &&& 15)
  | k + 1 => ((if v < 0 ∧ k = 0 then (6 : Int32) else 2) <<< ((4 : Int32) &&& 31)) ||| (nI (uV v / 16 ^ (k + 1)) &&& 15)
def B8 (x : Int32) : Int32 := (x.toInt8.toInt32).toInt8.toInt32
section
variable {i k1 D : Nat} {Q : Option mj_V → mj_H → Prop}
theorem n_pred {a : Nat} (h : 1 ≤ a) : nI a + (-1) = nI (a - 1) := sorry
/-- what is left of a value, that is not below 0 -/
theorem c_byt {x3 : Int32} : ∀ (u at0 : Nat) (h : mj_H), u < 2 ^ 31 → at0 < 6000 → dgN u ≤ at0 + 1 → (∀ h', (∀ j, 1 ≤ j → j < dgN u → h'.1 69 k1 (at0 - j) = B8 (((2 : Int32) <<< ((4 : Int32) &&& 31)) ||| (nI (u / 16 ^ j) &&& 15))) → (∀ g a b, ¬ (g = 69 ∧ a = k1 ∧ at0 + 1 ≤ b + dgN u ∧ b < at0) → h'.1 g a b = h.1 g a b) → h'.2 = h.2 → mP (mj_R mg (D + 1) mq_160 (2, [(2, vI (nI (i + 1))), (0, vR 10 0), (1, vR 69 k1)], [], h')) Q) →
    mP (mj_R mg (D + 1) mq_160 (73, [(5, vI (nI u)), (4, vI (nI at0)), (3, vI x3), (2, vI (nI i)), (0, vR 10 0), (1, vR 69 k1)], [], h)) Q := sorry
/-- an instruction's bytes -/
theorem c_byi {x3 : Int32} {f : Nat} {v : Int32} {at0 : Nat} {h : mj_H} (ha : at0 < 6000) (hd : lnV v ≤ at0 + 1) (K : ∀ h', (∀ j, 1 ≤ j → j < lnV v → h'.1 69 k1 (at0 - j) = B8 (bE f v j)) → (∀ g a b, ¬ (g = 69 ∧ a = k1 ∧ at0 + 1 ≤ b + lnV v ∧ b < at0) → h'.1 g a b = h.1 g a b) → h'.2 = h.2 → mP (mj_R mg (D + 1) mq_160 (2, [(2, vI (nI (i + 1))), (0, vR 10 0), (1, vR 69 k1)], [], h')) Q) :
    mP (mj_R mg (D + 1) mq_160 (73, [(5, vI v), (4, vI (nI at0)), (3, vI x3), (2, vI (nI i)), (0, vR 10 0), (1, vR 69 k1)], [], h)) Q := sorry
end
section
variable {X : List Rv} {L : Nat → Nat} {k1 D : Nat}
/-- all bytes -/
theorem c_bytes (hN : X.length ≤ 6000) (hB : plS L X.length ≤ 6000) (hE : ∀ i x, X[i]? = some x → L i = lnV (vlS L x)) : ∀ (m i : Nat) (h : mj_H), i + m = X.length → h.1 10 0 7 = nI X.length → TC X h → LN X.length L h → PN X.length L h →
    mP (mj_R mg (D + 1) mq_160 (2, [(2, vI (nI i)), (0, vR 10 0), (1, vR 69 k1)], [], h)) (fun v h' => v = none ∧ (∀ j x, i ≤ j → X[j]? = some x → ∀ t, t < L j → h'.1 69 k1 (plS L j + t) = B8 (bE x.1 (vlS L x) (L j - 1 - t))) ∧ (∀ g a b, ¬ (g = 69 ∧ a = k1 ∧ plS L i ≤ b) → h'.1 g a b = h.1 g a b) ∧ h'.2 = h.2) := sorry
end

