/-! lengths: ways grow until all fit -/
/-- function, value, is it a way, to, from -/
abbrev Rv := Nat × Int32 × Bool × Nat × Nat
def rsI (P : Nat → Nat) (i : Nat) (it : It) : Rv := if it.2.2.1 = 0 then (it.1, it.2.1, false, 0, 0) else if it.2.2.1 = 1 then (it.1, 0, true, it.2.2.2.1, i + 1) else if it.2.2.1 = 2 then (it.1, 0, true, it.2.2.2.1, it.2.2.2.2) else (it.1, 0, true, P it.2.2.2.1, i + 1)
def rsL (P : Nat → Nat) : Nat → List It → List Rv
  | _, [] => []
  | i, x :: C => rsI P i x :: rsL P (i + 1) C
theorem rsL_len {P : Nat → Nat} : ∀ (C : List It) (n : Nat), (rsL P n C).length = C.length := sorry
theorem rsL_at {P : Nat → Nat} : ∀ (C : List It) (n i : Nat), (rsL P n C)[i]? = (C[i]?).map (rsI P (n + i)) := sorry
def plS (L : Nat → Nat) : Nat → Nat
  | 0 => 0
  | k + 1 => plS L k + L k
def wyS (L : Nat → Nat) (x : Rv) : Int32 := nI (plS L x.2.2.2.1) - nI (plS L x.2.2.2.2)
def vlS (L : Nat → Nat) (x : Rv) : Int32 := if x.2.2.1 then wyS L x else x.2.1
def in0 (X : List Rv) (i : Nat) : Nat := match X[i]? with
  | some x => if x.2.2.1 then 1 else lnV x.2.1
  | none => 1
def paS (X : List Rv) (L : Nat → Nat) (i : Nat) : Nat := match X[i]? with
  | some x => if x.2.2.1 then max (L i) (lnV (wyS L x)) else L i
  | none => L i
def itP (X : List Rv) (L : Nat → Nat) : Nat → (Nat → Nat)
  | 0 => L
  | k + 1 => paS X (itP X L k)
theorem itP_s {X : List Rv} {L : Nat → Nat} : ∀ k, itP X L (k + 1) = itP X (paS X L) k := sorry
def stl (X : List Rv) (L L' : Nat → Nat) : Prop := ∃ k, L' = itP X L k ∧ paS X L' = L' ∧ ∀ j, j < k → paS X (itP X L j) ≠ itP X L j
theorem stl_0 {X : List Rv} {L : Nat → Nat} (h : paS X L = L) : stl X L L := sorry
theorem stl_s {X : List Rv} {L L' : Nat → Nat} (h : paS X L ≠ L) (a : stl X (paS X L) L') : stl X L L' := sorry
theorem stl_u {X : List Rv} {L A B : Nat → Nat} (a : stl X L A) (b : stl X L B) : A = B := sorry
theorem dgN_1 (x : Nat) : 1 ≤ dgN x := sorry
theorem dgN_mono : ∀ (y x : Nat), x ≤ y → dgN x ≤ dgN y := sorry
theorem dgN_le : ∀ (k x : Nat), x < 16 ^ (k + 1) → dgN x ≤ k + 1 := sorry
theorem lnV_1 (v : Int32) : 1 ≤ lnV v := sorry
theorem lnV_8 (v : Int32) : lnV v ≤ 8 := sorry
/-- ways, forth and back -/
theorem wy_f {a b : Nat} (h : b ≤ a) (ha : a < 2 ^ 31) : nI a - nI b = nI (a - b) ∧ lnV (nI a - nI b) = dgN (a - b) := sorry
theorem wy_b {a b : Nat} (h : a < b) (hb : b < 2 ^ 31) : (nI a - nI b) < 0 ∧ (nI a - nI b).toInt = (a : Int) - b ∧ lnV (nI a - nI b) = dgN ((b - a - 1) / 16) + 1 := sorry
theorem plS_le {L : Nat → Nat} (h : ∀ i, L i ≤ 8) : ∀ k, plS L k ≤ 8 * k := sorry
theorem plS_m {L : Nat → Nat} {b : Nat} : ∀ t, b ≤ t → plS L b ≤ plS L t := sorry
theorem plS_d {L L' : Nat → Nat} (h : ∀ i, L i ≤ L' i) {b : Nat} : ∀ t, b ≤ t → plS L t + plS L' b ≤ plS L' t + plS L b := sorry
theorem wy_mono {L L' : Nat → Nat} (h : ∀ i, L i ≤ L' i) (h8 : ∀ i, L' i ≤ 8) {x : Rv} (ht : x.2.2.2.1 ≤ 10000) (hb : x.2.2.2.2 ≤ 10000) : lnV (wyS L x) ≤ lnV (wyS L' x) := sorry
theorem paS_ge {X : List Rv} {L : Nat → Nat} (i : Nat) : L i ≤ paS X L i := sorry
theorem paS_8 {X : List Rv} {L : Nat → Nat} (h : ∀ i, L i ≤ 8) (i : Nat) : paS X L i ≤ 8 := sorry
theorem in0_8 {X : List Rv} (i : Nat) : in0 X i ≤ 8 := sorry
theorem in0_1 {X : List Rv} (i : Nat) : 1 ≤ in0 X i := sorry
theorem itP_8 {X : List Rv} : ∀ k i, itP X (in0 X) k i ≤ 8 := sorry
theorem itP_1 {X : List Rv} : ∀ k i, 1 ≤ itP X (in0 X) k i := sorry
def wiN (X : List Rv) : Prop := ∀ x ∈ X, x.2.2.1 = true → x.2.2.2.1 ≤ 10000 ∧ x.2.2.2.2 ≤ 10000
theorem itP_e {X : List Rv} (hX : wiN X) : ∀ k i x, X[i]? = some x → x.2.2.1 = true → itP X (in0 X) k i ≤ lnV (wyS (itP X (in0 X) k) x) := sorry
/-- at the end lengths are exact -/
theorem stl_ex {X : List Rv} {L : Nat → Nat} (hX : wiN X) (s : stl X (in0 X) L) : (∀ i, 1 ≤ L i ∧ L i ≤ 8) ∧ ∀ i x, X[i]? = some x → L i = lnV (vlS L x) := sorry
theorem plS_x {A B : Nat → Nat} : ∀ n, (∀ i, i < n → A i = B i) → plS A n = plS B n := sorry
theorem paS_out {X : List Rv} {L : Nat → Nat} {i : Nat} (h : X.length ≤ i) : paS X L i = L i := sorry
/-- a pass that changes something makes the code longer -/
theorem paS_gr {X : List Rv} {L : Nat → Nat} (h : ∃ i, i < X.length ∧ L i < paS X L i) : plS L X.length < plS (paS X L) X.length := sorry
theorem paS_no {X : List Rv} {L : Nat → Nat} (h : ¬ ∃ i, i < X.length ∧ L i < paS X L i) : paS X L = L := sorry
theorem paS_ne {X : List Rv} {L : Nat → Nat} (h : ∃ i, i < X.length ∧ L i < paS X L i) : paS X L ≠ L := sorry
