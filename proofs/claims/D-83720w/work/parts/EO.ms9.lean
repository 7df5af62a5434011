/-! how many words: programs -/
section
variable {sy : List Sym} {pa : List (List Nat)}
theorem mz_cong {pz pz' : List (Nat × Nat)} (h : ∀ p, p < pa.length → pz.getD p (0, 0) = pz'.getD p (0, 0)) : ∀ (A : Tm) (m l : Nat) (vis : List Nat) (slo shi : Nat), wfQ sy pa A m l vis slo shi → mz sy pz A m = mz sy pz' A m ∧ (m = 1 → mz sy pz A 4 = mz sy pz' A 4) := sorry
end
/-- the table of the PROCs' sizes and depths -/
def pzT (sy : List Sym) (pa : List (List Nat)) (bs : List Tm) (pz : List (Nat × Nat)) : Prop := ∀ k B, bs[k]? = some B → pz.getD k (0, 0) = (1 + (pa.getD k []).length + (mz sy pz B 0).1, (mz sy pz B 0).2)
theorem pz_ex {sy : List Sym} {pa : List (List Nat)} {bs : List Tm} (hw : ∀ k B, bs[k]? = some B → ∃ l vis slo shi, wfQ sy (pa.take k) B 0 l vis slo shi) : ∃ pz, pzT sy pa bs pz := sorry
/-- does all fit? -/
def ftA (f : Nat → Bool) : Nat → Bool
  | 0 => true
  | k + 1 => ftA f k && f k
def ft1 (pz : List (Nat × Nat)) (k : Nat) : Bool := decide ((pz.getD k (0, 0)).1 + (pz.getD k (0, 0)).2 + 3 ≤ 4000)
def ft2 (sy : List Sym) (pz : List (Nat × Nat)) (rt : List (Nat × Tm)) (k : Nat) : Bool := match rt.find? (fun x => x.1 == k) with
  | none => true
  | some x => decide (1 + (mz sy pz x.2 0).1 + (mz sy pz x.2 0).2 + 3 ≤ 4000)
def fts (sy : List Sym) (pz : List (Nat × Nat)) (n : Nat) (rt : List (Nat × Tm)) : Bool := ftA (ft1 pz) n && ftA (ft2 sy pz rt) 6
/-- what the component's measuring may change -/
def gA (h h' : mj_H) : Prop := (∀ g i j, ¬ (g = 29 ∨ g = 30 ∨ g = 41 ∨ g = 42) → h'.1 g i j = h.1 g i j) ∧ h'.2 = h.2
theorem gA.rf (h : mj_H) : gA h h := sorry
theorem gA.tr {h h1 h2 : mj_H} (a : gA h h1) (b : gA h1 h2) : gA h h2 := sorry
theorem gW.a {lo hi : Nat} {h h' : mj_H} (f : gW lo hi h h') : gA h h' := sorry
theorem gA.k {a b : Nat} {h h' : mj_H} (f : gA h h') : gK a b h h' := sorry
/-- the tables of bodies and roots, measured -/
def PBm (sy : List Sym) (pz : List (Nat × Nat)) (h : mj_H) (rg : Nat → Nat × Nat) (bs : List Tm) (rt : List (Nat × Tm)) (n r : Nat) : Prop :=
  (∀ k B, bs[k]? = some B → ∃ x, h.1 38 0 k = nI x ∧ rQ (rg (2 * k)).1 (rg (2 * k)).2 h B 0 (nI x) ∧ (k < n → cM sy pz h B 0 (nI x))) ∧
  (∀ k, k < 6 → match rt.find? (fun x => x.1 == k) with | none => h.1 46 0 k = -1 | some x => ∃ j, h.1 46 0 k = nI j ∧ rQ (rg (2 * k + 1)).1 (rg (2 * k + 1)).2 h x.2 0 (nI j) ∧ (k < r → cM sy pz h x.2 0 (nI j))) ∧
  ∀ k, k < n → h.1 41 0 k = nI (pz.getD k (0, 0)).1 ∧ ∃ v, h.1 42 0 k = nI v ∧ cP v (pz.getD k (0, 0)).2 ∧ v ≤ 1048576
theorem PBm.mv {sy : List Sym} {pz : List (Nat × Nat)} {h h' : mj_H} {rg : Nat → Nat × Nat} {bs : List Tm} {rt : List (Nat × Tm)} {n r np z : Nat} (a : PBm sy pz h rg bs rt n r) (a0 : rgs np bs.length rt rg) (hn : np ≤ 3100) (f : gA h h') (fd : ∀ s, s ≠ z → usd bs.length rt s → gD (rg s).1 (rg s).2 h h') (ft : ∀ g k, k < n → g = 41 ∨ g = 42 → h'.1 g 0 k = h.1 g 0 k) (hz : (∀ k, k < n → 2 * k ≠ z) ∧ ∀ k, k < r → 2 * k + 1 ≠ z) : PBm sy pz h' rg bs rt n r := sorry
