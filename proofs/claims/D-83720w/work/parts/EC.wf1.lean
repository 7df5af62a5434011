/-! what is read is well formed: processes -/
def wfA (sy : List Sym) (vis : List Nat) : List Nat → Tm → Prop
  | [], .null => True
  | q :: qs, .elem a r => ((srO sy q = 3 ∧ wfX sy vis a) ∨ (srO sy q = 6 ∧ ∃ s, a = .arg s ∧ s ∈ vis ∧ sArr (srO sy s) = true ∧ szO sy s = szO sy q) ∨ (srO sy q = 4 ∧ wfV sy vis a) ∨ (srO sy q ≠ 3 ∧ srO sy q ≠ 6 ∧ srO sy q ≠ 4 ∧ wfC sy vis a)) ∧ wfA sy vis qs r
  | _, _ => False
/-- a declared name -/
def dcl (sy : List Sym) (s : Nat) : Prop := ((srO sy s = 2 ∨ srO sy s = 7) ∧ szO sy s = 0) ∨ ((srO sy s = 5 ∨ srO sy s = 9) ∧ 1 ≤ szO sy s ∧ szO sy s ≤ 64)
/-- mode, levels that are left, what is seen; its names are from lo up to hi -/
def wfQ (sy : List Sym) (pa : List (List Nat)) : Tm → Nat → Nat → List Nat → Nat → Nat → Prop
  | .div (.index _) .null, 0, _, _, lo, hi => lo ≤ hi
  | .div (.index _) .result, 0, _, _, lo, hi => lo ≤ hi
  | .div (.index _) (.add v e), 0, _, vis, lo, hi => lo ≤ hi ∧ wfV sy vis v ∧ wfX sy vis e
  | .div (.index _) (.sub c e), 0, _, vis, lo, hi => lo ≤ hi ∧ wfC sy vis c ∧ wfX sy vis e
  | .div (.index _) (.mul c v), 0, _, vis, lo, hi => lo ≤ hi ∧ wfC sy vis c ∧ wfV sy vis v
  | .div (.index _) (.elem (.index p) as), 0, _, vis, lo, hi => lo ≤ hi ∧ p < pa.length ∧ wfA sy vis (pa.getD p []) as
  | .div (.index _) (.length ps), 0, l, vis, lo, hi => 1 ≤ l ∧ wfQ sy pa ps 1 (l - 1) vis lo hi
  | .div (.index _) (.rem (.arg s) (.elem (.elem e1 e2) p)), 0, l, vis, lo, hi => lo ≤ s ∧ s < hi ∧ srO sy s = 10 ∧ wfX sy vis e1 ∧ wfX sy vis e2 ∧ 1 ≤ l ∧ wfQ sy pa p 0 (l - 1) (s :: vis) (s + 1) hi
  | .div (.index _) (.sum (.elem (.index z0) ps)), 0, l, vis, lo, hi => z0 = lo ∧ 2 ≤ tmN ps ∧ tmN ps ≤ 8 ∧ 1 ≤ l ∧ wfQ sy pa ps 1 (l - 1) vis lo hi
  | .div (.index _) (.rem (.index s) (.elem (.elem (.index b) (.index m)) p)), 0, l, vis, lo, hi => lo ≤ s ∧ s < hi ∧ srO sy s = 11 ∧ b ≤ 2147483647 ∧ 1 ≤ m ∧ m ≤ 8 ∧ 1 ≤ l ∧ wfQ sy pa p 0 (l - 1) (s :: vis) (s + 1) hi
  | .div (.index _) (.old (.elem (.index z0) ps)), 0, l, vis, lo, hi => z0 = lo ∧ tmN ps = 2 ∧ 1 ≤ l ∧ wfQ sy pa ps 1 (l - 1) vis lo hi
  | .div (.index _) (.rem .null gs), 0, l, vis, lo, hi => 1 ≤ tmN gs ∧ 1 ≤ l ∧ wfQ sy pa gs 2 (l - 1) vis lo hi
  | .div (.index _) (.div e p), 0, l, vis, lo, hi => wfX sy vis e ∧ 1 ≤ l ∧ wfQ sy pa p 0 (l - 1) vis lo hi
  | .div (.index _) (.rem .result gs), 0, l, vis, lo, hi => 1 ≤ tmN gs ∧ tmN gs ≤ 8 ∧ 1 ≤ l ∧ wfQ sy pa gs 3 (l - 1) vis lo hi
  | .div (.index _) (.rem (.elem (.index s) (.index c)) p), 0, l, vis, lo, hi => s = lo ∧ 1 ≤ c ∧ s + c ≤ hi ∧ (∀ k, k < c → dcl sy (s + k)) ∧ wfQ sy pa p 0 l (seeS vis s c) (s + c) hi
  | .null, 1, _, _, lo, hi => lo ≤ hi
  | .elem p ps, 1, l, vis, lo, hi => ∃ m, wfQ sy pa p 0 l vis lo m ∧ wfQ sy pa ps 1 l vis m hi
  | .null, 2, _, _, lo, hi => lo ≤ hi
  | .elem (.elem e p) gs, 2, l, vis, lo, hi => wfX sy vis e ∧ 1 ≤ l ∧ ∃ m, wfQ sy pa p 0 (l - 1) vis lo m ∧ wfQ sy pa gs 2 l vis m hi
  | .null, 3, _, _, lo, hi => lo ≤ hi
  | .elem (.div (.index _) (.elem e (.elem c (.elem v p)))) gs, 3, l, vis, lo, hi => ((e = .null ∧ c ≠ .null) ∨ wfX sy vis e) ∧ ((c = .null ∧ v = .null) ∨ (wfC sy vis c ∧ wfV sy vis v)) ∧ 1 ≤ l ∧ ∃ m, wfQ sy pa p 0 (l - 1) vis lo m ∧ wfQ sy pa gs 3 l vis m hi
  | _, _, _, _, _, _ => False
theorem wfE_nn {sy : List Sym} {vis : List Nat} {e : Tm} (h : wfE sy vis e) : e ≠ .null := sorry
theorem wfC_nn {sy : List Sym} {vis : List Nat} {e : Tm} (h : wfC sy vis e) : e ≠ .null := sorry
section
variable {sy syF : List Sym} {vis : List Nat} {pa : List (List Nat)}
theorem wf_arg {q : Nat} {ts : List Tok} {x : Tm × List Tok} (hE : eqV sy syF vis) (hq : syO syF q = syO sy q) (h : argS sy vis q ts = .inr x) : (srO syF q = 3 ∧ wfX syF vis x.1) ∨ (srO syF q = 6 ∧ ∃ s, x.1 = .arg s ∧ s ∈ vis ∧ sArr (srO syF s) = true ∧ szO syF s = szO syF q) ∨ (srO syF q = 4 ∧ wfV syF vis x.1) ∨ (srO syF q ≠ 3 ∧ srO syF q ≠ 6 ∧ srO syF q ≠ 4 ∧ wfC syF vis x.1) := sorry
theorem wf_args (hE : eqV sy syF vis) : ∀ (qs : List Nat) (ts : List Tok) (x : Tm × List Tok), (∀ q ∈ qs, syO syF q = syO sy q) → argsS sy vis qs ts = .inr x → wfA syF vis qs x.1 := sorry
theorem wf_stm {l lo hi u : Nat} {ts : List Tok} {x : Tm} (hE : eqV sy syF vis) (hp : ∀ s ∈ vis, srO sy s = 0 → szO sy s < pa.length) (hpa : ∀ p, p < pa.length → ∀ q ∈ pa.getD p [], syO syF q = syO sy q) (hl : lo ≤ hi) (h : stmS pa sy vis ts = .inr x) : wfQ syF pa (.div (.index u) x) 0 l vis lo hi := sorry
theorem wf_grd {ts : List Tok} {x : Tm × Tm × Tm} (hE : eqV sy syF vis) (h : grdS sy vis ts = .inr x) : ((x.1 = .null ∧ x.2.1 ≠ .null) ∨ wfX syF vis x.1) ∧ ((x.2.1 = .null ∧ x.2.2 = .null) ∨ (wfC syF vis x.2.1 ∧ wfV syF vis x.2.2)) := sorry
end

