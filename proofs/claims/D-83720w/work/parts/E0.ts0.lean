/-! the twin's reader: the whole program; its frame, its tables -/
def tU (np nl nn ns nv : Nat) (h h' : mj_H) : Prop := (∀ g i j, ¬ ((g = 15 ∧ (9 ≤ j ∧ j ≤ 16 ∨ j = 19 ∨ 28 ≤ j ∧ j ≤ 31)) ∨ (87 ≤ g ∧ g ≤ 100 ∧ nn ≤ j) ∨ (79 ≤ g ∧ g ≤ 85 ∧ ns + 2 ≤ j) ∨ (g = 86 ∧ nv ≤ j) ∨ (101 ≤ g ∧ g ≤ 103 ∧ np ≤ j) ∨ (106 ≤ g ∧ g ≤ 107 ∧ nl ≤ j)) → h'.1 g i j = h.1 g i j) ∧ (∀ g i j, ¬ ((g = 15 ∧ j = 14) ∨ (g = 78 ∧ ns + 2 ≤ j)) → h'.2.1 g i j = h.2.1 g i j) ∧ h'.2.2 = h.2.2
theorem tU.rf (np nl nn ns nv : Nat) (h : mj_H) : tU np nl nn ns nv h h := sorry
theorem tU.tr {np nl nn ns nv : Nat} {h h1 h2 : mj_H} (a : tU np nl nn ns nv h h1) (b : tU np nl nn ns nv h1 h2) : tU np nl nn ns nv h h2 := sorry
theorem tU.le {np nl nn ns nv np' nl' nn' ns' nv' : Nat} {h h' : mj_H} (a : tU np' nl' nn' ns' nv' h h') (h4 : np ≤ np') (h5 : nl ≤ nl') (h1 : nn ≤ nn') (h2 : ns ≤ ns') (h3 : nv ≤ nv') : tU np nl nn ns nv h h' := sorry
theorem tW.u {np nl nn ns nv : Nat} {h h' : mj_H} (a : tW nn ns nv h h') : tU np nl nn ns nv h h' := sorry
theorem tN.u {np nl nn ns nv : Nat} {h h' : mj_H} (a : tN nn h h') : tU np nl nn ns nv h h' := sorry
theorem tU.v {np nl nn ns nv : Nat} {h h' : mj_H} (a : tU np nl nn ns nv h h') : tV h h' := sorry
theorem tU.k {np nl nn ns nv lo : Nat} {h h' : mj_H} (a : tU np nl nn ns nv h h') : tK lo nn h h' := sorry
theorem tU_I {np nl nn ns nv : Nat} (h : mj_H) (g i j : Nat) (v : Int32) (c : (g = 15 ∧ (9 ≤ j ∧ j ≤ 16 ∨ j = 19 ∨ 28 ≤ j ∧ j ≤ 31)) ∨ (87 ≤ g ∧ g ≤ 100 ∧ nn ≤ j) ∨ (79 ≤ g ∧ g ≤ 85 ∧ ns + 2 ≤ j) ∨ (g = 86 ∧ nv ≤ j) ∨ (101 ≤ g ∧ g ≤ 103 ∧ np ≤ j) ∨ (106 ≤ g ∧ g ≤ 107 ∧ nl ≤ j)) : tU np nl nn ns nv h (mj_sI h g i j v) := sorry
theorem TPA.exU {np nl nn ns nv : Nat} {h h' : mj_H} {sy sy2 : List Sym} {vis : List Nat} {pa : List (List Nat)} (a : TPA h sy vis pa) (f : tU np nl nn ns nv h h') (hp0 : pa.length ≤ np) (x : sX sy sy2) (hv : ∀ s ∈ vis, inSy sy s) (hl : sy.length ≤ 200) : TPA h' sy2 vis pa := sorry
/-- a new row of the names: what it has to be -/
theorem TSY_add {h h' : mj_H} {sy : List Sym} {cs : List Nat} {k size : Nat} (hS : TSY h sy) (hl : sy.length < 200) (hc : okN cs) (hk : k ≤ 11) (hz : size < 300) (e19 : h'.1 15 0 19 = nI (sy.length + 3)) (e28 : h'.1 15 0 28 = nI (sy.length + 1)) (e78 : h'.2.1 78 0 (sy.length + 2) = lN (nmC cs)) (e79 : h'.1 79 0 (sy.length + 2) = nI (kdT k)) (e80 : h'.1 80 0 (sy.length + 2) = nI (szT k size)) (e84 : h'.1 84 0 (sy.length + 2) = nI (nuT k size)) (e83 : h'.1 83 0 (sy.length + 2) = 0) (F : ∀ g j, 79 ≤ g ∧ g ≤ 84 → j < sy.length + 2 → h'.1 g 0 j = h.1 g 0 j) (F2 : ∀ j, j < sy.length + 2 → h'.2.1 78 0 j = h.2.1 78 0 j) : TSY h' (sy ++ [(cs, k, size)]) := sorry
/-- the tables of bodies, links, roots -/
def TPB (h : mj_H) (nn : Nat) (pa : List (List Nat)) (bs : List Tm) (lk : List (Nat × Nat)) (rt : List (Nat × Tm)) : Prop :=
  ∃ rg : Nat → Nat × Nat, rgs nn bs.length rt rg ∧ h.1 15 0 46 = nI pa.length ∧ h.1 15 0 52 = nI lk.length ∧ lk.length ≤ 12 ∧ bs.length = pa.length ∧
  (∀ k B, bs[k]? = some B → ∃ x, h.1 103 0 k = nI x ∧ (1 ≤ (rg (2 * k)).1 ∧ (rg (2 * k)).1 ≤ x ∧ x < (rg (2 * k)).2) ∧ tQ (pa.take k) (rg (2 * k)).1 (rg (2 * k)).2 h B 0 0 0 (nI x)) ∧
  (∀ k x, lk[k]? = some x → h.1 106 0 k = nI x.1 ∧ h.1 107 0 k = nI x.2 ∧ x.1 ≤ 5 ∧ x.2 ≤ 5 ∧ x.1 ≠ x.2) ∧
  (∀ k, k < 6 → match rt.find? (fun x => x.1 == k) with | none => h.1 108 0 k = 0 | some x => ∃ j, h.1 108 0 k = nI j ∧ (1 ≤ (rg (2 * k + 1)).1 ∧ (rg (2 * k + 1)).1 ≤ j ∧ j < (rg (2 * k + 1)).2) ∧ tQ pa (rg (2 * k + 1)).1 (rg (2 * k + 1)).2 h x.2 0 0 0 (nI j))
theorem TPB.p1 {h : mj_H} {nn : Nat} {pa : List (List Nat)} {bs : List Tm} {lk : List (Nat × Nat)} {rt : List (Nat × Tm)} (a : TPB h nn pa bs lk rt) : h.1 15 0 46 = nI pa.length := sorry
theorem TPB.p2 {h : mj_H} {nn : Nat} {pa : List (List Nat)} {bs : List Tm} {lk : List (Nat × Nat)} {rt : List (Nat × Tm)} (a : TPB h nn pa bs lk rt) : h.1 15 0 52 = nI lk.length := sorry
theorem TPB.p3 {h : mj_H} {nn : Nat} {pa : List (List Nat)} {bs : List Tm} {lk : List (Nat × Nat)} {rt : List (Nat × Tm)} (a : TPB h nn pa bs lk rt) : lk.length ≤ 12 := sorry
theorem TPB.mvG {nn nn' : Nat} {h h' : mj_H} {pa : List (List Nat)} {bs : List Tm} {lk : List (Nat × Nat)} {rt : List (Nat × Tm)} (a : TPB h nn pa bs lk rt) (f46 : h'.1 15 0 46 = h.1 15 0 46) (f52 : h'.1 15 0 52 = h.1 15 0 52) (f103 : ∀ j, j < pa.length → h'.1 103 0 j = h.1 103 0 j) (f106 : ∀ j, j < lk.length → h'.1 106 0 j = h.1 106 0 j ∧ h'.1 107 0 j = h.1 107 0 j) (f108 : ∀ j, h'.1 108 0 j = h.1 108 0 j) (K : tK 1 nn h h') (hn : nn ≤ nn') : TPB h' nn' pa bs lk rt := sorry
theorem TPB.mv {np nl nn nn' ns nv : Nat} {h h' : mj_H} {pa : List (List Nat)} {bs : List Tm} {lk : List (Nat × Nat)} {rt : List (Nat × Tm)} (a : TPB h nn pa bs lk rt) (f : tU np nl nn ns nv h h') (hp : pa.length ≤ np) (hq : lk.length ≤ nl) (hn : nn ≤ nn') : TPB h' nn' pa bs lk rt := sorry
/-- a program so far -/
def TG (t : Nat → Nat) (n : Nat) (h : mj_H) (p : Pg) (nn : Nat) : Prop := TY t n h p.2.2.2.2.1 p.2.2.2.2.2.1 nn p.2.2.2.2.2.2 ∧ TPA h p.2.2.2.2.1 p.2.2.2.2.2.1 p.1 ∧ TPB h nn p.1 p.2.1 p.2.2.1 p.2.2.2.1 ∧ 1 ≤ nn
/-! is a name taken? -/
def gbT (cs : List Nat) (x : Sym) : Bool := (x.2.1 == 0 || x.2.1 == 1) && x.1 == cs
theorem gbT_all (sy : List Sym) (cs : List Nat) : (((scrN, 1, 12) : Sym) :: ((keyN, 1, 13) : Sym) :: sy).any (gbT cs) = glbS sy cs := sorry
theorem TSY.row {h : mj_H} {sy : List Sym} (hS : TSY h sy) {j : Nat} {x : Sym} (hx : (((scrN, 1, 12) : Sym) :: ((keyN, 1, 13) : Sym) :: sy)[j]? = some x) : h.2.1 78 0 j = lN (nmC x.1) ∧ okN x.1 ∧ ∃ kd, h.1 79 0 j = nI kd ∧ kd < 20 ∧ ((kd = 14 ∨ kd = 11 ∨ kd = 12 ∨ kd = 13) ↔ (x.2.1 == 0 || x.2.1 == 1) = true) := sorry
theorem tk_loop {h : mj_H} {sy : List Sym} {cs : List Nat} {d : Nat} (hS : TSY h sy) (hc : okN cs) : ∀ (m j : Nat) (b : Bool) (x5 : Int32), j + m = sy.length + 2 → mj_R mg d mq_260 (5, [(4, vI (nI j)), (3, vI (bI b)), (5, vI x5), (0, vR 15 0), (1, vL (lN (nmC cs)))], [], h) = some (.inl (some (vI (bI (b || ((((scrN, 1, 12) : Sym) :: ((keyN, 1, 13) : Sym) :: sy).drop j).any (gbT cs)))), h)) := sorry
theorem t_taken {h : mj_H} {sy : List Sym} {cs : List Nat} {d : Nat} (hS : TSY h sy) (hc : okN cs) : mj_R mg d mq_260 (0, [(0, vR 15 0), (1, vL (lN (nmC cs)))], [], h) = some (.inl (some (vI (bI (glbS sy cs))), h)) := sorry
