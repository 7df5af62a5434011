/-! the component measures: what is kept at its parts -/
def gW (lo hi : Nat) (h h' : mj_H) : Prop := (∀ g i j, ¬ ((g = 29 ∨ g = 30) ∧ lo ≤ j ∧ j < hi) → h'.1 g i j = h.1 g i j) ∧ h'.2 = h.2
theorem gW.rf (lo hi : Nat) (h : mj_H) : gW lo hi h h := sorry
theorem gW.tr {lo hi : Nat} {h h1 h2 : mj_H} (a : gW lo hi h h1) (b : gW lo hi h1 h2) : gW lo hi h h2 := sorry
theorem gW.le {lo hi lo' hi' : Nat} {h h' : mj_H} (a : gW lo hi h h') (hl : lo' ≤ lo) (hh : hi ≤ hi') : gW lo' hi' h h' := sorry
theorem gW.k {lo hi a b : Nat} {h h' : mj_H} (f : gW lo hi h h') : gK a b h h' := sorry
theorem ptC_W {lo hi k : Nat} {a b : Int32} (h : mj_H) (hk : lo ≤ k ∧ k < hi) : gW lo hi h (ptC h k a b) := sorry
section
variable (sy : List Sym) (pz : List (Nat × Nat))
def cD (h : mj_H) (A : Tm) (k : Nat) : Prop := h.1 29 0 k = nI (mz sy pz A 0).1 ∧ ∃ v, h.1 30 0 k = nI v ∧ cP v (mz sy pz A 0).2 ∧ v ≤ 1048576
def cM (h : mj_H) : Tm → Nat → Int32 → Prop
  | .div (.index u) (.length ps), 0, x => cD sy pz h (.div (.index u) (.length ps)) x.toNatClampNeg ∧ cM h ps 1 (h.1 23 0 x.toNatClampNeg)
  | .div (.index u) (.rem (.arg s) (.elem (.elem e1 e2) p)), 0, x => cD sy pz h (.div (.index u) (.rem (.arg s) (.elem (.elem e1 e2) p))) x.toNatClampNeg ∧ cM h p 0 (h.1 25 0 x.toNatClampNeg)
  | .div (.index u) (.sum (.elem (.index z0) ps)), 0, x => cD sy pz h (.div (.index u) (.sum (.elem (.index z0) ps))) x.toNatClampNeg ∧ cM h ps 1 (h.1 23 0 x.toNatClampNeg)
  | .div (.index u) (.rem (.index s) (.elem (.elem (.index b) (.index m)) p)), 0, x => cD sy pz h (.div (.index u) (.rem (.index s) (.elem (.elem (.index b) (.index m)) p))) x.toNatClampNeg ∧ cM h p 0 (h.1 25 0 x.toNatClampNeg)
  | .div (.index u) (.old (.elem (.index z0) ps)), 0, x => cD sy pz h (.div (.index u) (.old (.elem (.index z0) ps))) x.toNatClampNeg ∧ cM h ps 1 (h.1 23 0 x.toNatClampNeg)
  | .div (.index u) (.rem .null gs), 0, x => cD sy pz h (.div (.index u) (.rem .null gs)) x.toNatClampNeg ∧ cM h gs 2 (h.1 23 0 x.toNatClampNeg)
  | .div (.index u) (.div e p), 0, x => cD sy pz h (.div (.index u) (.div e p)) x.toNatClampNeg ∧ cM h p 0 (h.1 24 0 x.toNatClampNeg)
  | .div (.index u) (.rem .result gs), 0, x => cD sy pz h (.div (.index u) (.rem .result gs)) x.toNatClampNeg ∧ cM h gs 3 (h.1 23 0 x.toNatClampNeg)
  | .div (.index u) (.rem (.elem (.index s) (.index c)) p), 0, x => cD sy pz h (.div (.index u) (.rem (.elem (.index s) (.index c)) p)) x.toNatClampNeg ∧ cM h p 0 (h.1 23 0 x.toNatClampNeg)
  | .div (.index u) Q, 0, x => cD sy pz h (.div (.index u) Q) x.toNatClampNeg
  | .elem p ps, 1, x => cM h p 0 x ∧ cM h ps 1 (h.1 27 0 x.toNatClampNeg)
  | .elem (.elem _ p) gs, 2, x => cM h p 0 (h.1 25 0 x.toNatClampNeg) ∧ cM h gs 2 (h.1 27 0 x.toNatClampNeg)
  | .elem (.div (.index _) (.elem _ (.elem _ (.elem _ p)))) gs, 3, x => cM h p 0 (h.1 25 0 x.toNatClampNeg) ∧ cM h gs 3 (h.1 27 0 x.toNatClampNeg)
  | _, _, _ => True
end
/-- what was kept between lo and hi is still there -/
def gD (lo hi : Nat) (h h' : mj_H) : Prop := ∀ g i j, 23 ≤ g ∧ g ≤ 30 ∧ lo ≤ j ∧ j < hi → h'.1 g i j = h.1 g i j
theorem gD.le {lo hi lo' hi' : Nat} {h h' : mj_H} (a : gD lo hi h h') (hl : lo ≤ lo') (hh : hi' ≤ hi) : gD lo' hi' h h' := sorry
theorem gW.d {lo hi a b : Nat} {h h' : mj_H} (f : gW lo hi h h') (hd : b ≤ lo ∨ hi ≤ a) : gD a b h h' := sorry
theorem cD.mv {sy : List Sym} {pz : List (Nat × Nat)} {lo hi k : Nat} {h h' : mj_H} {A : Tm} (a : cD sy pz h A k) (f : gD lo hi h h') (hk : lo ≤ k ∧ k < hi) : cD sy pz h' A k := sorry
theorem cM_0 {sy : List Sym} {pz : List (Nat × Nat)} {h : mj_H} {A : Tm} {x : Int32} {lo hi : Nat} {h0 : mj_H} (r : rQ lo hi h0 A 0 x) (a : cM sy pz h A 0 x) : cD sy pz h A x.toNatClampNeg := sorry
theorem cM.mv {sy : List Sym} {pz : List (Nat × Nat)} {lo hi : Nat} {h h' : mj_H} (hh : hi ≤ 3100) (f : gD lo hi h h') : ∀ (A : Tm) (m : Nat) (x : Int32), rQ lo hi h A m x → cM sy pz h A m x → cM sy pz h' A m x := sorry
