/-! the twin measures: frames, references, roots -/
/-- what measuring may change -/
def tM9 (lo hi slo shi : Nat) (h h' : mj_H) : Prop := (∀ g i j, ¬ ((g = 15 ∧ j = 59) ∨ (97 ≤ g ∧ g ≤ 99 ∧ lo ≤ j ∧ j < hi) ∨ ((g = 81 ∨ g = 82) ∧ slo + 2 ≤ j ∧ j < shi + 2)) → h'.1 g i j = h.1 g i j) ∧ h'.2 = h.2
theorem tM9.rf (lo hi slo shi : Nat) (h : mj_H) : tM9 lo hi slo shi h h := sorry
theorem tM9.tr {lo hi slo shi : Nat} {h h1 h2 : mj_H} (a : tM9 lo hi slo shi h h1) (b : tM9 lo hi slo shi h1 h2) : tM9 lo hi slo shi h h2 := sorry
theorem tM9.le {lo hi slo shi lo' hi' slo' shi' : Nat} {h h' : mj_H} (a : tM9 lo hi slo shi h h') (h1 : lo' ≤ lo) (h2 : hi ≤ hi') (h3 : slo' ≤ slo) (h4 : shi ≤ shi') : tM9 lo' hi' slo' shi' h h' := sorry
theorem tM9.k {lo hi slo shi a b : Nat} {h h' : mj_H} (f : tM9 lo hi slo shi h h') : tK a b h h' := sorry
theorem tM9.s {lo hi slo shi a b sa sb : Nat} {h h' : mj_H} (f : tM9 lo hi slo shi h h') (hd : b ≤ lo ∨ hi ≤ a) (hs : sb ≤ slo ∨ shi ≤ sa) : tKS a b sa sb h h' := sorry
theorem tM9.w {lo hi slo shi a b : Nat} {h h' : mj_H} (f : tM9 lo hi slo shi h h') (hd : b ≤ lo ∨ hi ≤ a) : tK7 a b h h' := sorry
theorem tX9.m {lo hi slo shi : Nat} {h h' : mj_H} (a : tX9 lo hi h h') : tM9 lo hi slo shi h h' := sorry
theorem tX9.k {lo hi a b : Nat} {h h' : mj_H} (f : tX9 lo hi h h') : tK a b h h' := sorry
def tSt (sy : List Sym) (pa : List (List Nat)) (pz : List (Nat × Nat)) (h : mj_H) : Prop := pa.length ≤ 24 ∧ sy.length ≤ 200 ∧ (∀ p, p < pa.length → h.1 104 0 p = nI (pz.getD p (0, 0)).1 ∧ (pz.getD p (0, 0)).1 < 100000 ∧ ∃ v, h.1 105 0 p = nI v ∧ cP v (pz.getD p (0, 0)).2 ∧ v ≤ 1000000) ∧ ∀ s, s < sy.length → h.1 80 0 (s + 2) = nI (szT (srO sy s) (szO sy s))
theorem tSt.mv {sy : List Sym} {pa : List (List Nat)} {pz : List (Nat × Nat)} {lo hi slo shi : Nat} {h h' : mj_H} (a : tSt sy pa pz h) (f : tM9 lo hi slo shi h h') : tSt sy pa pz h' := sorry
theorem szT_d {sy : List Sym} {s : Nat} (h : dcl sy s) : szT (srO sy s) (szO sy s) = wsz sy s := sorry
theorem t_cap {x d : Nat} {h : mj_H} (hx : x < 2 ^ 62) : mj_R mg d mq_271 (0, [(0, vL (lN x))], [], h) = some (.inl (some (vI (nI (min x 1000000))), h)) := sorry
section
variable {sy : List Sym} {vis : List Nat} {u : Nat}
/-- an expression, or a thing that a name begins -/
theorem t_mexpX {e : Tm} {lo hi k f most B D : Nat} {h : mj_H} (w : wfX sy vis e ∨ wfV sy vis e ∨ wfC sy vis e ∨ ∃ s, e = .arg s) (a : tE u lo hi h e k) (hh : hi ≤ 7000) (h59 : h.1 15 0 59 = nI most) (hf : f ≤ most) (hB1 : most ≤ B) (hB2 : f + eH e ≤ B) (hB3 : B < 2 ^ 31) (hD : eH e + 10 ≤ D) : mP (mj_R mg D mq_269 (0, [(0, vR 15 0), (1, vI (nI k)), (2, vI (nI f))], [], h)) (fun v h' => v = none ∧ qF u lo hi k f most e h h') := sorry
/-- a reference -/
theorem t_mref {e : Tm} {lo hi k f most B D : Nat} {h : mj_H} (w : wfV sy vis e ∨ wfC sy vis e) (a : tE u lo hi h e k) (h1 : 1 ≤ lo) (hh : hi ≤ 7000) (h59 : h.1 15 0 59 = nI most) (hf : f ≤ most) (hB1 : most ≤ B) (hB2 : f + eH e ≤ B) (hB3 : B < 2 ^ 31) (hD : eH e + 11 ≤ D) : mP (mj_R mg D mq_270 (0, [(0, vR 15 0), (1, vI (nI k)), (2, vI (nI f))], [], h)) (fun v h' => v = none ∧ qF u lo hi k f most e h h') := sorry
/-- no reference -/
theorem t_mref0 {D : Nat} {x2 : Int32} {h : mj_H} : mj_R mg (D + 1) mq_270 (0, [(0, vR 15 0), (1, vI 0), (2, vI x2)], [], h) = some (.inl (none, h)) := sorry
end
section
variable {sy : List Sym} {pz : List (Nat × Nat)} {pa : List (List Nat)}

/-- how many names a root declares, and the first -/
theorem tQ_dec {h : mj_H} : ∀ (A : Tm) (m l : Nat) (vis : List Nat) (slo shi : Nat), wfQ sy pa A m l vis slo shi → m = 0 → ∀ (f c : Nat) (x : Int32) (lo hi : Nat), tQ pa lo hi h A 0 f c x → ∃ k C, x = nI k ∧ lo ≤ k ∧ k < hi ∧ h.1 96 0 k = nI C ∧ c ≤ C ∧ C + slo ≤ c + shi ∧ (0 < c → h.1 95 0 k = nI (tw f)) := sorry
/-- the block's words at its root do not matter below -/
theorem tQF.rt {h h' : mj_H} {k : Nat} (H : ∀ g i j, g ≠ 15 → ¬ ((g = 98 ∨ g = 99) ∧ j = k) → h'.1 g i j = h.1 g i j) (hk : k < 7000) : ∀ (A : Tm) (m l : Nat) (vis : List Nat) (slo shi : Nat), wfQ sy pa A m l vis slo shi → m = 0 → ∀ (f c lo hi q lv : Nat), hi ≤ 7000 → tQF sy pz pa h A 0 f c (nI k) lo hi q lv → tQF sy pz pa h' A 0 f c (nI k) lo hi q lv := sorry
end

