/-! the twin measures: processes with their words -/
def tAF (u : Nat) (h : mj_H) : List Nat → Tm → Int32 → Nat → Nat → Nat → Prop
  | [], .null, x, _, _, _ => x = 0
  | q :: qs, .elem a r, x, lo, hi, f => ∃ k j m, x = nI k ∧ tM u lo m h k 7 ∧ m ≤ hi ∧ h.1 89 0 k = nI j ∧ tEF u h a lo m j f ∧ h.1 90 0 k = nI (tw q) ∧ tAF u h qs r (h.1 94 0 k) m hi f
  | _, _, _, _, _, _ => False
def tSy (sy : List Sym) (h : mj_H) (s m q lv : Nat) : Prop := ∀ i, i < m → h.1 81 0 (s + 2 + i) = nI (q + dsz sy s i) ∧ h.1 82 0 (s + 2 + i) = nI lv
def tBr (sy : List Sym) (pz : List (Nat × Nat)) (h : mj_H) (p : Tm) (k : Nat) : Prop := h.1 98 0 k = nI (1 + (mz sy pz p 0).1) ∧ ∃ v, h.1 99 0 k = nI v ∧ cP v (mz sy pz p 0).2 ∧ v ≤ 1000000
/-- a process at x with all its words: q is free, at level lv -/
def tQF (sy : List Sym) (pz : List (Nat × Nat)) (pa : List (List Nat)) (h : mj_H) : Tm → Nat → Nat → Nat → Int32 → Nat → Nat → Nat → Nat → Prop
  | .div (.index _) (.rem (.elem (.index s) (.index m)) p), 0, f, c, x, lo, hi, q, lv => tSy sy h s m q lv ∧ tQF sy pz pa h p 0 (if c = 0 then s else f) (c + m) x lo hi (q + dsz sy s m) lv
  | .div (.index u) .null, 0, f, c, x, lo, hi, _, _ => ∃ k, x = nI k ∧ tD u lo hi h k 20 f c
  | .div (.index u) .result, 0, f, c, x, lo, hi, _, _ => ∃ k, x = nI k ∧ tD u lo hi h k 21 f c
  | .div (.index u) (.add v e), 0, f, c, x, lo, hi, q, _ => ∃ k a b m, x = nI k ∧ tD u lo hi h k 22 f c ∧ (lo ≤ m ∧ m ≤ hi) ∧ h.1 89 0 k = nI a ∧ h.1 90 0 k = nI b ∧ tEF u h v lo m a q ∧ tEF u h e m hi b q
  | .div (.index u) (.sub v e), 0, f, c, x, lo, hi, q, _ => ∃ k a b m, x = nI k ∧ tD u lo hi h k 23 f c ∧ (lo ≤ m ∧ m ≤ hi) ∧ h.1 89 0 k = nI a ∧ h.1 90 0 k = nI b ∧ tEF u h v lo m a q ∧ tEF u h e m hi b q
  | .div (.index u) (.mul v e), 0, f, c, x, lo, hi, q, _ => ∃ k a b m, x = nI k ∧ tD u lo hi h k 24 f c ∧ (lo ≤ m ∧ m ≤ hi) ∧ h.1 89 0 k = nI a ∧ h.1 90 0 k = nI b ∧ tEF u h v lo m a q ∧ tEF u h e m hi b q
  | .div (.index u) (.elem (.index p) as), 0, f, c, x, lo, hi, q, _ => ∃ k, x = nI k ∧ tD u lo hi h k 25 f c ∧ h.1 89 0 k = nI p ∧ tAF u h (pa.getD p []) as (h.1 93 0 k) lo hi q
  | .div (.index u) (.length ps), 0, f, c, x, lo, hi, q, lv => ∃ k, x = nI k ∧ tD u lo hi h k 26 f c ∧ h.1 90 0 k = nI (tmN ps) ∧ tQF sy pz pa h ps 1 0 0 (h.1 93 0 k) (k + 1) hi q lv
  | .div (.index u) (.rem (.arg s) (.elem (.elem e1 e2) p)), 0, f, c, x, lo, hi, q, lv => ∃ k a b m1 m2, x = nI k ∧ tD u lo hi h k 27 f c ∧ (lo ≤ m1 ∧ m1 ≤ m2 ∧ m2 ≤ hi ∧ k < m2) ∧ h.1 89 0 k = nI (tw s) ∧ h.1 91 0 k = nI a ∧ h.1 92 0 k = nI b ∧ (h.1 81 0 (s + 2) = nI q ∧ h.1 82 0 (s + 2) = nI lv) ∧ tEF u h e1 lo m1 a (q + 2) ∧ tEF u h e2 m1 m2 b (q + 2) ∧ tQF sy pz pa h p 0 0 0 (h.1 93 0 k) m2 hi (q + 2) lv
  | .div (.index u) (.sum (.elem (.index z0) ps)), 0, f, c, x, lo, hi, q, lv => ∃ k, x = nI k ∧ tD u lo hi h k 28 f c ∧ h.1 89 0 k = 0 ∧ h.1 90 0 k = nI (tmN ps) ∧ h.1 100 0 k = nI (z0 + 2) ∧ h.1 97 0 k = nI q ∧ tQF sy pz pa h ps 4 0 0 (h.1 93 0 k) (k + 1) hi 1 (lv + 1)
  | .div (.index u) (.old (.elem (.index z0) ps)), 0, f, c, x, lo, hi, q, lv => ∃ k, x = nI k ∧ tD u lo hi h k 28 f c ∧ h.1 89 0 k = 1 ∧ h.1 90 0 k = nI (tmN ps) ∧ h.1 100 0 k = nI (z0 + 2) ∧ h.1 97 0 k = nI q ∧ tQF sy pz pa h ps 4 0 0 (h.1 93 0 k) (k + 1) hi 1 (lv + 1)
  | .div (.index u) (.rem (.index s) (.elem (.elem (.index b) (.index m)) p)), 0, f, c, x, lo, hi, q, lv => ∃ k j, x = nI k ∧ tD u lo hi h k 29 f c ∧ h.1 89 0 k = nI (tw s) ∧ h.1 91 0 k = nI b ∧ h.1 92 0 k = nI m ∧ h.1 100 0 k = nI (s + 2) ∧ h.1 97 0 k = nI q ∧ h.1 93 0 k = nI j ∧ (k < j ∧ j < hi) ∧ tBr sy pz h p j ∧ tQF sy pz pa h p 0 0 0 (h.1 93 0 k) (k + 1) hi 1 (lv + 1)
  | .div (.index u) (.rem .null gs), 0, f, c, x, lo, hi, q, lv => ∃ k, x = nI k ∧ tD u lo hi h k 30 f c ∧ tQF sy pz pa h gs 2 0 0 (h.1 93 0 k) (k + 1) hi q lv
  | .div (.index u) (.div e p), 0, f, c, x, lo, hi, q, lv => ∃ k a m, x = nI k ∧ tD u lo hi h k 31 f c ∧ (lo ≤ m ∧ m ≤ hi ∧ k < m) ∧ h.1 89 0 k = nI a ∧ tEF u h e lo m a q ∧ tQF sy pz pa h p 0 0 0 (h.1 93 0 k) m hi q lv
  | .div (.index u) (.rem .result gs), 0, f, c, x, lo, hi, q, lv => ∃ k, x = nI k ∧ tD u lo hi h k 32 f c ∧ h.1 90 0 k = nI (tmN gs) ∧ h.1 97 0 k = nI q ∧ tQF sy pz pa h gs 3 0 0 (h.1 93 0 k) (k + 1) hi (q + 2 * tmN gs) lv
  | .null, 1, _, _, x, _, _, _, _ => x = 0
  | .elem p ps, 1, _, _, x, lo, hi, q, lv => ∃ k m, x = nI k ∧ lo ≤ k ∧ k < m ∧ m ≤ hi ∧ tQF sy pz pa h p 0 0 0 x lo m q lv ∧ tQF sy pz pa h ps 1 0 0 (h.1 94 0 k) m hi q lv
  | .null, 2, _, _, x, _, _, _, _ => x = 0
  | .elem (.elem e p) gs, 2, _, _, x, lo, hi, q, lv => ∃ k u a m1 m2, x = nI k ∧ tM u lo m2 h k 34 ∧ (lo ≤ m1 ∧ m1 ≤ m2 ∧ m2 ≤ hi) ∧ h.1 89 0 k = nI a ∧ tEF u h e lo m1 a q ∧ tQF sy pz pa h p 0 0 0 (h.1 93 0 k) m1 m2 q lv ∧ tQF sy pz pa h gs 2 0 0 (h.1 94 0 k) m2 hi q lv
  | .null, 3, _, _, x, _, _, _, _ => x = 0
  | .elem (.div (.index u) (.elem e (.elem c (.elem v p)))) gs, 3, _, _, x, lo, hi, q, lv => ∃ k m1 m2 m3 m4, x = nI k ∧ tM u lo m4 h k 33 ∧ (lo ≤ m1 ∧ m1 ≤ m2 ∧ m2 ≤ m3 ∧ m3 ≤ m4 ∧ m4 ≤ hi) ∧ ((e = .null ∧ h.1 89 0 k = 0) ∨ ∃ a, h.1 89 0 k = nI a ∧ 1 ≤ a ∧ tEF u h e lo m1 a q) ∧ ((c = .null ∧ h.1 90 0 k = 0 ∧ h.1 91 0 k = 0) ∨ ∃ a b, h.1 90 0 k = nI a ∧ 1 ≤ a ∧ tEF u h c m1 m2 a q ∧ h.1 91 0 k = nI b ∧ tEF u h v m2 m3 b q) ∧ tQF sy pz pa h p 0 0 0 (h.1 93 0 k) m3 m4 q lv ∧ tQF sy pz pa h gs 3 0 0 (h.1 94 0 k) m4 hi q lv
  | .null, 4, _, _, x, _, _, _, _ => x = 0
  | .elem p ps, 4, _, _, x, lo, hi, q, lv => ∃ k m, x = nI k ∧ lo ≤ k ∧ k < m ∧ m ≤ hi ∧ tBr sy pz h p k ∧ tQF sy pz pa h p 0 0 0 x lo m q lv ∧ tQF sy pz pa h ps 4 0 0 (h.1 94 0 k) m hi q lv
  | _, _, _, _, _, _, _, _, _ => False
theorem tAF.mv {u lo hi : Nat} {h h' : mj_H} (f : tK7 lo hi h h') : ∀ (qs : List Nat) (e : Tm) (x : Int32) (q : Nat), tAF u h qs e x lo hi q → tAF u h' qs e x lo hi q := sorry
/-- all words too -/
def tK9 (lo hi : Nat) (h h' : mj_H) : Prop := ∀ g i j, 87 ≤ g ∧ g ≤ 100 ∧ lo ≤ j ∧ j < hi → h'.1 g i j = h.1 g i j
theorem tK9.le {lo hi lo' hi' : Nat} {h h' : mj_H} (a : tK9 lo hi h h') (hl : lo ≤ lo') (hh : hi' ≤ hi) : tK9 lo' hi' h h' := sorry
theorem tK9.k {lo hi : Nat} {h h' : mj_H} (a : tK9 lo hi h h') : tK lo hi h h' := sorry
theorem tK9.w {lo hi : Nat} {h h' : mj_H} (a : tK9 lo hi h h') : tK7 lo hi h h' := sorry
/-- nodes from lo to hi and names from slo to shi are as they were -/
def tKS (lo hi slo shi : Nat) (h h' : mj_H) : Prop := tK9 lo hi h h' ∧ ∀ g s, g = 81 ∨ g = 82 → slo ≤ s → s < shi → h'.1 g 0 (s + 2) = h.1 g 0 (s + 2)
theorem tKS.le {lo hi slo shi lo' hi' slo' shi' : Nat} {h h' : mj_H} (a : tKS lo hi slo shi h h') (h1 : lo ≤ lo') (h2 : hi' ≤ hi) (h3 : slo ≤ slo') (h4 : shi' ≤ shi) : tKS lo' hi' slo' shi' h h' := sorry
theorem tBr.mv {sy : List Sym} {pz : List (Nat × Nat)} {lo hi k : Nat} {h h' : mj_H} {p : Tm} (a : tBr sy pz h p k) (f : tK9 lo hi h h') (hk : lo ≤ k ∧ k < hi) : tBr sy pz h' p k := sorry
theorem tSy.mv {sy : List Sym} {lo hi slo shi s m q lv : Nat} {h h' : mj_H} (a : tSy sy h s m q lv) (f : tKS lo hi slo shi h h') (hs : slo ≤ s ∧ s + m ≤ shi) : tSy sy h' s m q lv := sorry
