/-! the twin's processes as nodes -/
def tAR (u : Nat) (h : mj_H) : List Nat → Tm → Int32 → Nat → Nat → Prop
  | [], .null, x, _, _ => x = 0
  | q :: qs, .elem a r, x, lo, hi => ∃ k j m, x = nI k ∧ tM u lo m h k 7 ∧ m ≤ hi ∧ h.1 89 0 k = nI j ∧ tE u lo m h a j ∧ h.1 90 0 k = nI (tw q) ∧ tAR u h qs r (h.1 94 0 k) m hi
  | _, _, _, _, _ => False
abbrev tAs (u lo hi : Nat) (h : mj_H) (qs : List Nat) (e : Tm) (x : Int32) : Prop := tAR u h qs e x lo hi
theorem tAs.mv {u lo hi lo' hi' : Nat} {h h' : mj_H} (hl : lo' ≤ lo) (hh : hi ≤ hi') (f : tK lo hi h h') : ∀ (qs : List Nat) (e : Tm) (x : Int32), tAs u lo hi h qs e x → tAs u lo' hi' h' qs e x := sorry
def tD (u lo hi : Nat) (h : mj_H) (k w f c : Nat) : Prop := tM u lo hi h k w ∧ h.1 96 0 k = nI c ∧ (0 < c → h.1 95 0 k = nI (tw f))
theorem tD.mv {u lo hi lo' hi' k w f' c : Nat} {h h' : mj_H} (a : tD u lo hi h k w f' c) (hl : lo' ≤ lo) (hh : hi ≤ hi') (f : tK lo hi h h') : tD u lo' hi' h' k w f' c := sorry
/-- a process at x: a node between lo and hi; what lies below it lies apart -/
def tQR (pa : List (List Nat)) (h : mj_H) : Tm → Nat → Nat → Nat → Int32 → Nat → Nat → Prop
  | .div (.index _) (.rem (.elem (.index s) (.index m)) p), 0, f, c, x, lo, hi => tQR pa h p 0 (if c = 0 then s else f) (c + m) x lo hi
  | .div (.index u) .null, 0, f, c, x, lo, hi => ∃ k, x = nI k ∧ tD u lo hi h k 20 f c
  | .div (.index u) .result, 0, f, c, x, lo, hi => ∃ k, x = nI k ∧ tD u lo hi h k 21 f c
  | .div (.index u) (.add v e), 0, f, c, x, lo, hi => ∃ k a b m, x = nI k ∧ tD u lo hi h k 22 f c ∧ (lo ≤ m ∧ m ≤ hi) ∧ h.1 89 0 k = nI a ∧ h.1 90 0 k = nI b ∧ tE u lo m h v a ∧ tE u m hi h e b
  | .div (.index u) (.sub v e), 0, f, c, x, lo, hi => ∃ k a b m, x = nI k ∧ tD u lo hi h k 23 f c ∧ (lo ≤ m ∧ m ≤ hi) ∧ h.1 89 0 k = nI a ∧ h.1 90 0 k = nI b ∧ tE u lo m h v a ∧ tE u m hi h e b
  | .div (.index u) (.mul v e), 0, f, c, x, lo, hi => ∃ k a b m, x = nI k ∧ tD u lo hi h k 24 f c ∧ (lo ≤ m ∧ m ≤ hi) ∧ h.1 89 0 k = nI a ∧ h.1 90 0 k = nI b ∧ tE u lo m h v a ∧ tE u m hi h e b
  | .div (.index u) (.elem (.index p) as), 0, f, c, x, lo, hi => ∃ k, x = nI k ∧ tD u lo hi h k 25 f c ∧ h.1 89 0 k = nI p ∧ tAs u lo hi h (pa.getD p []) as (h.1 93 0 k)
  | .div (.index u) (.length ps), 0, f, c, x, lo, hi => ∃ k, x = nI k ∧ tD u lo hi h k 26 f c ∧ h.1 90 0 k = nI (tmN ps) ∧ tQR pa h ps 1 0 0 (h.1 93 0 k) (k + 1) hi
  | .div (.index u) (.rem (.arg s) (.elem (.elem e1 e2) p)), 0, f, c, x, lo, hi => ∃ k a b m1 m2, x = nI k ∧ tD u lo hi h k 27 f c ∧ (lo ≤ m1 ∧ m1 ≤ m2 ∧ m2 ≤ hi ∧ k < m2) ∧ h.1 89 0 k = nI (tw s) ∧ h.1 91 0 k = nI a ∧ h.1 92 0 k = nI b ∧ tE u lo m1 h e1 a ∧ tE u m1 m2 h e2 b ∧ tQR pa h p 0 0 0 (h.1 93 0 k) m2 hi
  | .div (.index u) (.sum (.elem (.index z0) ps)), 0, f, c, x, lo, hi => ∃ k, x = nI k ∧ tD u lo hi h k 28 f c ∧ h.1 89 0 k = 0 ∧ h.1 90 0 k = nI (tmN ps) ∧ h.1 100 0 k = nI (z0 + 2) ∧ tQR pa h ps 1 0 0 (h.1 93 0 k) (k + 1) hi
  | .div (.index u) (.old (.elem (.index z0) ps)), 0, f, c, x, lo, hi => ∃ k, x = nI k ∧ tD u lo hi h k 28 f c ∧ h.1 89 0 k = 1 ∧ h.1 90 0 k = nI (tmN ps) ∧ h.1 100 0 k = nI (z0 + 2) ∧ tQR pa h ps 1 0 0 (h.1 93 0 k) (k + 1) hi
  | .div (.index u) (.rem (.index s) (.elem (.elem (.index b) (.index m)) p)), 0, f, c, x, lo, hi => ∃ k, x = nI k ∧ tD u lo hi h k 29 f c ∧ h.1 89 0 k = nI (tw s) ∧ h.1 91 0 k = nI b ∧ h.1 92 0 k = nI m ∧ h.1 100 0 k = nI (s + 2) ∧ tQR pa h p 0 0 0 (h.1 93 0 k) (k + 1) hi
  | .div (.index u) (.rem .null gs), 0, f, c, x, lo, hi => ∃ k, x = nI k ∧ tD u lo hi h k 30 f c ∧ tQR pa h gs 2 0 0 (h.1 93 0 k) (k + 1) hi
  | .div (.index u) (.div e p), 0, f, c, x, lo, hi => ∃ k a m, x = nI k ∧ tD u lo hi h k 31 f c ∧ (lo ≤ m ∧ m ≤ hi ∧ k < m) ∧ h.1 89 0 k = nI a ∧ tE u lo m h e a ∧ tQR pa h p 0 0 0 (h.1 93 0 k) m hi
  | .div (.index u) (.rem .result gs), 0, f, c, x, lo, hi => ∃ k, x = nI k ∧ tD u lo hi h k 32 f c ∧ h.1 90 0 k = nI (tmN gs) ∧ tQR pa h gs 3 0 0 (h.1 93 0 k) (k + 1) hi
  | .null, 1, _, _, x, _, _ => x = 0
  | .elem p ps, 1, _, _, x, lo, hi => ∃ k m, x = nI k ∧ lo ≤ k ∧ k < m ∧ m ≤ hi ∧ tQR pa h p 0 0 0 x lo m ∧ tQR pa h ps 1 0 0 (h.1 94 0 k) m hi
  | .null, 2, _, _, x, _, _ => x = 0
  | .elem (.elem e p) gs, 2, _, _, x, lo, hi => ∃ k u a m1 m2, x = nI k ∧ tM u lo m2 h k 34 ∧ (lo ≤ m1 ∧ m1 ≤ m2 ∧ m2 ≤ hi) ∧ h.1 89 0 k = nI a ∧ tE u lo m1 h e a ∧ tQR pa h p 0 0 0 (h.1 93 0 k) m1 m2 ∧ tQR pa h gs 2 0 0 (h.1 94 0 k) m2 hi
  | .null, 3, _, _, x, _, _ => x = 0
  | .elem (.div (.index u) (.elem e (.elem c (.elem v p)))) gs, 3, _, _, x, lo, hi => ∃ k m1 m2 m3 m4, x = nI k ∧ tM u lo m4 h k 33 ∧ (lo ≤ m1 ∧ m1 ≤ m2 ∧ m2 ≤ m3 ∧ m3 ≤ m4 ∧ m4 ≤ hi) ∧ ((e = .null ∧ h.1 89 0 k = 0) ∨ ∃ a, h.1 89 0 k = nI a ∧ tE u lo m1 h e a) ∧ ((c = .null ∧ h.1 90 0 k = 0 ∧ h.1 91 0 k = 0) ∨ ∃ a b, h.1 90 0 k = nI a ∧ tE u m1 m2 h c a ∧ h.1 91 0 k = nI b ∧ tE u m2 m3 h v b) ∧ tQR pa h p 0 0 0 (h.1 93 0 k) m3 m4 ∧ tQR pa h gs 3 0 0 (h.1 94 0 k) m4 hi
  | _, _, _, _, _, _, _ => False
abbrev tQ (pa : List (List Nat)) (lo hi : Nat) (h : mj_H) (A : Tm) (m f c : Nat) (x : Int32) : Prop := tQR pa h A m f c x lo hi
theorem tD.rg {u lo hi k w f c : Nat} {h : mj_H} (a : tD u lo hi h k w f c) : lo ≤ k ∧ k < hi := sorry
theorem tQ.mv {pa : List (List Nat)} {lo hi lo' hi' : Nat} {h h' : mj_H} (hl : lo' ≤ lo) (hh : hi ≤ hi') (f : tK lo hi h h') : ∀ (A : Tm) (m g c : Nat) (x : Int32), tQ pa lo hi h A m g c x → tQ pa lo' hi' h' A m g c x := sorry
/-- like h but for where a node k lies in its row, and its declarations -/
def tKx (lo hi k : Nat) (h h9 : mj_H) : Prop := ∀ g i j, 87 ≤ g ∧ (g ≤ 96 ∨ g = 100) ∧ lo ≤ j ∧ j < hi ∧ ¬ (j = k ∧ (g = 94 ∨ g = 95 ∨ g = 96)) → h9.1 g i j = h.1 g i j
/-- a statement at k, whatever its declarations will be -/
def tZ (pa : List (List Nat)) (lo hi : Nat) (h : mj_H) (A : Tm) (k : Nat) : Prop := ∀ h9 f c, tKx lo hi k h h9 → h9.1 96 0 k = nI c → (0 < c → h9.1 95 0 k = nI (tw f)) → tQ pa lo hi h9 A 0 f c (nI k)
theorem tZ.mv {pa : List (List Nat)} {lo hi lo' hi' k : Nat} {h h' : mj_H} {A : Tm} (a : tZ pa lo hi h A k) (hl : lo' ≤ lo) (hh : hi ≤ hi') (f : tK lo hi h h') : tZ pa lo' hi' h' A k := sorry
