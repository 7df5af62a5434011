/-! parts that stand for processes -/
def rAs (u lo hi : Nat) (h : mj_H) : Tm → Int32 → Prop
  | .null, x => x = -1
  | .elem a r, x => ∃ k, x = nI k ∧ nA u lo hi h a k ∧ rAs u lo hi h r (h.1 27 0 k)
  | _, _ => False
theorem rAs.mv {u lo hi lo' hi' : Nat} {h h' : mj_H} (hl : lo' ≤ lo) (hh : hi ≤ hi') (f : gF hi h h') : ∀ (e : Tm) (x : Int32), rAs u lo hi h e x → rAs u lo' hi' h' e x := sorry
theorem chn_As {u lo hi : Nat} {h : mj_H} : ∀ (as : List Tm) (lb : Nat) (x : Int32), chn (nA u lo hi h) (fun k => h.1 27 0 k) lb as x → rAs u lo hi h (tmL as) x := sorry
/-- 0: a process; 1: a row of processes; 2: of choices; 3: of guards -/
def rQR (h : mj_H) : Tm → Nat → Int32 → Nat → Nat → Prop
  | .div (.index u) .null, 0, x, lo, hi => ∃ k, x = nI k ∧ rN u lo hi h k 0
  | .div (.index u) .result, 0, x, lo, hi => ∃ k, x = nI k ∧ rN u lo hi h k 1
  | .div (.index u) (.add v e), 0, x, lo, hi => ∃ k a b, x = nI k ∧ rN u lo hi h k 2 ∧ h.1 23 0 k = nI a ∧ h.1 24 0 k = nI b ∧ rE u lo hi h v a ∧ rE u lo hi h e b
  | .div (.index u) (.sub v e), 0, x, lo, hi => ∃ k a b, x = nI k ∧ rN u lo hi h k 3 ∧ h.1 23 0 k = nI a ∧ h.1 24 0 k = nI b ∧ rE u lo hi h v a ∧ rE u lo hi h e b
  | .div (.index u) (.mul v e), 0, x, lo, hi => ∃ k a b, x = nI k ∧ rN u lo hi h k 4 ∧ h.1 23 0 k = nI a ∧ h.1 24 0 k = nI b ∧ rE u lo hi h v a ∧ rE u lo hi h e b
  | .div (.index u) (.elem (.index p) as), 0, x, lo, hi => ∃ k, x = nI k ∧ rN u lo hi h k 5 ∧ h.1 26 0 k = nI p ∧ rAs u lo hi h as (h.1 23 0 k)
  | .div (.index u) (.length ps), 0, x, lo, hi => ∃ k, x = nI k ∧ rN u lo hi h k 6 ∧ rQR h ps 1 (h.1 23 0 k) (k + 1) hi
  | .div (.index u) (.rem (.arg s) (.elem (.elem e1 e2) p)), 0, x, lo, hi => ∃ k a b, x = nI k ∧ rN u lo hi h k 7 ∧ h.1 26 0 k = nI s ∧ h.1 23 0 k = nI a ∧ h.1 24 0 k = nI b ∧ rE u lo hi h e1 a ∧ rE u lo hi h e2 b ∧ rQR h p 0 (h.1 25 0 k) (k + 1) hi
  | .div (.index u) (.sum (.elem (.index z0) ps)), 0, x, lo, hi => ∃ k, x = nI k ∧ rN u lo hi h k 8 ∧ rQR h ps 1 (h.1 23 0 k) (k + 1) hi
  | .div (.index u) (.rem (.index s) (.elem (.elem (.index b) (.index m)) p)), 0, x, lo, hi => ∃ k, x = nI k ∧ rN u lo hi h k 9 ∧ h.1 26 0 k = nI s ∧ h.1 23 0 k = nI b ∧ h.1 24 0 k = nI m ∧ rQR h p 0 (h.1 25 0 k) (k + 1) hi
  | .div (.index u) (.old (.elem (.index z0) ps)), 0, x, lo, hi => ∃ k, x = nI k ∧ rN u lo hi h k 10 ∧ rQR h ps 1 (h.1 23 0 k) (k + 1) hi
  | .div (.index u) (.rem .null gs), 0, x, lo, hi => ∃ k, x = nI k ∧ rN u lo hi h k 11 ∧ rQR h gs 2 (h.1 23 0 k) (k + 1) hi
  | .div (.index u) (.div e p), 0, x, lo, hi => ∃ k a, x = nI k ∧ rN u lo hi h k 12 ∧ h.1 23 0 k = nI a ∧ rE u lo hi h e a ∧ rQR h p 0 (h.1 24 0 k) (k + 1) hi
  | .div (.index u) (.rem .result gs), 0, x, lo, hi => ∃ k, x = nI k ∧ rN u lo hi h k 13 ∧ rQR h gs 3 (h.1 23 0 k) (k + 1) hi
  | .div (.index u) (.rem (.elem (.index s) (.index c)) p), 0, x, lo, hi => ∃ k, x = nI k ∧ rN u lo hi h k 15 ∧ h.1 26 0 k = nI s ∧ h.1 24 0 k = nI c ∧ rQR h p 0 (h.1 23 0 k) (k + 1) hi
  | .null, 1, x, _, _ => x = -1
  | .elem p ps, 1, x, lo, hi => ∃ k m, x = nI k ∧ lo ≤ k ∧ k < m ∧ m ≤ hi ∧ rQR h p 0 x lo m ∧ rQR h ps 1 (h.1 27 0 k) m hi
  | .null, 2, x, _, _ => x = -1
  | .elem (.elem e p) gs, 2, x, lo, hi => ∃ k u a m, x = nI k ∧ rN u lo m h k 14 ∧ m ≤ hi ∧ h.1 23 0 k = nI a ∧ rE u lo m h e a ∧ rQR h p 0 (h.1 25 0 k) (k + 1) m ∧ rQR h gs 2 (h.1 27 0 k) m hi
  | .null, 3, x, _, _ => x = -1
  | .elem (.div (.index u) (.elem e (.elem c (.elem v p)))) gs, 3, x, lo, hi => ∃ k m, x = nI k ∧ rN u lo m h k 14 ∧ m ≤ hi ∧ ((e = .null ∧ h.1 23 0 k = -1) ∨ ∃ a, h.1 23 0 k = nI a ∧ rE u lo m h e a) ∧ ((c = .null ∧ h.1 24 0 k = -1) ∨ ∃ a b, h.1 24 0 k = nI a ∧ rE u lo m h c a ∧ h.1 26 0 k = nI b ∧ rE u lo m h v b) ∧ rQR h p 0 (h.1 25 0 k) (k + 1) m ∧ rQR h gs 3 (h.1 27 0 k) m hi
  | _, _, _, _, _ => False
abbrev rQ (lo hi : Nat) (h : mj_H) (A : Tm) (m : Nat) (x : Int32) : Prop := rQR h A m x lo hi
theorem gF.at {hi k g : Nat} {h h' : mj_H} (f : gF hi h h') (hk : k < hi) : h'.1 g 0 k = h.1 g 0 k ∨ g = 6 ∨ g = 5 ∨ g = 4 := sorry
theorem rQ.mv {lo hi lo' hi' : Nat} {h h' : mj_H} (hl : lo' ≤ lo) (hh : hi ≤ hi') (f : gF hi h h') : ∀ (A : Tm) (m : Nat) (x : Int32), rQ lo hi h A m x → rQ lo' hi' h' A m x := sorry
