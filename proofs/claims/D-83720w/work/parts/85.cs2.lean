/-! the component's reader: processes; what they leave alone, rows of them -/
def gK (lo hi : Nat) (h h' : mj_H) : Prop := (∀ g i j, 23 ≤ g ∧ g ≤ 28 ∧ lo ≤ j ∧ j < hi → h'.1 g i j = h.1 g i j) ∧ True ∧ (∀ g i j, g = 22 ∧ lo ≤ j ∧ j < hi → h'.2.2 g i j = h.2.2 g i j)
theorem gK.rf (lo hi : Nat) (h : mj_H) : gK lo hi h h := sorry
theorem gK.tr {lo hi : Nat} {h h1 h2 : mj_H} (a : gK lo hi h h1) (b : gK lo hi h1 h2) : gK lo hi h h2 := sorry
theorem gK.le {lo hi lo' hi' : Nat} {h h' : mj_H} (a : gK lo hi h h') (hl : lo ≤ lo') (hh : hi' ≤ hi) : gK lo' hi' h h' := sorry
theorem gK.sI {lo hi g i j : Nat} {v : Int32} {h h' : mj_H} (f : gK lo hi h h') : gK lo hi (mj_sI h g i j v) (mj_sI h' g i j v) := sorry
theorem gK_I {lo hi g i j : Nat} {v : Int32} (h : mj_H) (c : ¬ (23 ≤ g ∧ g ≤ 28 ∧ lo ≤ j ∧ j < hi)) : gK lo hi h (mj_sI h g i j v) := sorry
theorem rN.mvK {u lo hi lo' hi' k w : Nat} {h h' : mj_H} (a : rN u lo hi h k w) (hl : lo' ≤ lo) (hh : hi ≤ hi') (f : gK lo hi h h') : rN u lo' hi' h' k w := sorry
theorem rE.mvK {u lo hi lo' hi' : Nat} {h h' : mj_H} (hl : lo' ≤ lo) (hh : hi ≤ hi') (f : gK lo hi h h') : ∀ (e : Tm) (k : Nat), rE u lo hi h e k → rE u lo' hi' h' e k := sorry
theorem nA.mvK {u lo lo' hi hi' : Nat} {h h' : mj_H} {a : Tm} {k : Nat} (x : nA u lo hi h a k) (hl : lo' ≤ lo) (hh : hi ≤ hi') (f : gK lo hi h h') : nA u lo' hi' h' a k := sorry
theorem rAs.mvK {u lo hi lo' hi' : Nat} {h h' : mj_H} (hl : lo' ≤ lo) (hh : hi ≤ hi') (f : gK lo hi h h') : ∀ (e : Tm) (x : Int32), rAs u lo hi h e x → rAs u lo' hi' h' e x := sorry
theorem rQ.mvK {lo hi lo' hi' : Nat} {h h' : mj_H} (hl : lo' ≤ lo) (hh : hi ≤ hi') (f : gK lo hi h h') : ∀ (A : Tm) (m : Nat) (x : Int32), rQ lo hi h A m x → rQ lo' hi' h' A m x := sorry
/-! rows: members N, each in a range of its own; what is behind a member in the row does not matter to it -/
abbrev mem := mj_H → Nat → Nat → Tm → Nat → Prop
def mvN (N : mem) : Prop := ∀ lo hi lo' hi' h h' a k, lo' ≤ lo → hi ≤ hi' → gK lo hi h h' → N h lo hi a k → N h' lo' hi' a k
def zN (N : mem) (h : mj_H) (lo hi : Nat) (a : Tm) (k : Nat) : Prop := N h lo hi a k ∧ ∀ v, N (mj_sI h 27 0 k v) lo hi a k
theorem zN.mv {N : mem} (hN : mvN N) {lo hi lo' hi' k : Nat} {h h' : mj_H} {a : Tm} (x : zN N h lo hi a k) (hl : lo' ≤ lo) (hh : hi ≤ hi') (f : gK lo hi h h') : zN N h' lo' hi' a k := sorry
theorem sI_sI (h : mj_H) (g i j : Nat) (v w : Int32) : mj_sI (mj_sI h g i j v) g i j w = mj_sI h g i j w := sorry
theorem zN.s27 {N : mem} {lo hi k : Nat} {w : Int32} {h : mj_H} {a : Tm} (x : zN N h lo hi a k) : zN N (mj_sI h 27 0 k w) lo hi a k := sorry
/-- a row from x on, the last member l, all between lo and hi -/
def rowN (N : mem) (h : mj_H) : Nat → List Tm → Int32 → Nat → Nat → Prop
  | _, [], _, _, _ => False
  | lo, [a], x, l, hi => x = nI l ∧ lo ≤ l ∧ l < hi ∧ zN N h lo hi a l ∧ h.1 27 0 l = -1
  | lo, a :: b :: r, x, l, hi => ∃ k m, x = nI k ∧ lo ≤ k ∧ k < m ∧ zN N h lo m a k ∧ rowN N h m (b :: r) (h.1 27 0 k) l hi
theorem rowN_rng {N : mem} {h : mj_H} : ∀ {as : List Tm} {lo : Nat} {x : Int32} {l hi : Nat}, rowN N h lo as x l hi → lo ≤ l ∧ l < hi := sorry
theorem rowN_mv {N : mem} (hN : mvN N) {h h' : mj_H} : ∀ {as : List Tm} {lo : Nat} {x : Int32} {l hi : Nat}, rowN N h lo as x l hi → gK lo hi h h' → rowN N h' lo as x l hi := sorry
/-- one more behind the last -/
theorem rowN_app {N : mem} (hN : mvN N) {h : mj_H} {b : Tm} {k2 hi2 : Nat} : ∀ {as : List Tm} {lo : Nat} {x : Int32} {l hi : Nat}, rowN N h lo as x l hi → zN N h hi hi2 b k2 → hi ≤ k2 → k2 < hi2 → h.1 27 0 k2 = -1 → rowN N (mj_sI h 27 0 l (nI k2)) lo (as ++ [b]) x k2 hi2 := sorry
def nP : mem := fun h lo hi a k => rQ lo hi h a 0 (nI k)
theorem nP_mv : mvN nP := sorry
theorem row_1 {h : mj_H} : ∀ {as : List Tm} {lo : Nat} {x : Int32} {l hi : Nat}, rowN nP h lo as x l hi → ∀ lo', lo' ≤ lo → rQ lo' hi h (tmL as) 1 x := sorry
/-- a choice: its expression, its process -/
def nC : mem := fun h lo hi a k => match a with
  | .elem e p => ∃ u j, rN u lo hi h k 14 ∧ h.1 23 0 k = nI j ∧ rE u lo hi h e j ∧ rQ (k + 1) hi h p 0 (h.1 25 0 k)
  | _ => False
theorem nC_mv : mvN nC := sorry
theorem row_2 {h : mj_H} : ∀ {as : List Tm} {lo : Nat} {x : Int32} {l hi : Nat}, rowN nC h lo as x l hi → ∀ lo', lo' ≤ lo → rQ lo' hi h (tmL as) 2 x := sorry
/-- a guard with its process -/
def nG : mem := fun h lo hi a k => match a with
  | .div (.index u) (.elem e (.elem c (.elem v p))) => rN u lo hi h k 14 ∧ ((e = .null ∧ h.1 23 0 k = -1) ∨ ∃ a, h.1 23 0 k = nI a ∧ rE u lo hi h e a) ∧ ((c = .null ∧ h.1 24 0 k = -1) ∨ ∃ a b, h.1 24 0 k = nI a ∧ rE u lo hi h c a ∧ h.1 26 0 k = nI b ∧ rE u lo hi h v b) ∧ rQ (k + 1) hi h p 0 (h.1 25 0 k)
  | _ => False
theorem nG_mv : mvN nG := sorry
theorem row_3 {h : mj_H} : ∀ {as : List Tm} {lo : Nat} {x : Int32} {l hi : Nat}, rowN nG h lo as x l hi → ∀ lo', lo' ≤ lo → rQ lo' hi h (tmL as) 3 x := sorry
