/-! the twin measures: expressions -/
/-- an expression with the words of its parts: f is free -/
def tEF (u : Nat) (h : mj_H) : Tm → Nat → Nat → Nat → Nat → Prop
  | .int v, lo, hi, k, _ => tM u lo hi h k 1 ∧ h.1 89 0 k = v
  | .arg s, lo, hi, k, _ => tM u lo hi h k 2 ∧ h.1 89 0 k = nI (tw s) ∧ s < 202
  | .elem (.arg s) e, lo, hi, k, f => tM u lo hi h k 3 ∧ h.1 89 0 k = nI (tw s) ∧ s < 202 ∧ ∃ l, h.1 90 0 k = nI l ∧ tEF u h e lo k l f
  | .length e, lo, hi, k, f => tM u lo hi h k 5 ∧ ∃ l, h.1 89 0 k = nI l ∧ tEF u h e lo k l f
  | .sum e, lo, hi, k, f => tM u lo hi h k 6 ∧ ∃ l, h.1 89 0 k = nI l ∧ tEF u h e lo k l f
  | .old e, lo, hi, k, f => tM u lo hi h k 7 ∧ ∃ l, h.1 89 0 k = nI l ∧ tEF u h e lo k l f
  | .add (.index o) (.sub x y), lo, hi, k, f => ∃ m, tM u lo hi h k 4 ∧ h.1 89 0 k = nI (opT o) ∧ lo ≤ m ∧ m ≤ k ∧ ∃ l r, h.1 90 0 k = nI l ∧ h.1 91 0 k = nI r ∧ (if o = 65 ∨ o = 79 ∨ smp y = true then tEF u h x lo m l f ∧ tEF u h y m k r f else tEF u h x lo m l (f + 1) ∧ tEF u h y m k r f ∧ h.1 97 0 k = nI f)
  | _, _, _, _, _ => False
/-- nodes with the words of expressions -/
def tK7 (lo hi : Nat) (h h' : mj_H) : Prop := ∀ g i j, 87 ≤ g ∧ (g ≤ 97 ∨ g = 100) ∧ lo ≤ j ∧ j < hi → h'.1 g i j = h.1 g i j
theorem tK7.le {lo hi lo' hi' : Nat} {h h' : mj_H} (a : tK7 lo hi h h') (hl : lo ≤ lo') (hh : hi' ≤ hi) : tK7 lo' hi' h h' := sorry
theorem tK7.k {lo hi : Nat} {h h' : mj_H} (a : tK7 lo hi h h') : tK lo hi h h' := sorry
theorem tEF.mv {u lo hi lo' hi' : Nat} {h h' : mj_H} (hl : lo' ≤ lo) (hh : hi ≤ hi') (f : tK7 lo hi h h') : ∀ (e : Tm) (k q : Nat), tEF u h e lo hi k q → tEF u h' e lo' hi' k q := sorry
/-- what measuring may change: words of nodes from lo to hi, the most -/
def tX9 (lo hi : Nat) (h h' : mj_H) : Prop := (∀ g i j, ¬ ((g = 15 ∧ j = 59) ∨ (g = 97 ∧ lo ≤ j ∧ j < hi)) → h'.1 g i j = h.1 g i j) ∧ h'.2 = h.2
theorem tX9.rf (lo hi : Nat) (h : mj_H) : tX9 lo hi h h := sorry
theorem tX9.tr {lo hi : Nat} {h h1 h2 : mj_H} (a : tX9 lo hi h h1) (b : tX9 lo hi h1 h2) : tX9 lo hi h h2 := sorry
theorem tX9.le {lo hi lo' hi' : Nat} {h h' : mj_H} (a : tX9 lo hi h h') (hl : lo' ≤ lo) (hh : hi ≤ hi') : tX9 lo' hi' h h' := sorry
theorem tX9.w {lo hi a b : Nat} {h h' : mj_H} (f : tX9 lo hi h h') (hd : b ≤ lo ∨ hi ≤ a) : tK7 a b h h' := sorry
/-- pointers are as they were -/
theorem tX9.e {lo hi a b : Nat} {h h' : mj_H} (f : tX9 lo hi h h') : tKe a b h h' := sorry
theorem t_reach {d a b : Nat} {h : mj_H} (h59 : h.1 15 0 59 = nI a) (ha : a < 2 ^ 31) (hb : b < 2 ^ 31) : mj_R mg d mq_266 (0, [(0, vR 15 0), (1, vI (nI b))], [], h) = some (.inl (none, mj_sI h 15 0 59 (nI (max a b)))) := sorry
def eKt : Tm → Nat
  | .int _ => 1
  | .arg _ => 2
  | .elem _ _ => 3
  | .add _ _ => 4
  | .length _ => 5
  | .sum _ => 6
  | .old e => eKt e
  | _ => 0
theorem t_bare1 {u d : Nat} {x1 : Int32} {h : mj_H} : ∀ (e : Tm) (lo hi k : Nat), tE u lo hi h e k → hi ≤ 7000 → ∃ j, mj_R mg d mq_268 (2, [(2, vI (nI k)), (0, vR 15 0), (1, vI x1)], [], h) = some (.inl (some (vI (nI j)), h)) ∧ tM u lo hi h j (eKt e) ∧ smp e = (eKt e == 1 || eKt e == 2) ∧ 1 ≤ eKt e ∧ eKt e < 7 := sorry
theorem t_bare {u lo hi k d : Nat} {h : mj_H} {e : Tm} (a : tE u lo hi h e k) (hh : hi ≤ 7000) : ∃ j, mj_R mg d mq_268 (0, [(0, vR 15 0), (1, vI (nI k))], [], h) = some (.inl (some (vI (nI j)), h)) ∧ tM u lo hi h j (eKt e) ∧ mj_R mg d mq_267 (0, [(0, vI (nI (eKt e)))], [], h) = some (.inl (some (vI (bI (smp e))), h)) := sorry
def qF (u lo hi k f most : Nat) (e : Tm) (h h' : mj_H) : Prop := tX9 lo hi h h' ∧ tEF u h' e lo hi k f ∧ h'.1 15 0 59 = nI (max most (f + exw e))
theorem opT_b : ∀ {o : Nat}, (∃ k, isO k = true ∧ opC k = o) → (nI (opT o) = 17 ↔ o = 65) ∧ (nI (opT o) = 18 ↔ o = 79) := sorry
theorem t_mexp {u : Nat} {sy : List Sym} {vis : List Nat} : ∀ (e : Tm) (lo hi k : Nat) (h : mj_H) (f most : Nat), tE u lo hi h e k → wfE sy vis e → eH e ≤ 100 → hi ≤ 7000 → h.1 15 0 59 = nI most → f ≤ most → ∀ B, most ≤ B → f + eH e ≤ B → B < 2 ^ 31 → ∀ D, eH e + 10 ≤ D → mP (mj_R mg D mq_269 (0, [(0, vR 15 0), (1, vI (nI k)), (2, vI (nI f))], [], h)) (fun v h' => v = none ∧ qF u lo hi k f most e h h') := sorry
