/-! the component's coder: what is typed -/
/-- n instructions were typed (those above 6000 are lost) -/
def VS (n : Nat) (h : mj_H) : Prop := h.1 10 0 7 = nI (min n 6000) ∧ h.1 10 0 14 = bI (decide (6000 < n))
/-- what typing from n on, with labels from l on, may change; s: names from s.1 to s.2.1, levels above s.2.2 -/
def kF (s : Nat × Nat × Nat) (n l : Nat) (h h' : mj_H) : Prop := (∀ g i j, ¬ ((58 ≤ g ∧ g ≤ 62 ∧ n ≤ j) ∨ (g = 64 ∧ l ≤ j) ∨ (g = 10 ∧ (j = 7 ∨ j = 9 ∨ j = 13 ∨ j = 14)) ∨ ((g = 35 ∨ g = 36) ∧ s.1 ≤ j ∧ j < s.2.1) ∨ (g = 66 ∧ s.2.2 < j)) → h'.1 g i j = h.1 g i j) ∧ h'.2 = h.2
theorem kF.rf (s : Nat × Nat × Nat) (n l : Nat) (h : mj_H) : kF s n l h h := sorry
theorem kF.tr {s : Nat × Nat × Nat} {n l n' l' : Nat} {h h1 h2 : mj_H} (a : kF s n l h h1) (b : kF s n' l' h1 h2) (hn : n ≤ n') (hl : l ≤ l') : kF s n l h h2 := sorry
theorem kF.le {s s' : Nat × Nat × Nat} {n l n' l' : Nat} {h h1 : mj_H} (a : kF s n l h h1) (hn : n' ≤ n) (hl : l' ≤ l) (q1 : s'.1 ≤ s.1) (q2 : s.2.1 ≤ s'.2.1) (q3 : s'.2.2 ≤ s.2.2) : kF s' n' l' h h1 := sorry
def vlC (lo hi : Nat) (ve : List (Nat × Nat)) (h : mj_H) (l t : Nat) : Prop := (lo ≤ l ∧ l < hi ∧ h.1 64 0 l = nI t) ∨ (l, t) ∈ ve
/-- an instruction; ve: labels that are placed later -/
def itC (lo hi : Nat) (ve : List (Nat × Nat)) (h : mj_H) (k : Nat) (it : It) : Prop := h.1 58 0 k = nI it.1 ∧
  (it.2.2.1 = 0 → h.1 59 0 k = it.2.1 ∧ h.1 60 0 k = -1 ∧ h.1 62 0 k = nI (lnV it.2.1)) ∧
  (it.2.2.1 = 1 → ∃ l, h.1 60 0 k = nI l ∧ l < 12000 ∧ vlC lo hi ve h l it.2.2.2.1 ∧ h.1 61 0 k = -1 ∧ h.1 62 0 k = 1) ∧
  (it.2.2.1 = 2 → ∃ l l', h.1 60 0 k = nI l ∧ l < 12000 ∧ vlC lo hi ve h l it.2.2.2.1 ∧ h.1 61 0 k = nI l' ∧ l' < 12000 ∧ vlC lo hi ve h l' it.2.2.2.2 ∧ h.1 62 0 k = 1) ∧
  (it.2.2.1 = 3 → h.1 60 0 k = h.1 65 0 it.2.2.2.1 ∧ h.1 61 0 k = -1 ∧ h.1 62 0 k = 1)
theorem itC.mv {lo hi lo' hi' k : Nat} {ve ve' : List (Nat × Nat)} {h h' : mj_H} {it : It} (a : itC lo hi ve h k it) (f1 : ∀ g, 58 ≤ g → g ≤ 62 → h'.1 g 0 k = h.1 g 0 k) (f3 : ∀ p, h'.1 65 0 p = h.1 65 0 p) (f2 : ∀ l t, vlC lo hi ve h l t → vlC lo' hi' ve' h' l t) : itC lo' hi' ve' h' k it := sorry
def cdC (lo hi : Nat) (ve : List (Nat × Nat)) (h : mj_H) : Nat → List It → Prop
  | _, [] => True
  | k, x :: C => itC lo hi ve h k x ∧ cdC lo hi ve h (k + 1) C
theorem cdC.mv {lo hi lo' hi' : Nat} {ve ve' : List (Nat × Nat)} {h h' : mj_H} (f3 : ∀ p, h'.1 65 0 p = h.1 65 0 p) (f2 : ∀ l t, vlC lo hi ve h l t → vlC lo' hi' ve' h' l t) : ∀ (C : List It) (n : Nat), cdC lo hi ve h n C → (∀ g k, 58 ≤ g → g ≤ 62 → n ≤ k → k < n + C.length → h'.1 g 0 k = h.1 g 0 k) → cdC lo' hi' ve' h' n C := sorry
theorem cdC_app {lo hi : Nat} {ve : List (Nat × Nat)} {h : mj_H} {B : List It} : ∀ (A : List It) (n : Nat), cdC lo hi ve h n A → cdC lo hi ve h (n + A.length) B → cdC lo hi ve h n (A ++ B) := sorry
/-- the state between -/
def CK (n lc f : Nat) (h : mj_H) : Prop := VS n h ∧ h.1 10 0 9 = nI lc ∧ h.1 10 0 13 = nI f
/-- C was typed at n, with labels from lc to lc' -/
def TyC (s : Nat × Nat × Nat) (n lc : Nat) (ve : List (Nat × Nat)) (C : List It) (lc' f : Nat) (h h' : mj_H) : Prop := kF s n lc h h' ∧ CK (n + C.length) lc' f h' ∧ lc ≤ lc' ∧ (n + C.length ≤ 6000 → cdC lc lc' ve h' n C)
theorem TyC.nil {s : Nat × Nat × Nat} {n lc f : Nat} {ve : List (Nat × Nat)} {h : mj_H} (a : CK n lc f h) : TyC s n lc ve [] lc f h h := sorry
theorem TyC.ap {s : Nat × Nat × Nat} {n n1 lc l1 l2 f f2 : Nat} {ve : List (Nat × Nat)} {A B : List It} {h h1 h2 : mj_H} (a : TyC s n lc ve A l1 f h h1) (b : TyC s n1 l1 ve B l2 f2 h1 h2) (hn : n1 = n + A.length) : TyC s n lc ve (A ++ B) l2 f2 h h2 := sorry
theorem TyC.le {s s' : Nat × Nat × Nat} {n lc l1 f : Nat} {ve ve' : List (Nat × Nat)} {A : List It} {h h1 : mj_H} (a : TyC s n lc ve A l1 f h h1) (q1 : s'.1 ≤ s.1) (q2 : s.2.1 ≤ s'.2.1) (q3 : s'.2.2 ≤ s.2.2) (hv : ∀ x ∈ ve, x ∈ ve') : TyC s' n lc ve' A l1 f h h1 := sorry
theorem nI_6000 : (6000 : Int32) = nI 6000 := sorry
theorem in_n {k N : Nat} (h : k < N) (hN : N < 2 ^ 31) : mj_in (nI k) N := sorry
/-- one instruction -/
theorem c_way {D n lc f : Nat} {s : Nat × Nat × Nat} {h : mj_H} (hK : CK n lc f h) {x1 x2 x3 x4 : Int32} : ∃ h', mj_R mg (D + 1) mq_129 (0, [(0, vR 10 0), (1, vI x1), (2, vI x2), (3, vI x3), (4, vI x4)], [], h) = some (.inl (none, h')) ∧ kF s n lc h h' ∧ CK (n + 1) lc f h' ∧
    (n < 6000 → h'.1 58 0 n = x1 ∧ h'.1 59 0 n = x2 ∧ h'.1 60 0 n = x3 ∧ h'.1 61 0 n = x4 ∧ h'.1 62 0 n = if x3 = -1 then nI (lnV x2) else 1) := sorry
section
variable {D n lc fr : Nat} {s : Nat × Nat × Nat} {ve : List (Nat × Nat)} {h : mj_H}
theorem TyC.one {it : It} {h' : mj_H} (a : kF s n lc h h') (b : CK (n + 1) lc fr h') (c : n < 6000 → itC lc lc ve h' n it) : TyC s n lc ve [it] lc fr h h' := sorry
/-- emit -/
theorem c_emit (hK : CK n lc fr h) {f : Nat} {v : Int32} : ∃ h', mj_R mg (D + 2) mq_127 (0, [(0, vR 10 0), (1, vI (nI f)), (2, vI v)], [], h) = some (.inl (none, h')) ∧ TyC s n lc ve [iV f v] lc fr h h' := sorry
/-- operate -/
theorem c_opr (hK : CK n lc fr h) {o : Nat} : ∃ h', mj_R mg (D + 3) mq_128 (0, [(0, vR 10 0), (1, vI (nI o))], [], h) = some (.inl (none, h')) ∧ TyC s n lc ve [iO o] lc fr h h' := sorry
/-- jump -/
theorem c_jump (hK : CK n lc fr h) {f l t : Nat} (hl : l < 12000) (hv : (l, t) ∈ ve) : ∃ h', mj_R mg (D + 2) mq_132 (0, [(0, vR 10 0), (1, vI (nI f)), (2, vI (nI l))], [], h) = some (.inl (none, h')) ∧ TyC s n lc ve [iW f t] lc fr h h' := sorry
/-- label -/
theorem c_label (hK : CK n lc fr h) (hl : lc < 12000) : mj_R mg D mq_130 (0, [(0, vR 10 0)], [], h) = some (.inl (some (vI (nI lc)), mj_sI h 10 0 9 (nI (lc + 1)))) ∧ CK n (lc + 1) fr (mj_sI h 10 0 9 (nI (lc + 1))) := sorry
/-- place -/
theorem c_place {f : Nat} (hK : CK n lc f h) {l : Nat} (hl : l < 12000) : mj_R mg D mq_131 (0, [(0, vR 10 0), (1, vI (nI l))], [], h) = some (.inl (none, mj_sI h 64 0 l (nI (min n 6000)))) ∧ CK n lc f (mj_sI h 64 0 l (nI (min n 6000))) := sorry
/-- a label that was to be placed later is placed -/
theorem TyC.dis {l t l1 n2 : Nat} {C : List It} {h1 h2 : mj_H} (a : TyC s n lc ((l, t) :: ve) C l1 fr h h1) (b : kF s n2 l h1 h2) (b2 : CK (n + C.length) l1 fr h2) (hn : n + C.length ≤ n2) (hp : n + C.length ≤ 6000 → h2.1 64 0 l = nI t ∧ ∀ j, lc ≤ j → j < l1 → h2.1 64 0 j = h1.1 64 0 j) (hl : l < lc) : TyC s n l ve C l1 fr h h2 := sorry
end

