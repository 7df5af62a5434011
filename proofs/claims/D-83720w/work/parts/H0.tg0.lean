/-! the twin's coder: what is typed -/
/-- n instructions were typed (those above 7000 are lost) -/
def VT (n : Nat) (h : mj_H) : Prop := h.1 15 0 70 = nI (min n 7000) ∧ h.1 15 0 79 = bI (decide (7000 < n))
/-- what typing may change: names from slo to shi, levels above lv, rows of ALTs from al on -/
def fY (s : Nat × Nat × Nat × Nat) (n l : Nat) (h h' : mj_H) : Prop := (∀ g i j, ¬ ((116 ≤ g ∧ g ≤ 119 ∧ n ≤ j) ∨ (g = 122 ∧ l < j) ∨ (g = 15 ∧ (j = 70 ∨ j = 77 ∨ j = 79)) ∨ (g = 85 ∧ s.1 + 2 ≤ j ∧ j < s.2.1 + 2) ∨ (g = 123 ∧ s.2.2.1 < j) ∨ ((g = 128 ∨ g = 129) ∧ 8 * s.2.2.1 ≤ j) ∨ (g = 130 ∧ 8 * s.2.2.2 ≤ j)) → h'.1 g i j = h.1 g i j) ∧ h'.2 = h.2
theorem fY.rf (s : Nat × Nat × Nat × Nat) (n l : Nat) (h : mj_H) : fY s n l h h := sorry
theorem fY.tr {s : Nat × Nat × Nat × Nat} {n l n' l' : Nat} {h h1 h2 : mj_H} (a : fY s n l h h1) (b : fY s n' l' h1 h2) (hn : n ≤ n') (hl : l ≤ l') : fY s n l h h2 := sorry
theorem fY.le {s s' : Nat × Nat × Nat × Nat} {n l n' l' : Nat} {h h1 : mj_H} (a : fY s n l h h1) (hn : n' ≤ n) (hl : l' ≤ l) (q1 : s'.1 ≤ s.1) (q2 : s.2.1 ≤ s'.2.1) (q3 : s'.2.2.1 ≤ s.2.2.1) (q4 : s'.2.2.2 ≤ s.2.2.2) : fY s' n' l' h h1 := sorry
def vlG (lo hi : Nat) (ve : List (Nat × Nat)) (h : mj_H) (l t : Nat) : Prop := (lo < l ∧ l ≤ hi ∧ h.1 122 0 l = nI t) ∨ (l, t) ∈ ve
/-- an instruction; vl: where labels lie -/
def itV (vl : Nat → Nat → Prop) (h : mj_H) (k : Nat) (it : It) : Prop := h.1 116 0 k = nI it.1 ∧
  (it.2.2.1 = 0 → h.1 117 0 k = it.2.1 ∧ h.1 118 0 k = 0 ∧ h.1 119 0 k = 0) ∧
  (it.2.2.1 = 1 → ∃ l, h.1 118 0 k = nI l ∧ (1 ≤ l ∧ l < 20000) ∧ vl l it.2.2.2.1 ∧ h.1 119 0 k = 0) ∧
  (it.2.2.1 = 2 → ∃ l l', h.1 118 0 k = nI l ∧ (1 ≤ l ∧ l < 20000) ∧ vl l it.2.2.2.1 ∧ h.1 119 0 k = nI l' ∧ (1 ≤ l' ∧ l' < 20000) ∧ vl l' it.2.2.2.2) ∧
  (it.2.2.1 = 3 → h.1 118 0 k = h.1 124 0 it.2.2.2.1 ∧ h.1 119 0 k = 0)
theorem itV.mv {k : Nat} {vl vl' : Nat → Nat → Prop} {h h' : mj_H} {it : It} (a : itV vl h k it) (f1 : ∀ g, 116 ≤ g → g ≤ 119 → h'.1 g 0 k = h.1 g 0 k) (f3 : ∀ p, h'.1 124 0 p = h.1 124 0 p) (f2 : ∀ l t, vl l t → vl' l t) : itV vl' h' k it := sorry
def cdV (vl : Nat → Nat → Prop) (h : mj_H) : Nat → List It → Prop
  | _, [] => True
  | k, x :: C => itV vl h k x ∧ cdV vl h (k + 1) C
theorem cdV.mv {vl vl' : Nat → Nat → Prop} {h h' : mj_H} (f3 : ∀ p, h'.1 124 0 p = h.1 124 0 p) (f2 : ∀ l t, vl l t → vl' l t) : ∀ (C : List It) (n : Nat), cdV vl h n C → (∀ g k, 116 ≤ g → g ≤ 119 → n ≤ k → k < n + C.length → h'.1 g 0 k = h.1 g 0 k) → cdV vl' h' n C := sorry
theorem cdV_app {vl : Nat → Nat → Prop} {h : mj_H} {B : List It} : ∀ (A : List It) (n : Nat), cdV vl h n A → cdV vl h (n + A.length) B → cdV vl h n (A ++ B) := sorry
abbrev itG (lo hi : Nat) (ve : List (Nat × Nat)) (h : mj_H) (k : Nat) (it : It) : Prop := itV (vlG lo hi ve h) h k it
abbrev cdG (lo hi : Nat) (ve : List (Nat × Nat)) (h : mj_H) (n : Nat) (C : List It) : Prop := cdV (vlG lo hi ve h) h n C
/-- the state between -/
def KG (n lc : Nat) (h : mj_H) : Prop := VT n h ∧ h.1 15 0 77 = nI lc
def TyG (s : Nat × Nat × Nat × Nat) (n lc : Nat) (ve : List (Nat × Nat)) (C : List It) (lc' : Nat) (h h' : mj_H) : Prop := fY s n lc h h' ∧ KG (n + C.length) lc' h' ∧ lc ≤ lc' ∧ (n + C.length ≤ 7000 → cdG lc lc' ve h' n C)
section
variable {D n n1 lc l1 l2 : Nat} {s : Nat × Nat × Nat × Nat} {ve : List (Nat × Nat)} {A B C : List It} {h h1 h2 : mj_H}
theorem TyG.nil (a : KG n lc h) : TyG s n lc ve [] lc h h := sorry
theorem TyG.ap (a : TyG s n lc ve A l1 h h1) (b : TyG s n1 l1 ve B l2 h1 h2) (hn : n1 = n + A.length) : TyG s n lc ve (A ++ B) l2 h h2 := sorry
theorem TyG.le {s' : Nat × Nat × Nat × Nat} {ve' : List (Nat × Nat)} (a : TyG s n lc ve A l1 h h1) (q1 : s'.1 ≤ s.1) (q2 : s.2.1 ≤ s'.2.1) (q3 : s'.2.2.1 ≤ s.2.2.1) (q4 : s'.2.2.2 ≤ s.2.2.2) (hv : ∀ x ∈ ve, x ∈ ve') : TyG s' n lc ve' A l1 h h1 := sorry
theorem nI_7000 : (7000 : Int32) = nI 7000 := sorry
/-- one instruction -/
theorem g_em0 (hK : KG n lc h) {x1 x2 : Int32} : ∃ h', mj_R mg D mq_295 (0, [(0, vR 15 0), (1, vI x1), (2, vI x2)], [], h) = some (.inl (none, h')) ∧ fY s n lc h h' ∧ KG (n + 1) lc h' ∧ (n < 7000 → h'.1 116 0 n = x1 ∧ h'.1 117 0 n = x2 ∧ h'.1 118 0 n = 0 ∧ h'.1 119 0 n = 0) := sorry
theorem TyG.one {it : It} {h' : mj_H} (a : fY s n lc h h') (b : KG (n + 1) lc h') (c : n < 7000 → itG lc lc ve h' n it) : TyG s n lc ve [it] lc h h' := sorry
theorem g_em (hK : KG n lc h) (f : Nat) (v : Int32) (x1 : Int32) (hx : x1 = nI f) : ∃ h', mj_R mg D mq_295 (0, [(0, vR 15 0), (1, vI x1), (2, vI v)], [], h) = some (.inl (none, h')) ∧ TyG s n lc ve [iV f v] lc h h' := sorry
theorem g_op (hK : KG n lc h) (o : Nat) (x : Int32) (hx : x = nI o) : ∃ h', mj_R mg (D + 1) mq_296 (0, [(0, vR 15 0), (1, vI x)], [], h) = some (.inl (none, h')) ∧ TyG s n lc ve [iO o] lc h h' := sorry
/-- label -/
theorem g_label (hK : KG n lc h) (hl : lc + 1 < 20000) : mj_R mg D mq_297 (0, [(0, vR 15 0)], [], h) = some (.inl (some (vI (nI (lc + 1))), mj_sI h 15 0 77 (nI (lc + 1)))) ∧ KG n (lc + 1) (mj_sI h 15 0 77 (nI (lc + 1))) ∧ fY s n lc h (mj_sI h 15 0 77 (nI (lc + 1))) := sorry
/-- set -/
theorem g_set (hK : KG n lc h) {l : Nat} (hl : l < 20000) : mj_R mg D mq_298 (0, [(0, vR 15 0), (1, vI (nI l))], [], h) = some (.inl (none, mj_sI h 122 0 l (nI (min n 7000)))) ∧ KG n lc (mj_sI h 122 0 l (nI (min n 7000))) := sorry
/-- way -/
theorem g_way0 (hK : KG n lc h) {x1 x2 x3 : Int32} : ∃ h', mj_R mg (D + 1) mq_299 (0, [(0, vR 15 0), (1, vI x1), (2, vI x2), (3, vI x3)], [], h) = some (.inl (none, h')) ∧ fY s n lc h h' ∧ KG (n + 1) lc h' ∧ (n < 7000 → h'.1 116 0 n = x1 ∧ h'.1 118 0 n = x2 ∧ h'.1 119 0 n = x3) := sorry
/-- a way to a label, from behind itself -/
theorem g_jmp (hK : KG n lc h) (f : Nat) (x1 : Int32) (hx : x1 = nI f) {l t : Nat} (hl : 1 ≤ l ∧ l < 20000) (hv : (l, t) ∈ ve) : ∃ h', mj_R mg (D + 1) mq_299 (0, [(0, vR 15 0), (1, vI x1), (2, vI (nI l)), (3, vI 0)], [], h) = some (.inl (none, h')) ∧ TyG s n lc ve [iW f t] lc h h' := sorry
theorem g_wayB (hK : KG n lc h) {l t l' b : Nat} (hl : 1 ≤ l ∧ l < 20000) (hv : (l, t) ∈ ve) (hl' : 1 ≤ l' ∧ l' < 20000) (hv' : (l', b) ∈ ve) : ∃ h', mj_R mg (D + 1) mq_299 (0, [(0, vR 15 0), (1, vI 4), (2, vI (nI l)), (3, vI (nI l'))], [], h) = some (.inl (none, h')) ∧ TyG s n lc ve [iB 4 t b] lc h h' := sorry
/-- a label that was to be placed later is placed -/
theorem TyG.dis {l t n2 : Nat} (a : TyG s n (lc + 1) ((l, t) :: ve) C l1 h h1) (b : fY s n2 lc h1 h2) (b2 : KG (n + C.length) l1 h2) (hn : n + C.length ≤ n2) (hp : n + C.length ≤ 7000 → h2.1 122 0 l = nI t ∧ ∀ j, lc + 1 < j → j ≤ l1 → h2.1 122 0 j = h1.1 122 0 j) (hl : l = lc + 1) : TyG s n lc ve C l1 h h2 := sorry
/-- placed at the end -/
theorem TyG.dsc {t : Nat} {h0 : mj_H} (p : fY s n lc h0 h) (a : TyG s n (lc + 1) ((lc + 1, t) :: ve) C l1 h h1) (ht : t = n + C.length) (b2 : KG (n + C.length) l1 (mj_sI h1 122 0 (lc + 1) (nI (min (n + C.length) 7000)))) : TyG s n lc ve C l1 h0 (mj_sI h1 122 0 (lc + 1) (nI (min (n + C.length) 7000))) := sorry
/-- placed ahead -/
theorem TyG.top {t : Nat} {h0 : mj_H} (p : fY s n lc h0 h) (a : TyG s n (lc + 1) ((lc + 1, t) :: ve) C l1 h h1) (hp : n + C.length ≤ 7000 → h.1 122 0 (lc + 1) = nI t) : TyG s n lc ve C l1 h0 h1 := sorry
end

