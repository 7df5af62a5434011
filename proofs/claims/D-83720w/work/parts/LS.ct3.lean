/-! the twin compiles: compile -/
/-- what compiling leaves alone -/
def gTm (h h' : mj_H) : Prop := (∀ g i j, ¬ (g = 15 ∨ 73 ≤ g) → h'.1 g i j = h.1 g i j) ∧ (∀ g i j, ¬ (g = 15 ∨ g = 78) → h'.2.1 g i j = h.2.1 g i j) ∧ h'.2.2 = h.2.2
theorem gTm.tr {h h1 h2 : mj_H} (a : gTm h h1) (b : gTm h1 h2) : gTm h h2 := ⟨fun g i j c => (b.1 g i j c).trans (a.1 g i j c), fun g i j c => (b.2.1 g i j c).trans (a.2.1 g i j c), b.2.2.trans a.2.2⟩
theorem gTm.e {h h' : mj_H} (a : ∀ g i j, ¬ (g = 15 ∨ 73 ≤ g) → h'.1 g i j = h.1 g i j) (b : h'.2 = h.2) : gTm h h' := ⟨a, fun g i j _ => by rw [b], by rw [b]⟩
theorem gTm.s {h : mj_H} {g i j : Nat} {v : Int32} (c : g = 15 ∨ 73 ≤ g) : gTm h (mj_sI h g i j v) := gTm.e (fun g' i' j' c' => by rw [mI_1, if_neg (by omega)]) rfl
/-- inputs and outputs as the system holds them -/
def tIO (S : Sy) (h : mj_H) : Prop := (∀ x, x < 200 → h.1 150 0 x = S.2.1.2.2.1 x) ∧ ∀ x, x < 1000 → h.1 151 0 x = S.2.1.2.2.2 x
theorem tIO.mv {S : Sy} {h h' : mj_H} (a : tIO S h) (f : ∀ g j, g = 150 ∨ g = 151 → h'.1 g 0 j = h.1 g 0 j) : tIO S h' := ⟨fun x hx => (f 150 x (by omega)).trans (a.1 x hx), fun x hx => (f 151 x (by omega)).trans (a.2 x hx)⟩
def tW68 (h : mj_H) : Prop := ∃ w, h.1 15 0 68 = wI w ∧ ∀ p, w = some p → p ≤ 5
theorem tW68.mv {h h' : mj_H} (a : tW68 h) (f : h'.1 15 0 68 = h.1 15 0 68) : tW68 h' := by
  obtain ⟨w, a1, a2⟩ := a
  exact ⟨w, f.trans a1, a2⟩
def tFt (f : Int32 × Int32 × Int32) (h : mj_H) : Prop := h.1 15 0 16 = f.1 ∧ h.1 15 0 17 = f.2.1 ∧ h.1 15 0 18 = f.2.2
def tRs (S : Sy) (v : Option mj_V) (h' : mj_H) : Sum (Int32 × Int32 × Int32) Pg → Prop
  | .inl f => v = some (vI (-1)) ∧ h'.1 15 0 58 = 0 ∧ tFt f h' ∧ tIO S h'
  | .inr q => v = some (vI (nI (nPr q.2.2.2.1 6))) ∧ tFt (0, -1, -1) h' ∧ YG (gQ q) h' ∧ YB (gQ q) (bQ q) h' ∧ YT (gQ q) (sBeg (gQ q) (bQ q) S) h' ∧ h'.1 15 0 28 = nI q.2.2.2.2.1.length ∧ h'.1 15 0 46 = nI q.1.length
/-- the loop that clears the roots -/
theorem t_clr {D : Nat} : ∀ m k h, k + m = 6 → ∃ h', mj_R mg (D + 1) mq_319 (62, [(1, vI (nI k)), (0, vR 15 0)], [], h) = mj_R mg (D + 1) mq_319 (62, [(1, vI (nI 6)), (0, vR 15 0)], [], h') ∧ (∀ p, k ≤ p → p < 6 → h'.1 108 0 p = 0) ∧ (∀ g i j, ¬ (g = 108 ∧ k ≤ j) → h'.1 g i j = h.1 g i j) ∧ h'.2 = h.2 := by
  intro m
  induction m with
  | zero =>
    intro k h hk
    have e : k = 6 := by omega
    subst e
    exact ⟨h, rfl, fun p h1 h2 => by omega, fun _ _ _ _ => rfl, rfl⟩
  | succ m ih =>
    intro k h hk
    have ik : mj_in (nI k) 6 := (in_nI (by omega)).mpr (by omega)
    have ck : (nI k).toNatClampNeg = k := nI_clamp (by omega)
    obtain ⟨h', e1, e2, e3, e4⟩ := ih (k + 1) (mj_sI h 108 0 k 0) (by omega)
    refine ⟨h', ?_, fun p h1 h2 => ?_, fun g i j c => ?_, e4⟩
    · rw [q_319_62, if_neg (show ¬ (6 : Int32) ≤ nI k from nI_ge (show k < 6 by omega) (by decide : (6 : Nat) < 2 ^ 31)), if_pos ik, ck, k_1, nI_add]
      exact e1
    · by_cases e : p = k
      · subst e
        rw [e3 108 0 p (by omega), mI_1, if_pos ⟨rfl, rfl, rfl⟩]
      · exact e2 p (by omega) h2
    · rw [e3 g i j (by omega), mI_1, if_neg (by omega)]
