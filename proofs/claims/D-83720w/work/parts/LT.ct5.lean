/-! the twin reads; what it keeps -/
theorem t_read17 {t : Nat → Nat} {n D : Nat} {h : mj_H} (hQ : TQ t n h (txL t n)) (c16 : h.1 15 0 16 = 0) (c19 : h.1 15 0 19 = 0) (c28 : h.1 15 0 28 = 0) (c29 : h.1 15 0 29 = 0) (c31 : h.1 15 0 31 = 1) (c46 : h.1 15 0 46 = 0) (c52 : h.1 15 0 52 = 0) (c108 : ∀ k, k < 6 → h.1 108 0 k = 0) (hD : 1320 ≤ D) :
    mP (mj_R mg (D + 1) mq_265 (0, [(0, vR 15 0)], [], h)) (fun v h' => qR t n h v h' (prgS (txL t n)) ∧ h'.1 15 0 58 = h.1 15 0 58 ∧ ∀ q, prgS (txL t n) = .inr q → h'.1 15 0 17 = h.1 15 0 17 ∧ h'.1 15 0 18 = h.1 15 0 18) := by
  refine mP_mono (t_read hQ c16 c19 c28 c29 c31 c46 c52 c108 hD) ?_
  intro v h' q
  refine ⟨q, ?_, ?_⟩
  · cases hp : prgS (txL t n) with
    | inl f => rw [hp] at q; exact q.2.2.2.2.2.2.1 15 0 58 (by omega)
    | inr p => rw [hp] at q; exact q.2.1.1 15 0 58 (by omega)
  · intro p hp
    rw [hp] at q
    exact ⟨q.2.1.1 15 0 17 (by omega), q.2.1.1 15 0 18 (by omega)⟩
