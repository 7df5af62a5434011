/-! the component's core: operations -/
section
variable {k d : Nat} {h0 h : mj_H} {s s' : Cr}
theorem k_rng {x y : Int32} {h : mj_H} : mj_R mg d mq_0 (0, [(0, vL ((x : Int32).toInt64)), (2, vL 0), (4, vL (((y : Int32).toInt64) - 1))], [], h) = some (.inl (some (vI (bI (decide (0 ≤ x ∧ x < y)))), h)) := by
  have x1 := Int32.le_toInt x
  have x2 := Int32.toInt_lt x
  have y1 := Int32.le_toInt y
  have y2 := Int32.toInt_lt y
  have ey : ((y.toInt64) - 1).toInt = y.toInt - 1 := by
    rw [Int64.toInt_sub, Int32.toInt_toInt64]
    show Int.bmod (y.toInt - 1) (2 ^ 64) = _
    rw [Int.bmod_eq_of_le (by omega) (by omega)]
  have e1 : lg_cmp x.toInt64 0 < 0 ↔ x < 0 := by
    rw [lg_cmp_lt, Int64.lt_iff_toInt_lt, Int32.toInt_toInt64, Int32.lt_iff_toInt_lt]
    exact Iff.rfl
  have e2 : 0 < lg_cmp x.toInt64 (y.toInt64 - 1) ↔ ¬ x < y := by
    rw [lg_cmp_gt, Int64.lt_iff_toInt_lt, ey, Int32.toInt_toInt64, Int32.lt_iff_toInt_lt]
    omega
  rw [q_0_0]
  by_cases c1 : x < 0
  · have : ¬ (0 ≤ x ∧ x < y) := fun z => absurd c1 (Int32.not_lt.mpr z.1)
    rw [if_pos (e1.mpr c1), q_0_17, q_0_18, if_pos (Or.inl rfl), decide_eq_false this]
    rfl
  · rw [if_neg (fun z => c1 (e1.mp z))]
    by_cases c2 : x < y
    · rw [if_neg (fun z => (e2.mp z) c2), q_0_18, if_pos (Or.inr rfl), decide_eq_true ⟨Int32.not_lt.mp c1, c2⟩]
      rfl
    · have : ¬ (0 ≤ x ∧ x < y) := fun z => c2 z.2
      rw [if_pos (e2.mpr c2), q_0_17, q_0_18, if_pos (Or.inl rfl), decide_eq_false this]
      rfl
theorem cFill_r {x v : Int32} : ∀ (n : Nat) (s s' : Cr), cFill s x v n = some s' → s'.1 = s.1 ∧ s'.2.2 = s.2.2
  | 0, s, s', e => by
    have e9 := Option.some.inj e
    rw [← e9]
    exact ⟨rfl, rfl⟩
  | n + 1, s, s', e => by
    obtain ⟨t, t1, t2⟩ := Option.bind_eq_some_iff.mp e
    obtain ⟨y, y1, y2⟩ := Option.map_eq_some_iff.mp t2
    obtain ⟨i1, i2⟩ := cFill_r n s t t1
    rw [← y2]
    exact ⟨i1, i2⟩
/-- one step of filling -/
theorem cFill_s {x v : Int32} {n : Nat} {s s' : Cr} (e : cFill s x v n = some s') : ∀ m, m ≤ n → ∃ t, cFill s x v m = some t := by
  induction n generalizing s' with
  | zero => intro m hm; have : m = 0 := by omega
            rw [this]; exact ⟨s, rfl⟩
  | succ n ih =>
    intro m hm
    obtain ⟨t, t1, t2⟩ := Option.bind_eq_some_iff.mp e
    by_cases c : m = n + 1
    · rw [c]; exact ⟨s', e⟩
    · exact ih t1 m (by omega)
theorem k_fill {x1 : Int32} {n : Nat} {s s' : Cr} (e : cFill s (s.1 8) (s.1 10) n = some s') (hn : s.1 9 = nI n) (hn2 : n < 2 ^ 31) : ∀ (j m : Nat) (t : Cr) (h : mj_H), m + j = n → cFill s (s.1 8) (s.1 10) m = some t → RF k h0 t h → ∃ h', mj_R mg (d + 1) mq_180 (302, [(4, vI (nI m)), (0, vR 13 k), (1, vI x1)], [], h) = mj_R mg (d + 1) mq_180 (302, [(4, vI (nI n)), (0, vR 13 k), (1, vI x1)], [], h') ∧ RF k h0 s' h' := by
  intro j
  induction j with
  | zero =>
    intro m t h hm ht a
    have em : m = n := by omega
    subst em
    rw [e] at ht
    have e9 := Option.some.inj ht
    rw [← e9] at a
    exact ⟨h, rfl, a⟩
  | succ j ih =>
    intro m t h hm ht a
    obtain ⟨u, hu⟩ := cFill_s e (m + 1) (by omega)
    have hu2 := hu
    have hu2 : (cFill s (s.1 8) (s.1 10) m).bind (fun s1 => (adM s1 (s.1 8 + nI m)).map fun y => sM s1 y (s.1 10)) = some u := hu2
    rw [ht] at hu2
    obtain ⟨y, y1, y2⟩ := Option.map_eq_some_iff.mp hu2
    obtain ⟨i1, i2, i3, i4⟩ := adM_s y1
    obtain ⟨r1, r2⟩ := cFill_r _ _ _ ht
    have a2 := a.m y (s.1 10)
    rw [y2] at a2
    obtain ⟨h', q1, q2⟩ := ih (m + 1) u _ (by omega) hu a2
    refine ⟨h', ?_, q2⟩
    rw [q_180_302, a.g 9 (by omega) (by omega), a.g 8 (by omega) (by omega), a.g 10 (by omega) (by omega), r1, hn, if_neg (nI_ge (by omega) (by omega)), if_pos i1, i2, ← nI_succ]
    exact q1
theorem k_opr {o : Nat} (a : RF k h0 s h) (e : cOpr s o = some s') (hn : o = 14 → 0 ≤ s.1 9) : cDo k h0 s' (mj_R mg (d + 4) mq_180 (0, [(0, vR 13 k), (1, vI (nI o))], [], h)) := by
  have g8 := a.g 8 (by omega) (by omega)
  have g9 := a.g 9 (by omega) (by omega)
  have g11 := a.g 11 (by omega) (by omega)
  have two : ∀ (v : Int32) (x : Int32), cDo k h0 (cTwo s v) (mj_xv (mj_R mg (d + 3) mq_176 (0, [(0, vR 13 k), (1, vI v)], [], h)) (fun h1 => mj_R mg (d + 4) mq_180 (356, [(0, vR 13 k), (1, vI x)], [], h1))) := by
    intro v x
    obtain ⟨h1, q1, a1⟩ := k_two (d := d + 2) (v := v) a
    rw [q1, mj_xv_ret, q_180_356_2]
    exact ⟨_, rfl, a1⟩
  have dv0 : ∀ (b : Int32) (x : Int32), s.1 8 = 0 → cDo k h0 (cFails s) (mj_R mg (d + 4) mq_180 (156, [(0, vR 13 k), (1, vI x)], [vI b, vR 13 k], h)) := by
    intro b x c
    obtain ⟨h1, q1, a1⟩ := k_fails (d := d + 2) a
    rw [q_180_156, q_181_0, g8, g9, if_neg (fun z => z c), q1, mj_xv_ret, q_181_43, mj_xv_ret, q_180_356_2]
    exact ⟨_, rfl, a1⟩
  have dv1 : ∀ (x : Int32), ¬ s.1 8 = 0 → cDo k h0 (cTwo s (s.1 9 - s.1 9 / s.1 8 * s.1 8)) (mj_R mg (d + 4) mq_180 (156, [(0, vR 13 k), (1, vI x)], [vI 0, vR 13 k], h)) := by
    intro x c
    obtain ⟨h1, q1, a1⟩ := k_two (d := d + 1) (v := s.1 9 - s.1 9 / s.1 8 * s.1 8) a
    rw [q_180_156, q_181_0, g8, g9, if_pos c, if_pos rfl, if_pos c, q_181_40, q1, mj_xv_ret, q_181_43, mj_xv_ret, q_180_356_2]
    exact ⟨_, rfl, a1⟩
  have dv2 : ∀ (x : Int32), ¬ s.1 8 = 0 → cDo k h0 (cTwo s (s.1 9 / s.1 8)) (mj_R mg (d + 4) mq_180 (156, [(0, vR 13 k), (1, vI x)], [vI 1, vR 13 k], h)) := by
    intro x c
    obtain ⟨h1, q1, a1⟩ := k_two (d := d + 1) (v := s.1 9 / s.1 8) a
    rw [q_180_156, q_181_0, g8, g9, if_pos c, if_neg (by decide), if_pos c, q_181_40, q1, mj_xv_ret, q_181_43, mj_xv_ret, q_180_356_2]
    exact ⟨_, rfl, a1⟩
  rw [q_180_0, g8, g9, g11]
  match o, e, hn with
  | 0, e, _ =>
    have e9 := Option.some.inj e
    subst e9
    rw [if_pos (by decide), q_180_356]
    exact ⟨_, rfl, (a.r 8 _ (by omega) (by omega)).r 9 _ (by omega) (by omega)⟩
  | 1, e, _ =>
    have e9 := Option.some.inj e
    subst e9
    rw [if_neg (by decide), if_pos (by decide), q_180_97, g8, g9]
    exact two _ _
  | 2, e, _ =>
    have e9 := Option.some.inj e
    subst e9
    rw [if_neg (by decide), if_neg (by decide), if_pos (by decide)]
    exact two _ _
  | 3, e, _ =>
    have e9 := Option.some.inj e
    subst e9
    rw [if_neg (by decide), if_neg (by decide), if_neg (by decide), if_pos (by decide)]
    exact two _ _
  | 4, e, _ =>
    rw [if_neg (by decide), if_neg (by decide), if_neg (by decide), if_neg (by decide), if_pos (by decide), q_180_145, if_neg (by decide)]
    simp only [cOpr] at e
    by_cases c : s.1 8 = 0
    · rw [if_pos c] at e
      have e9 := Option.some.inj e
      subst e9
      exact dv0 _ _ c
    · rw [if_neg c] at e
      have e9 := Option.some.inj e
      subst e9
      exact dv2 _ c
  | 5, e, _ =>
    rw [if_neg (by decide), if_neg (by decide), if_neg (by decide), if_neg (by decide), if_neg (by decide), if_pos (by decide), q_180_145, if_pos (by decide)]
    simp only [cOpr] at e
    by_cases c : s.1 8 = 0
    · rw [if_pos c] at e
      have e9 := Option.some.inj e
      subst e9
      exact dv0 _ _ c
    · rw [if_neg c] at e
      have e9 := Option.some.inj e
      subst e9
      exact dv1 _ c
  | 6, e, _ =>
    have e9 := Option.some.inj e
    rw [if_neg (by decide), if_neg (by decide), if_neg (by decide), if_neg (by decide), if_neg (by decide), if_neg (by decide), if_pos (by decide)]
    by_cases c : s.1 9 ≤ s.1 8
    · rw [if_pos c] at e9 ⊢
      subst e9
      rw [q_180_179]
      exact two _ _
    · rw [if_neg c] at e9 ⊢
      subst e9
      rw [q_180_179]
      exact two _ _
  | 7, e, _ =>
    have e9 := Option.some.inj e
    subst e9
    rw [if_neg (by decide), if_neg (by decide), if_neg (by decide), if_neg (by decide), if_neg (by decide), if_neg (by decide), if_neg (by decide), if_pos (by decide)]
    exact two _ _
  | 8, e, _ =>
    have e9 := Option.some.inj e
    subst e9
    rw [if_neg (by decide), if_neg (by decide), if_neg (by decide), if_neg (by decide), if_neg (by decide), if_neg (by decide), if_neg (by decide), if_neg (by decide), if_pos (by decide)]
    exact two _ _
  | 9, e, _ =>
    have e9 := Option.some.inj e
    subst e9
    rw [if_neg (by decide), if_neg (by decide), if_neg (by decide), if_neg (by decide), if_neg (by decide), if_neg (by decide), if_neg (by decide), if_neg (by decide), if_neg (by decide), if_pos (by decide)]
    exact two _ _
  | 10, e, _ =>
    have e9 := Option.some.inj e
    subst e9
    rw [if_neg (by decide), if_neg (by decide), if_neg (by decide), if_neg (by decide), if_neg (by decide), if_neg (by decide), if_neg (by decide), if_neg (by decide), if_neg (by decide), if_neg (by decide), if_pos (by decide)]
    exact two _ _
  | 11, e, _ =>
    have e9 := Option.some.inj e
    subst e9
    rw [if_neg (by decide), if_neg (by decide), if_neg (by decide), if_neg (by decide), if_neg (by decide), if_neg (by decide), if_neg (by decide), if_neg (by decide), if_neg (by decide), if_neg (by decide), if_neg (by decide), if_pos (by decide), q_180_97, g8, g9]
    exact two _ _
  | 12, e, _ =>
    have e9 := Option.some.inj e
    obtain ⟨h1, q1, a1⟩ := k_pop (d := d + 3) a
    have p8 : h1.1 13 k 8 = s.1 9 := a1.g 8 (by omega) (by omega)
    rw [if_neg (by decide), if_neg (by decide), if_neg (by decide), if_neg (by decide), if_neg (by decide), if_neg (by decide), if_neg (by decide), if_neg (by decide), if_neg (by decide), if_neg (by decide), if_neg (by decide), if_neg (by decide), if_pos (by decide), q1, mj_xi_ret, p8, k_rng, mj_xi_ret]
    by_cases c : 0 ≤ s.1 9 ∧ s.1 9 < s.1 8
    · rw [if_pos c] at e9
      subst e9
      rw [decide_eq_true c, if_pos (by decide), q_180_356_3]
      exact ⟨_, rfl, a1⟩
    · rw [if_neg c] at e9
      subst e9
      obtain ⟨h2, q2, a2⟩ := k_fails (d := d + 3) a1
      rw [decide_eq_false c, if_neg (by decide), q2, mj_xv_ret, q_180_356_3]
      exact ⟨_, rfl, a2⟩
  | 13, e, _ =>
    have e9 := Option.some.inj e
    subst e9
    rw [if_neg (by decide), if_neg (by decide), if_neg (by decide), if_neg (by decide), if_neg (by decide), if_neg (by decide), if_neg (by decide), if_neg (by decide), if_neg (by decide), if_neg (by decide), if_neg (by decide), if_neg (by decide), if_neg (by decide), if_pos (by decide), q_180_356_2]
    exact ⟨_, rfl, a.r 8 _ (by omega) (by omega)⟩
  | 14, e, hn =>
    obtain ⟨t, t1, t2⟩ := Option.map_eq_some_iff.mp e
    obtain ⟨n1, n2⟩ := n_cl (Int32.not_lt.mpr (hn rfl))
    obtain ⟨h1, q1, a1⟩ := k_fill (d := d + 3) (x1 := nI 14) (k := k) (h0 := h0) t1 n1 n2 (s.1 9).toNatClampNeg 0 s h (Nat.zero_add _) rfl a
    have q1 : mj_R mg (d + 4) mq_180 (302, [(4, vI 0), (0, vR 13 k), (1, vI (nI 14))], [], h) = _ := q1
    rw [if_neg (by decide), if_neg (by decide), if_neg (by decide), if_neg (by decide), if_neg (by decide), if_neg (by decide), if_neg (by decide), if_neg (by decide), if_neg (by decide), if_neg (by decide), if_neg (by decide), if_neg (by decide), if_neg (by decide), if_neg (by decide), if_pos (by decide), q1, q_180_302, a1.g 9 (by omega) (by omega), (cFill_r _ _ _ t1).1, if_pos (by rw [← n1]; exact Int32.le_refl _), q_180_356_4]
    rw [← t2]
    exact ⟨_, rfl, ((a1.r 8 _ (by omega) (by omega)).r 9 _ (by omega) (by omega)).r 10 _ (by omega) (by omega)⟩
  | n + 15, e, _ => cases e
end
