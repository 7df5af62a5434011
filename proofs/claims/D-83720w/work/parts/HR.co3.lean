/-! the component's core: functions, operations -/
section
variable {k d : Nat} {h0 h : mj_H} {s s' : Cr}
theorem i_nlt {x y : Int32} : ¬ x < y ↔ y ≤ x := Int32.not_lt
theorem k_dir {f : Nat} {v : Int32} (a : RF k h0 s h) (hl : s.1 15 = 0 ∨ s.1 15 = 1) (e : cDir s f v = some s') : cDo k h0 s' (mj_R mg (d + 2) mq_179 (0, [(0, vR 13 k), (1, vI (nI f)), (2, vI v)], [], h)) := by
  have g8 := a.g 8 (by omega) (by omega)
  have g11 := a.g 11 (by omega) (by omega)
  have g12 := a.g 12 (by omega) (by omega)
  rw [q_179_0, g8, g11, g12]
  match f, e with
  | 0, e =>
    have l2 : h.1 14 (2 * k + 1) 2 = nI s.2.2.2.length := by obtain ⟨f, -, -, z, -⟩ := a.1.2.2.2; exact z
    have b2 : s.2.2.2.length ≤ 1100 := by obtain ⟨f, -, -, -, z, -⟩ := a.1.2.2.2; exact z
    have B := a.r 11 (s.1 11 + v) (by omega) (by omega)
    have g15 : (mj_sI h 13 k 11 (s.1 11 + v)).1 13 k 15 = s.1 15 := B.g 15 (by omega) (by omega)
    have g16 : (mj_sI h 13 k 11 (s.1 11 + v)).1 13 k 16 = s.1 16 := B.g 16 (by omega) (by omega)
    have done : cDo k h0 (sR s 11 (s.1 11 + v)) (mj_R mg (d + 2) mq_179 (341, [(0, vR 13 k), (1, vI (nI 0)), (2, vI v)], [], mj_sI h 13 k 11 (s.1 11 + v))) := by rw [q_179_341]; exact ⟨_, rfl, B⟩
    rw [if_pos (by decide), g15, g16, l2]
    simp only [cDir] at e
    by_cases c : ¬ s.1 15 = 0 ∧ 64 ≤ s.1 16 ∧ s.2.2.2 ≠ []
    · rw [if_pos c] at e
      by_cases c2 : mj_in (s.1 12) 4016 ∧ s.2.2.1.length + s.2.2.2.length < 1090
      · rw [if_pos c2] at e
        obtain ⟨u, u1, u2⟩ := Option.map_eq_some_iff.mp e
        obtain ⟨h1, q1, a1⟩ := k_rest (d := d + 1) B u1
        have ulen : u.2.2.2.length < 1100 ∧ u.1 12 = s.1 12 := by
          unfold cRest at u1
          obtain ⟨x, -, z⟩ := Option.map_eq_some_iff.mp u1
          rw [← z]
          exact ⟨by show s.2.2.2.length < 1100; omega, rfl⟩
        have wn : u.1 12 = nI (u.1 12).toNatClampNeg ∧ (u.1 12).toNatClampNeg < 4016 := by
          have z34 := in_4016 (d := u.1 12) (by rw [ulen.2]; exact c2.1)
          obtain ⟨z4, z3⟩ := z34
          exact ⟨z4, z3⟩
        obtain ⟨h2, q2, q3, q4, q5⟩ := l_add (d := d + 1) (n := (u.1 12).toNatClampNeg) a1.1.2.2.2 ulen.1 (by have := wn.2; omega)
        rw [← wn.1] at q2
        have el : s.2.2.2.length ≠ 0 := fun z => c.2.2 (List.length_eq_zero_iff.mp z)
        rw [if_neg c.1, if_neg (i_nlt.mpr c.2.1), if_neg (n_le0 (by omega) (by omega)), q1, mj_xv_ret, a1.g 12 (by omega) (by omega), q2, mj_xv_ret, q_179_341]
        rw [← u2]
        exact ⟨_, rfl, a1.q2 q3 q4 q5⟩
      · rw [if_neg c2] at e; cases e
    · rw [if_neg c] at e
      have e9 := Option.some.inj e
      subst e9
      by_cases c1 : s.1 15 = 0
      · rw [if_pos c1]; exact done
      · rw [if_neg c1]
        by_cases c3 : s.1 16 < 64
        · rw [if_pos c3]; exact done
        · have c4 : s.2.2.2 = [] := by
            by_cases z : s.2.2.2 = []
            · exact z
            · exact (c ⟨c1, i_nlt.mp c3, z⟩).elim
          rw [if_neg c3, c4, if_pos (by show nI 0 ≤ 0; decide)]
          exact done
  | 1, e =>
    have e9 := Option.some.inj e
    subst e9
    obtain ⟨h1, q1, a1⟩ := k_push (d := d + 1) (v := s.1 12 + v) a
    rw [if_neg (by decide), if_pos (by decide), q1, mj_xv_ret, q_179_341]
    exact ⟨_, rfl, a1⟩
  | 2, e => cases e
  | 3, e =>
    obtain ⟨x, x1, x2⟩ := Option.map_eq_some_iff.mp e
    obtain ⟨i1, i2, i3, i4⟩ := adM_s x1
    subst x2
    rw [if_neg (by decide), if_neg (by decide), if_neg (by decide), if_pos (by decide), if_pos i1, i2, a.y x i3, q_179_341]
    exact ⟨_, rfl, a.r 8 _ (by omega) (by omega)⟩
  | 4, e =>
    have e9 := Option.some.inj e
    subst e9
    obtain ⟨h1, q1, a1⟩ := k_push (d := d + 1) (v := v) a
    rw [if_neg (by decide), if_neg (by decide), if_neg (by decide), if_neg (by decide), if_pos (by decide), q1, mj_xv_ret, q_179_341]
    exact ⟨_, rfl, a1⟩
  | 5, e =>
    have e9 := Option.some.inj e
    subst e9
    rw [if_neg (by decide), if_neg (by decide), if_neg (by decide), if_neg (by decide), if_neg (by decide), if_pos (by decide), q_179_341]
    exact ⟨_, rfl, a.r 8 _ (by omega) (by omega)⟩
  | 6, e => cases e
  | 7, e =>
    obtain ⟨x, x1, x2⟩ := Option.map_eq_some_iff.mp e
    obtain ⟨i1, i2, i3, i4⟩ := adM_s x1
    subst x2
    obtain ⟨h1, q1, a1⟩ := k_push (d := d + 1) (v := s.2.1 x) a
    rw [if_neg (by decide), if_neg (by decide), if_neg (by decide), if_neg (by decide), if_neg (by decide), if_neg (by decide), if_neg (by decide), if_pos (by decide), if_pos i1, i2, a.y x i3, q1, mj_xv_ret, q_179_341]
    exact ⟨_, rfl, a1⟩
  | 8, e =>
    have e9 := Option.some.inj e
    subst e9
    rw [if_neg (by decide), if_neg (by decide), if_neg (by decide), if_neg (by decide), if_neg (by decide), if_neg (by decide), if_neg (by decide), if_neg (by decide), if_pos (by decide), q_179_341]
    exact ⟨_, rfl, a.r 8 _ (by omega) (by omega)⟩
  | 9, e =>
    obtain ⟨x, x1, x2⟩ := Option.map_eq_some_iff.mp e
    obtain ⟨i1, i2, i3, i4⟩ := adM_s x1
    subst x2
    have B := a.r 12 (s.1 12 - 4) (by omega) (by omega)
    have b12 : (mj_sI h 13 k 12 (s.1 12 - 4)).1 13 k 12 = s.1 12 - 4 := B.g 12 (by omega) (by omega)
    have b11 : (mj_sI h 13 k 12 (s.1 12 - 4)).1 13 k 11 = s.1 11 := B.g 11 (by omega) (by omega)
    rw [if_neg (by decide), if_neg (by decide), if_neg (by decide), if_neg (by decide), if_neg (by decide), if_neg (by decide), if_neg (by decide), if_neg (by decide), if_neg (by decide), if_pos (by decide), b12, b11, if_pos i1, i2, q_179_341]
    exact ⟨_, rfl, (B.m x _).r 11 _ (by omega) (by omega)⟩
  | 10, e =>
    rw [if_neg (by decide), if_neg (by decide), if_neg (by decide), if_neg (by decide), if_neg (by decide), if_neg (by decide), if_neg (by decide), if_neg (by decide), if_neg (by decide), if_neg (by decide), if_pos (by decide)]
    simp only [cDir] at e
    by_cases c : s.1 8 = 0
    · rw [if_pos c] at e
      have e9 := Option.some.inj e
      subst e9
      rw [if_neg (fun z => z c), q_179_341]
      exact ⟨_, rfl, a.r 11 _ (by omega) (by omega)⟩
    · rw [if_neg c] at e
      have e9 := Option.some.inj e
      subst e9
      obtain ⟨h1, q1, a1⟩ := k_pop (d := d + 1) a
      rw [if_pos c, q1, mj_xi_ret, q_179_341]
      exact ⟨_, rfl, a1⟩
  | 11, e =>
    have e9 : s' = sR s 12 (s.1 12 + v) := by
      simp only [cDir] at e
      by_cases c : mj_in (s.1 12 + v) 4016
      · rw [if_pos c] at e; exact (Option.some.inj e).symm
      · rw [if_neg c] at e; cases e
    subst e9
    rw [if_neg (by decide), if_neg (by decide), if_neg (by decide), if_neg (by decide), if_neg (by decide), if_neg (by decide), if_neg (by decide), if_neg (by decide), if_neg (by decide), if_neg (by decide), if_neg (by decide), if_pos (by decide), q_179_341]
    exact ⟨_, rfl, a.r 12 _ (by omega) (by omega)⟩
  | 12, e =>
    have e9 := Option.some.inj e
    rw [if_neg (by decide), if_neg (by decide), if_neg (by decide), if_neg (by decide), if_neg (by decide), if_neg (by decide), if_neg (by decide), if_neg (by decide), if_neg (by decide), if_neg (by decide), if_neg (by decide), if_neg (by decide), if_pos (by decide)]
    by_cases c : s.1 8 = v
    · rw [if_neg (fun z => z c), q_179_300, q_179_341, ← e9, if_pos c]
      exact ⟨_, rfl, a.r 8 _ (by omega) (by omega)⟩
    · rw [if_pos c, q_179_300, q_179_341, ← e9, if_neg c]
      exact ⟨_, rfl, a.r 8 _ (by omega) (by omega)⟩
  | 13, e =>
    obtain ⟨x, x1, x2⟩ := Option.map_eq_some_iff.mp e
    obtain ⟨i1, i2, i3, i4⟩ := adM_s x1
    subst x2
    obtain ⟨h1, q1, a1⟩ := k_pop (d := d + 1) a
    rw [if_neg (by decide), if_neg (by decide), if_neg (by decide), if_neg (by decide), if_neg (by decide), if_neg (by decide), if_neg (by decide), if_neg (by decide), if_neg (by decide), if_neg (by decide), if_neg (by decide), if_neg (by decide), if_neg (by decide), if_pos (by decide), q1, mj_xi_ret, if_pos i1, i2, q_179_341]
    exact ⟨_, rfl, a1.m x _⟩
  | 14, e =>
    obtain ⟨x, x1, x2⟩ := Option.map_eq_some_iff.mp e
    obtain ⟨i1, i2, i3, i4⟩ := adM_s x1
    subst x2
    obtain ⟨h1, q1, a1⟩ := k_pop (d := d + 1) a
    obtain ⟨h2, q2, a2⟩ := k_pop (d := d + 1) a1
    have e8 : (cPop s).1 8 = s.1 9 := rfl
    rw [e8] at q2
    rw [if_neg (by decide), if_neg (by decide), if_neg (by decide), if_neg (by decide), if_neg (by decide), if_neg (by decide), if_neg (by decide), if_neg (by decide), if_neg (by decide), if_neg (by decide), if_neg (by decide), if_neg (by decide), if_neg (by decide), if_neg (by decide), q_179_324, q1, mj_xi_ret, q2, mj_xi_ret, if_pos i1, i2, q_179_341_2]
    exact ⟨_, rfl, a2.m x _⟩
  | n + 15, e => cases e
end
