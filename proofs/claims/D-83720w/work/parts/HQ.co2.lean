/-! the component's core: who runs -/
section
variable {k d : Nat} {h0 h : mj_H} {s s' : Cr}
theorem RF.q1 {H : List Nat} {h' : mj_H} (a : RF k h0 s h) (b : RQ (2 * k) H h') (f : ∀ g i j, ¬ ((g = 14 ∨ g = 71) ∧ i = 2 * k) → h'.1 g i j = h.1 g i j) (f2 : h'.2 = h.2) : RF k h0 (sQ s H s.2.2.2) h' := by
  obtain ⟨⟨a1, a2, a3, a4⟩, a5⟩ := a
  exact ⟨⟨fun j j1 j2 => (f 13 k j (by omega)).trans (a1 j j1 j2), fun x hx => (f 70 k x (by omega)).trans (a2 x hx), b, a4.mv (fun g j hg => f g _ j (by omega))⟩, a5.tr ⟨fun g i j c => f g i j (by omega), f2⟩⟩
theorem RF.q2 {L : List Nat} {h' : mj_H} (a : RF k h0 s h) (b : RQ (2 * k + 1) L h') (f : ∀ g i j, ¬ ((g = 14 ∨ g = 71) ∧ i = 2 * k + 1) → h'.1 g i j = h.1 g i j) (f2 : h'.2 = h.2) : RF k h0 (sQ s s.2.2.1 L) h' := by
  obtain ⟨⟨a1, a2, a3, a4⟩, a5⟩ := a
  exact ⟨⟨fun j j1 j2 => (f 13 k j (by omega)).trans (a1 j j1 j2), fun x hx => (f 70 k x (by omega)).trans (a2 x hx), a3.mv (fun g j hg => f g _ j (by omega)), b⟩, a5.tr ⟨fun g i j c => f g i j (by omega), f2⟩⟩
/-- what a method without an answer does -/
def cDo (k : Nat) (h0 : mj_H) (s' : Cr) (R : Option mj_O) : Prop := ∃ h', R = some (.inl (none, h')) ∧ RF k h0 s' h'
theorem k_rest (a : RF k h0 s h) (e : cRest s = some s') : cDo k h0 s' (mj_R mg d mq_172 (0, [(0, vR 13 k)], [], h)) := by
  unfold cRest at e
  obtain ⟨x, e1, e2⟩ := Option.map_eq_some_iff.mp e
  obtain ⟨i1, i2, i3, i4⟩ := adM_s e1
  subst e2
  rw [q_172_0, a.g 12 (by omega) (by omega), a.g 11 (by omega) (by omega), if_pos i1, i2]
  exact ⟨_, rfl, (a.m x _).r 14 0 (by omega) (by omega)⟩
theorem k_start {n : Nat} {lo : Int32} (a : RF k h0 s h) (hlo : lo = 0 ∨ lo = 1) (e : cStart s n lo = some s') : cDo k h0 s' (mj_R mg d mq_169 (0, [(0, vR 13 k), (1, vI (nI n)), (2, vI lo)], [], h)) := by
  unfold cStart at e
  obtain ⟨x, e1, e2⟩ := Option.map_eq_some_iff.mp e
  obtain ⟨i1, i2, i3, i4⟩ := adM_s e1
  subst e2
  have B := (((((((a.r 14 1 (by omega) (by omega)).r 12 (nI n) (by omega) (by omega)).r 15 lo (by omega) (by omega)).r 16 0 (by omega) (by omega)).r 8 0 (by omega) (by omega)).r 9 0 (by omega) (by omega)).r 10 0 (by omega) (by omega)).r 13 0 (by omega) (by omega)
  have e12 : (mj_sI (mj_sI (mj_sI (mj_sI (mj_sI (mj_sI (mj_sI (mj_sI h 13 k 14 1) 13 k 12 (nI n)) 13 k 15 lo) 13 k 16 0) 13 k 8 0) 13 k 9 0) 13 k 10 0) 13 k 13 0).1 13 k 12 = nI n := B.g 12 (by omega) (by omega)
  rw [q_169_0, if_pos hlo, e12, if_pos i1, i2, a.y x i3]
  exact ⟨_, rfl, B.r 11 _ (by omega) (by omega)⟩
theorem k_self (a : RF k h0 s h) (hl : s.1 15 = 0 ∨ s.1 15 = 1) : mj_R mg d mq_170 (0, [(0, vR 13 k)], [], h) = some (.inl (some (vI (cSelf s)), h)) := by
  rw [q_170_0, a.g 15 (by omega) (by omega), a.g 12 (by omega) (by omega)]
  rcases hl with e | e
  · rw [if_pos e, q_170_18, cSelf, e]
  · rw [if_neg (by rw [e]; decide), q_170_18, cSelf, e]
theorem k_ready {x : Int32} (a : RF k h0 s h) (e : cReady s x = some s') : cDo k h0 s' (mj_R mg (d + 1) mq_171 (0, [(0, vR 13 k), (1, vI x)], [], h)) := by
  unfold cReady at e
  by_cases c : mj_in x 8032 ∧ s.2.2.1.length + s.2.2.2.length < 1090
  · rw [if_pos c] at e
    have e9 := Option.some.inj e
    clear e
    obtain ⟨i1, i2⟩ := in_8032 c.1
    obtain ⟨n, hn⟩ : ∃ n, n = x.toNatClampNeg := ⟨_, rfl⟩
    rw [← hn] at i1 i2 e9
    subst i1
    have em : nI n - nI n / 2 * 2 = nI (n % 2) := nI_md (m := 2) (by omega) (by omega)
    have ed : nI n / 2 = nI (n / 2) := nI_dv (m := 2) (by omega) (by omega)
    rw [q_171_0, em]
    by_cases e2 : n % 2 = 0
    · rw [if_pos e2] at e9
      subst e9
      obtain ⟨h1, q1, q2, q3, q4⟩ := l_add (d := d) (n := n / 2) a.1.2.2.1 (by omega) (by omega)
      rw [if_neg (fun z => z (by rw [e2]; rfl)), q_171_17, ed, q1, mj_xv_ret]
      exact ⟨_, rfl, a.q1 q2 q3 q4⟩
    · rw [if_neg e2] at e9
      subst e9
      obtain ⟨h1, q1, q2, q3, q4⟩ := l_add (d := d) (n := n / 2) a.1.2.2.2 (by omega) (by omega)
      rw [if_pos (nI_ne0 (by omega) (by omega)), q_171_17, ed, q1, mj_xv_ret]
      exact ⟨_, rfl, a.q2 q2 q3 q4⟩
  · rw [if_neg c] at e; cases e
theorem k_push {v : Int32} (a : RF k h0 s h) : cDo k h0 (cPush s v) (mj_R mg d mq_174 (0, [(0, vR 13 k), (1, vI v)], [], h)) := by
  have e : (mj_sI h 13 k 10 (h.1 13 k 9)).1 13 k 8 = s.1 8 := by rw [mI_1, if_neg (by omega)]; exact a.g 8 (by omega) (by omega)
  rw [q_174_0, e, a.g 9 (by omega) (by omega)]
  exact ⟨_, rfl, ((a.r 10 _ (by omega) (by omega)).r 9 _ (by omega) (by omega)).r 8 _ (by omega) (by omega)⟩
theorem k_pop (a : RF k h0 s h) : ∃ h', mj_R mg d mq_175 (0, [(0, vR 13 k)], [], h) = some (.inl (some (vI (s.1 8)), h')) ∧ RF k h0 (cPop s) h' := by
  have e : (mj_sI h 13 k 8 (h.1 13 k 9)).1 13 k 10 = s.1 10 := by rw [mI_1, if_neg (by omega)]; exact a.g 10 (by omega) (by omega)
  rw [q_175_0, e, a.g 9 (by omega) (by omega), a.g 8 (by omega) (by omega)]
  exact ⟨_, rfl, (a.r 8 _ (by omega) (by omega)).r 9 _ (by omega) (by omega)⟩
theorem k_two {v : Int32} (a : RF k h0 s h) : cDo k h0 (cTwo s v) (mj_R mg (d + 1) mq_176 (0, [(0, vR 13 k), (1, vI v)], [], h)) := by
  obtain ⟨h1, e1, b⟩ := k_pop (d := d) a
  rw [q_176_0, e1, mj_xi_ret]
  exact ⟨_, rfl, b.r 8 _ (by omega) (by omega)⟩
theorem k_fails (a : RF k h0 s h) : cDo k h0 (cFails s) (mj_R mg d mq_177 (0, [(0, vR 13 k)], [], h)) := by
  rw [q_177_0]
  exact ⟨_, rfl, (a.r 18 _ (by omega) (by omega)).r 14 _ (by omega) (by omega)⟩
/-- the next one comes -/
theorem k_next (a : RF k h0 s h) (e : cNext s = some s') : cDo k h0 s' (mj_R mg (d + 1) mq_173 (84, [(0, vR 13 k)], [], h)) := by
  have l1 : h.1 14 (2 * k) 2 = nI s.2.2.1.length := by obtain ⟨f, -, -, z, -⟩ := a.1.2.2.1; exact z
  have l2 : h.1 14 (2 * k + 1) 2 = nI s.2.2.2.length := by obtain ⟨f, -, -, z, -⟩ := a.1.2.2.2; exact z
  have b1 : s.2.2.1.length ≤ 1100 := by obtain ⟨f, -, -, -, z, -⟩ := a.1.2.2.1; exact z
  have b2 : s.2.2.2.length ≤ 1100 := by obtain ⟨f, -, -, -, z, -⟩ := a.1.2.2.2; exact z
  unfold cNext at e
  rw [q_173_84, a.g 14 (by omega) (by omega), l1]
  by_cases c : ¬ s.1 14 = 0
  · rw [if_pos c] at e
    have e9 := Option.some.inj e
    subst e9
    rw [if_pos c, q_173_116, a.g 14 (by omega) (by omega), if_pos c, q_173_200]
    exact ⟨_, rfl, a⟩
  · rw [if_neg c] at e ⊢
    obtain ⟨s1, m, H, L⟩ := s
    cases H with
    | cons n H =>
      have e : cStart (sQ (s1, m, n :: H, L) H L) n 0 = some s' := e
      obtain ⟨h1, q1, q2, q3, q4⟩ := l_take (d := d) a.1.2.2.1
      have a1 := a.q1 q2 q3 q4
      obtain ⟨h2, q5, a2⟩ := k_start (d := d) a1 (Or.inl rfl) e
      rw [if_neg (n_le0 (by show 1 ≤ (n :: H).length; rw [List.length_cons]; omega) (by show (n :: H).length < _; have : (n :: H).length ≤ 1100 := b1; omega)), q1, mj_xi_ret, q5, mj_xv_ret, q_173_200]
      exact ⟨_, rfl, a2⟩
    | nil =>
      rw [if_pos (by show nI 0 ≤ 0; decide), q_173_116, a.g 14 (by omega) (by omega), if_neg c, l2]
      cases L with
      | nil =>
        have e9 := Option.some.inj e
        subst e9
        rw [if_pos (by show nI 0 ≤ 0; decide), q_173_200]
        exact ⟨_, rfl, a⟩
      | cons n L =>
        have e : (cStart (sQ (s1, m, [], n :: L) [] L) n 1).bind (fun s => if s.1 22 = 0 then some s else if s.1 23 = nI n then some (sR (sR (sR (sR (sR s 8 (s.1 24)) 9 (s.1 25)) 10 (s.1 26)) 13 (s.1 27)) 22 0) else none) = some s' := e
        obtain ⟨t, t1, t2⟩ := Option.bind_eq_some_iff.mp e
        obtain ⟨h1, q1, q2, q3, q4⟩ := l_take (d := d) a.1.2.2.2
        have a1 := a.q2 q2 q3 q4
        obtain ⟨h2, q5, a2⟩ := k_start (d := d) a1 (Or.inr rfl) t1
        have w12 : t.1 12 = nI n := by
          unfold cStart at t1
          obtain ⟨x, -, z⟩ := Option.map_eq_some_iff.mp t1
          rw [← z]
          rfl
        rw [if_neg (n_le0 (by show 1 ≤ (n :: L).length; rw [List.length_cons]; omega) (by show (n :: L).length < _; have : (n :: L).length ≤ 1100 := b2; omega)), q1, mj_xi_ret, q5, mj_xv_ret, a2.g 22 (by omega) (by omega)]
        by_cases c22 : t.1 22 = 0
        · rw [if_pos c22] at t2
          have e9 := Option.some.inj t2
          subst e9
          rw [if_pos c22, q_173_200]
          exact ⟨_, rfl, a2⟩
        · rw [if_neg c22] at t2
          by_cases c23 : t.1 23 = nI n
          · rw [if_pos c23] at t2
            have e9 := Option.some.inj t2
            subst e9
            have B1 := a2.r 8 (t.1 24) (by omega) (by omega)
            have B2 := B1.r 9 (t.1 25) (by omega) (by omega)
            have B3 := B2.r 10 (t.1 26) (by omega) (by omega)
            have B4 := B3.r 13 (t.1 27) (by omega) (by omega)
            have g1 : (mj_sI h2 13 k 8 (t.1 24)).1 13 k 25 = t.1 25 := B1.g 25 (by omega) (by omega)
            have g2 : (mj_sI (mj_sI h2 13 k 8 (t.1 24)) 13 k 9 (t.1 25)).1 13 k 26 = t.1 26 := B2.g 26 (by omega) (by omega)
            have g3 : (mj_sI (mj_sI (mj_sI h2 13 k 8 (t.1 24)) 13 k 9 (t.1 25)) 13 k 10 (t.1 26)).1 13 k 27 = t.1 27 := B3.g 27 (by omega) (by omega)
            rw [if_neg c22, a2.g 23 (by omega) (by omega), a2.g 12 (by omega) (by omega), if_neg (fun z => z (c23.trans w12.symm)), a2.g 24 (by omega) (by omega), g1, g2, g3, q_173_200]
            exact ⟨_, rfl, B4.r 22 0 (by omega) (by omega)⟩
          · rw [if_neg c23] at t2; cases t2
theorem k_settle (a : RF k h0 s h) (e : cSettle s = some s') : cDo k h0 s' (mj_R mg (d + 1) mq_173 (0, [(0, vR 13 k)], [], h)) := by
  unfold cSettle at e
  obtain ⟨t, t1, t2⟩ := Option.bind_eq_some_iff.mp e
  have l1 : h.1 14 (2 * k) 2 = nI s.2.2.1.length := by obtain ⟨f, -, -, z, -⟩ := a.1.2.2.1; exact z
  have b1 : s.2.2.1.length ≤ 1100 := by obtain ⟨f, -, -, -, z, -⟩ := a.1.2.2.1; exact z
  unfold cPre at t1
  rw [q_173_0, a.g 14 (by omega) (by omega)]
  by_cases c : ¬ s.1 14 = 0 ∧ ¬ s.1 15 = 0 ∧ s.2.2.1 ≠ []
  · rw [if_pos c] at t1
    by_cases c2 : mj_in (s.1 12) 4016 ∧ s.2.2.1.length + s.2.2.2.length < 1090
    · rw [if_pos c2] at t1
      obtain ⟨u, u1, u2⟩ := Option.map_eq_some_iff.mp t1
      have B1 := a.r 22 1 (by omega) (by omega)
      have B2 := B1.r 23 (s.1 12) (by omega) (by omega)
      have B3 := B2.r 24 (s.1 8) (by omega) (by omega)
      have B4 := B3.r 25 (s.1 9) (by omega) (by omega)
      have B5 := B4.r 26 (s.1 10) (by omega) (by omega)
      have B6 := B5.r 27 (s.1 13) (by omega) (by omega)
      have g1 := B1.g 12 (by omega) (by omega)
      have g2 := B2.g 8 (by omega) (by omega)
      have g3 := B3.g 9 (by omega) (by omega)
      have g4 := B4.g 10 (by omega) (by omega)
      have g5 := B5.g 13 (by omega) (by omega)
      have g1 : (mj_sI h 13 k 22 1).1 13 k 12 = s.1 12 := g1
      have g2 : (mj_sI (mj_sI h 13 k 22 1) 13 k 23 (s.1 12)).1 13 k 8 = s.1 8 := g2
      have g3 : (mj_sI (mj_sI (mj_sI h 13 k 22 1) 13 k 23 (s.1 12)) 13 k 24 (s.1 8)).1 13 k 9 = s.1 9 := g3
      have g4 : (mj_sI (mj_sI (mj_sI (mj_sI h 13 k 22 1) 13 k 23 (s.1 12)) 13 k 24 (s.1 8)) 13 k 25 (s.1 9)).1 13 k 10 = s.1 10 := g4
      have g5 : (mj_sI (mj_sI (mj_sI (mj_sI (mj_sI h 13 k 22 1) 13 k 23 (s.1 12)) 13 k 24 (s.1 8)) 13 k 25 (s.1 9)) 13 k 26 (s.1 10)).1 13 k 13 = s.1 13 := g5
      obtain ⟨h1, q1, a1⟩ := k_rest (d := d) B6 u1
      have ulen : u.2.2.2.length < 1100 ∧ u.1 12 = s.1 12 := by
        unfold cRest at u1
        obtain ⟨x, -, z⟩ := Option.map_eq_some_iff.mp u1
        rw [← z]
        exact ⟨by show s.2.2.2.length < 1100; omega, rfl⟩
      have wn : u.1 12 = nI (u.1 12).toNatClampNeg ∧ (u.1 12).toNatClampNeg < 4016 := by
        have z34 := in_4016 (d := u.1 12) (by rw [ulen.2]; exact c2.1)
        obtain ⟨z4, z3⟩ := z34
        exact ⟨z4, z3⟩
      obtain ⟨h2, q2, q3, q4, q5⟩ := l_ahead (d := d) (n := (u.1 12).toNatClampNeg) a1.1.2.2.2 ulen.1 (by have := wn.2; omega)
      have a2 := a1.q2 q3 q4 q5
      have el : s.2.2.1.length ≠ 0 := fun z => c.2.2 (List.length_eq_zero_iff.mp z)
      rw [if_neg c.1, a.g 15 (by omega) (by omega), if_neg c.2.1, l1, if_neg (n_le0 (by omega) (by omega)), g1, g2, g3, g4, g5, q1, mj_xv_ret, a1.g 12 (by omega) (by omega)]
      have q2' : mj_R mg d mq_195 (0, [(0, vR 14 (2 * k + 1)), (1, vI (u.1 12))], [], h1) = some (.inl (none, h2)) := by rw [← wn.1] at q2; exact q2
      rw [q2', mj_xv_ret]
      rw [← u2] at t2
      exact k_next a2 t2
    · rw [if_neg c2] at t1; cases t1
  · rw [if_neg c] at t1
    have e9 := Option.some.inj t1
    subst e9
    by_cases c1 : s.1 14 = 0
    · rw [if_pos c1]; exact k_next a t2
    · rw [if_neg c1, a.g 15 (by omega) (by omega)]
      by_cases c3 : s.1 15 = 0
      · rw [if_pos c3]; exact k_next a t2
      · have c4 : s.2.2.1 = [] := by
          by_cases z : s.2.2.1 = []
          · exact z
          · exact (c ⟨c1, c3, z⟩).elim
        rw [if_neg c3, l1, c4, if_pos (by show nI 0 ≤ 0; decide)]
        exact k_next a t2
end
