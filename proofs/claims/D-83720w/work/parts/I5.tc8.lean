/-! the twin's cores: the schedule, a byte -/
section
variable {p d : Nat} {h0 h : mj_H} {s s' : Cr} {w w' : Wd}
/-- a branch ends -/
theorem y_endb (a : yS p h0 s w h) (hp : p < 6) (hr : ¬ s.1 14 = 0) (e : cSch s w 17 = some (s', w')) : yDoW p h0 s' w' (mj_R mg (d + 3) mq_336 (0, [(0, vR 15 0), (1, vI (nI p)), (2, vI (s.1 8))], [], h)) := by
  obtain ⟨x0, j0, e⟩ := Option.bind_eq_some_iff.mp e
  obtain ⟨x1, j1, e⟩ := Option.bind_eq_some_iff.mp e
  obtain ⟨x2, j2, e⟩ := Option.bind_eq_some_iff.mp e
  obtain ⟨q1, a1⟩ := y_st (d := d + 1) (v := s.2.1 x1 - 1) a.f hp j1
  have l1 := y_ld (d := d + 1) (x := s.1 8 + 1) (n := x1) a1 hp (by exact j1)
  have m1 : (sM s x1 (s.2.1 x1 - 1)).2.1 x1 = s.2.1 x1 - 1 := if_pos rfl
  rw [m1] at l1
  rw [q_336_0, y_ld a.f hp j1, mj_xi_ret, q1, mj_xv_ret, l1, mj_xi_ret]
  by_cases c : s.2.1 x1 - 1 = 0
  · rw [if_pos c] at e
    by_cases c2 : mj_in (s.2.1 x2) 8032
    · rw [if_pos c2] at e
      obtain ⟨y1, n1, e⟩ := Option.bind_eq_some_iff.mp e
      obtain ⟨y3, n3, e⟩ := Option.bind_eq_some_iff.mp e
      by_cases c3 : x0 = x1 ∨ x2 = x1 ∨ y1 = x0 ∨ y1 = x1 ∨ y1 = x2
      · rw [if_pos c3] at e; cases e
      · rw [if_neg c3] at e
        obtain ⟨t, t1, t2⟩ := Option.map_eq_some_iff.mp e
        cases t2
        rw [c] at a1 ⊢
        have l2 := y_ld (d := d + 1) (x := s.1 8 + 2) (n := x2) a1 hp (by exact j2)
        have l0 := y_ld (d := d + 1) (x := s.1 8) (n := x0) a1 hp (by exact j0)
        have m2 : (sM s x1 0).2.1 x2 = s.2.1 x2 := if_neg (by omega)
        have m0 : (sM s x1 0).2.1 x0 = s.2.1 x0 := if_neg (by omega)
        rw [m2] at l2
        rw [m0] at l0
        obtain ⟨q5, a5⟩ := y_st (d := d + 1) (v := s.2.1 x0) (x := s.2.1 x2 / 2 - 1) (n := y1) a1 hp (by exact n1)
        obtain ⟨q6, a6⟩ := y_st (d := d + 1) (v := 0) (x := s.2.1 x2 / 2 - 3) (n := y3) a5 hp (by exact n3)
        obtain ⟨h7, q7, a7⟩ := y_ready (d := d + 1) a6 hp (by exact hr) t1
        obtain ⟨h8, q8, a8⟩ := y_gone (d := d + 2) a7 hp
        rw [if_neg (fun z => z rfl), l2, mj_xi_ret, l0, mj_xi_ret, hf_sh c2, q5, mj_xv_ret, q6, mj_xv_ret, q7, mj_xv_ret, q_336_71_2, q8, mj_xv_ret]
        exact ⟨_, rfl, a.up a8⟩
    · rw [if_neg c2] at e; cases e
  · rw [if_neg c] at e
    have e9 := Option.some.inj e
    cases e9
    obtain ⟨h8, q8, a8⟩ := y_gone (d := d + 2) a1 hp
    rw [if_pos c, q_336_71, q8, mj_xv_ret]
    exact ⟨_, rfl, a.up a8⟩
theorem y_spk {o : Nat} (a : yS p h0 s w h) (hp : p < 6) (hr : ¬ s.1 14 = 0) (ho : 20 ≤ o ∧ o ≤ 28) (e : cSch s w o = some (s', w')) : yDoW p h0 s' w' (mj_R mg (d + 4) mq_337 (0, [(0, vR 15 0), (1, vI (nI p)), (2, vI (nI o)), (3, vI (s.1 8)), (4, vI (s.1 9))], [], h)) := by
  have ip := yp_in hp
  have g10 : h.1 134 0 p = s.1 10 := a.f.g hr 10 (by omega) (by omega)
  have g12 : h.1 136 0 p = s.1 12 := a.f.g hr 12 (by omega) (by omega)
  obtain ⟨h1, q1, a1⟩ := y_take (d := d + 3) a.f hp hr
  obtain ⟨h2, q2, a2⟩ := y_take (d := d + 3) a1 hp hr
  rw [q_337_0, if_pos ip, nI_clamp (show p < 2 ^ 31 by omega), g12]
  match o, ho, e with
  | 20, _, e =>
    obtain ⟨h3, q3, a3⟩ := y_in (d := d) (a.up a2) hp hr e
    rw [if_pos (by decide), q1, mj_xv_ret, q2, mj_xv_ret, q3, mj_xv_ret, q_337_292]
    exact ⟨_, rfl, a3⟩
  | 21, _, e =>
    obtain ⟨h3, q3, a3⟩ := y_ou (d := d) (a.up a2) hp hr e
    rw [if_neg (by decide), if_pos (by decide), q1, mj_xv_ret, q2, mj_xv_ret, q3, mj_xv_ret, q_337_292]
    exact ⟨_, rfl, a3⟩
  | 22, _, e =>
    obtain ⟨x3, j3, e⟩ := Option.bind_eq_some_iff.mp e
    obtain ⟨x, j0, e9⟩ := Option.map_eq_some_iff.mp e
    cases e9
    obtain ⟨q3, a3⟩ := y_st (d := d + 2) (v := 1) a.f hp j3
    obtain ⟨q4, a4⟩ := y_st (d := d + 2) (v := -1) (x := s.1 12) (n := x) a3 hp (by exact j0)
    rw [if_neg (by decide), if_neg (by decide), if_pos (by decide), q3, mj_xv_ret, q4, mj_xv_ret, q_337_292]
    exact ⟨_, rfl, a.up a4⟩
  | 23, _, e =>
    simp only [cSch] at e
    rw [if_neg (by decide), if_neg (by decide), if_neg (by decide), if_pos (by decide), q1, mj_xv_ret]
    by_cases c : s.1 9 = 0
    · rw [if_pos c] at e
      have e9 := Option.some.inj e
      cases e9
      rw [if_pos c, q_337_292]
      exact ⟨_, rfl, a.up a1⟩
    · rw [if_neg c] at e
      obtain ⟨t, t1, t2⟩ := Option.map_eq_some_iff.mp e
      cases t2
      obtain ⟨h3, q3, a3⟩ := y_enb (d := d) (a.up a1) hp hr t1
      rw [if_neg c, q3, mj_xv_ret, q_337_292]
      exact ⟨_, rfl, a3⟩
  | 24, _, e =>
    obtain ⟨x, j0, e9⟩ := Option.map_eq_some_iff.mp e
    rw [if_neg (by decide), if_neg (by decide), if_neg (by decide), if_neg (by decide), if_pos (by decide)]
    by_cases c : s.1 8 = 0
    · rw [if_pos c] at e9
      cases e9
      rw [if_pos c, q_337_292]
      exact ⟨_, rfl, a⟩
    · rw [if_neg c] at e9
      cases e9
      obtain ⟨q3, a3⟩ := y_st (d := d + 2) (v := 3) a.f hp j0
      rw [if_neg c, q3, mj_xv_ret, q_337_292]
      exact ⟨_, rfl, a.up a3⟩
  | 25, _, e =>
    obtain ⟨x, j0, e⟩ := Option.bind_eq_some_iff.mp e
    rw [if_neg (by decide), if_neg (by decide), if_neg (by decide), if_neg (by decide), if_neg (by decide), if_pos (by decide), y_ld a.f hp j0, mj_xi_ret]
    by_cases c : s.2.1 x = 3
    · rw [if_pos c] at e
      have e9 := Option.some.inj e
      cases e9
      rw [if_pos c, q_337_292]
      exact ⟨_, rfl, a⟩
    · rw [if_neg c] at e
      obtain ⟨t, t1, t2⟩ := Option.map_eq_some_iff.mp e
      cases t2
      obtain ⟨q3, a3⟩ := y_st (d := d + 2) (v := 2) a.f hp j0
      obtain ⟨h4, q4, a4⟩ := y_wait0 (d := d + 1) a3 hp (by exact hr) t1
      rw [if_neg c, q3, mj_xv_ret, q4, mj_xv_ret, q_337_292]
      exact ⟨_, rfl, a.up a4⟩
  | 26, _, e =>
    obtain ⟨t, t1, t2⟩ := Option.map_eq_some_iff.mp e
    cases t2
    obtain ⟨h3, q3, a3⟩ := y_take (d := d + 3) a2 hp hr
    rw [if_neg (by decide), if_neg (by decide), if_neg (by decide), if_neg (by decide), if_neg (by decide), if_neg (by decide), if_pos (by decide), if_pos ip, g10, q1, mj_xv_ret, q2, mj_xv_ret, q3, mj_xv_ret]
    by_cases c : s.1 9 = 0
    · unfold cDis at t1
      rw [if_pos c] at t1
      have e9 := Option.some.inj t1
      subst e9
      rw [if_pos c, q_337_292_2]
      exact ⟨_, rfl, a.up a3⟩
    · obtain ⟨h4, q4, a4⟩ := y_dis (d := d) (a.up a3) hp hr c t1
      rw [if_neg c, q4, mj_xv_ret, q_337_292_2]
      exact ⟨_, rfl, a4⟩
  | 27, _, e =>
    simp only [cSch] at e
    rw [if_neg (by decide), if_neg (by decide), if_neg (by decide), if_neg (by decide), if_neg (by decide), if_neg (by decide), if_neg (by decide), if_pos (by decide), q1, mj_xv_ret, q2, mj_xv_ret]
    by_cases c : s.1 8 = 0
    · rw [if_pos c] at e
      have e9 := Option.some.inj e
      cases e9
      rw [if_pos c, q_337_292]
      exact ⟨_, rfl, a.up a2⟩
    · rw [if_neg c] at e
      obtain ⟨x, j0, e9⟩ := Option.map_eq_some_iff.mp e
      have ld := y_ld (d := d + 2) (x := s.1 12) (n := x) a2 hp (by exact j0)
      have ld : mj_R mg (d + 3) mq_322 (0, [(0, vR 15 0), (1, vI (nI p)), (2, vI (s.1 12))], [], h2) = some (.inl (some (vI (s.2.1 x)), h2)) := ld
      rw [if_neg c, ld, mj_xi_ret]
      by_cases c2 : s.2.1 x = -1
      · rw [if_pos c2] at e9
        cases e9
        obtain ⟨q3, a3⟩ := y_st (d := d + 2) (v := s.1 9) (x := s.1 12) (n := x) a2 hp (by exact j0)
        rw [if_neg (fun z => z c2), q3, mj_xv_ret, q_337_292]
        exact ⟨_, rfl, a.up a3⟩
      · rw [if_neg c2] at e9
        cases e9
        rw [if_pos c2, q_337_292]
        exact ⟨_, rfl, a.up a2⟩
  | 28, _, e =>
    obtain ⟨x3, j3, e⟩ := Option.bind_eq_some_iff.mp e
    obtain ⟨x, j0, e9⟩ := Option.map_eq_some_iff.mp e
    cases e9
    have ne := ad_sub (n := 3) j0 j3 (by omega)
    obtain ⟨q3, a3⟩ := y_st (d := d + 2) (v := 0) a.f hp j3
    have ld := y_ld (d := d + 2) (x := s.1 12) (n := x) a3 hp (by exact j0)
    have my : (sM s x3 0).2.1 x = s.2.1 x := if_neg (by omega)
    rw [my] at ld
    have g11 : (mj_sI h 131 0 (4016 * p + x3) 0).1 135 0 p = s.1 11 := a3.g (by exact hr) 11 (by omega) (by omega)
    rw [if_neg (by decide), if_neg (by decide), if_neg (by decide), if_neg (by decide), if_neg (by decide), if_neg (by decide), if_neg (by decide), if_neg (by decide), q3, mj_xv_ret, if_pos ip, ld, mj_xi_ret, if_pos ip, g11, q_337_292]
    exact ⟨_, rfl, a.up (a3.r 11 135 _ (by omega))⟩
  | n + 29, ho, _ => exact absurd ho.2 (by omega)
theorem y_sch {o : Nat} (a : yS p h0 s w h) (hp : p < 6) (hr : ¬ s.1 14 = 0) (ho : 15 ≤ o) (e : cSch s w o = some (s', w')) : yDoW p h0 s' w' (mj_R mg (d + 5) mq_335 (0, [(0, vR 15 0), (1, vI (nI p)), (2, vI (nI o))], [], h)) := by
  have ip := yp_in hp
  have g8 : h.1 132 0 p = s.1 8 := a.f.g hr 8 (by omega) (by omega)
  have g9 : h.1 133 0 p = s.1 9 := a.f.g hr 9 (by omega) (by omega)
  have g12 : h.1 136 0 p = s.1 12 := a.f.g hr 12 (by omega) (by omega)
  obtain ⟨n1, n2⟩ := a.f.n1 hr
  have spk : ∀ o, 20 ≤ o ∧ o ≤ 28 → cSch s w o = some (s', w') → ∀ x5, yDoW p h0 s' w' (mj_R mg (d + 5) mq_335 (621, [(5, vI x5), (4, vI (s.1 9)), (3, vI (s.1 8)), (0, vR 15 0), (1, vI (nI p)), (2, vI (nI o))], [], h)) := by
    intro o ho e x5
    obtain ⟨h3, q3, a3⟩ := y_spk (d := d) a hp hr ho e
    rw [q_335_621, q3, mj_xv_ret, q_335_630]
    exact ⟨_, rfl, a3⟩
  rw [q_335_0, if_pos ip, if_pos ip, if_pos ip, nI_clamp (show p < 2 ^ 31 by omega), g8, g9, g12]
  match o, ho, e with
  | 15, _, e =>
    obtain ⟨x1, j1, e⟩ := Option.bind_eq_some_iff.mp e
    obtain ⟨x3, j3, e⟩ := Option.bind_eq_some_iff.mp e
    obtain ⟨t, t1, t2⟩ := Option.map_eq_some_iff.mp e
    cases t2
    obtain ⟨q1, a1⟩ := y_st (d := d + 3) (v := s.1 9) a.f hp j1
    obtain ⟨q2, a2⟩ := y_st (d := d + 3) (v := 0) (x := s.1 8 - 3) (n := x3) a1 hp (by exact j3)
    obtain ⟨h3, q3, a3⟩ := y_take (d := d + 4) a2 hp (by exact hr)
    obtain ⟨h4, q4, a4⟩ := y_take (d := d + 4) a3 hp (by exact hr)
    obtain ⟨h5, q5, a5⟩ := y_ready (d := d + 3) a4 hp (by exact hr) t1
    have k1 : h4.1 138 0 p &&& 1 = s.1 15 := (a4.n1 (by exact hr)).1
    rw [if_neg (by decide), if_neg (by decide), if_neg (by decide), if_neg (by decide), if_neg (by decide), if_neg (by decide), if_neg (by decide), if_neg (by decide), if_neg (by decide), if_neg (by decide), if_neg (by decide), if_neg (by decide), if_neg (by decide), if_neg (by decide), if_neg (by decide), if_pos (by decide), q_335_458, q1, mj_xv_ret, q2, mj_xv_ret, q3, mj_xv_ret, q4, mj_xv_ret, if_pos (by decide), if_pos ip, nI_clamp (show p < 2 ^ 31 by omega), k1, q_335_510, q5, mj_xv_ret, q_335_630]
    exact ⟨_, rfl, a.up a5⟩
  | 16, _, e =>
    obtain ⟨x1, j1, e⟩ := Option.bind_eq_some_iff.mp e
    obtain ⟨x3, j3, e⟩ := Option.bind_eq_some_iff.mp e
    obtain ⟨t, t1, t2⟩ := Option.map_eq_some_iff.mp e
    cases t2
    obtain ⟨q1, a1⟩ := y_st (d := d + 3) (v := s.1 9) a.f hp j1
    obtain ⟨q2, a2⟩ := y_st (d := d + 3) (v := 0) (x := s.1 8 - 3) (n := x3) a1 hp (by exact j3)
    obtain ⟨h3, q3, a3⟩ := y_take (d := d + 4) a2 hp (by exact hr)
    obtain ⟨h4, q4, a4⟩ := y_take (d := d + 4) a3 hp (by exact hr)
    obtain ⟨h5, q5, a5⟩ := y_ready (d := d + 3) a4 hp (by exact hr) t1
    have k1 : h4.1 138 0 p &&& 1 = s.1 15 := (a4.n1 (by exact hr)).1
    rw [if_neg (by decide), if_neg (by decide), if_neg (by decide), if_neg (by decide), if_neg (by decide), if_neg (by decide), if_neg (by decide), if_neg (by decide), if_neg (by decide), if_neg (by decide), if_neg (by decide), if_neg (by decide), if_neg (by decide), if_neg (by decide), if_neg (by decide), if_neg (by decide), if_pos (by decide), q_335_458, q1, mj_xv_ret, q2, mj_xv_ret, q3, mj_xv_ret, q4, mj_xv_ret, if_neg (by decide), q_335_510, Int32.add_zero, q5, mj_xv_ret, q_335_630]
    exact ⟨_, rfl, a.up a5⟩
  | 17, _, e =>
    obtain ⟨h1, q1, a1⟩ := y_endb (d := d + 1) a hp hr e
    rw [if_neg (by decide), if_neg (by decide), if_neg (by decide), if_neg (by decide), if_neg (by decide), if_neg (by decide), if_neg (by decide), if_neg (by decide), if_neg (by decide), if_neg (by decide), if_neg (by decide), if_neg (by decide), if_neg (by decide), if_neg (by decide), if_neg (by decide), if_neg (by decide), if_neg (by decide), if_pos (by decide), q1, mj_xv_ret, q_335_630]
    exact ⟨_, rfl, a1⟩
  | 18, _, e =>
    have e9 := Option.some.inj e
    cases e9
    obtain ⟨h1, q1, a1⟩ := y_gone (d := d + 4) a.f hp
    rw [if_neg (by decide), if_neg (by decide), if_neg (by decide), if_neg (by decide), if_neg (by decide), if_neg (by decide), if_neg (by decide), if_neg (by decide), if_neg (by decide), if_neg (by decide), if_neg (by decide), if_neg (by decide), if_neg (by decide), if_neg (by decide), if_neg (by decide), if_neg (by decide), if_neg (by decide), if_neg (by decide), if_pos (by decide), q1, mj_xv_ret, q_335_630]
    exact ⟨_, rfl, a.up a1⟩
  | 19, _, e =>
    simp only [cSch] at e
    by_cases c : mj_in (s.1 12 + 4) 4016
    · rw [if_pos c] at e
      obtain ⟨x, j0, e9⟩ := Option.map_eq_some_iff.mp e
      cases e9
      obtain ⟨w1, w2⟩ := in_4016 c
      have B := (a.f.r 11 135 (s.2.1 x) (by omega)).w (by exact hr) (n := (s.1 12 + 4).toNatClampNeg) (by omega)
      rw [← w1] at B
      have m36 : (mj_sI (mj_sI h 135 0 p (s.2.1 x)) 136 0 p (s.1 12 + 4)).1 136 0 p = s.1 12 + 4 := mI_same
      rw [if_neg (by decide), if_neg (by decide), if_neg (by decide), if_neg (by decide), if_neg (by decide), if_neg (by decide), if_neg (by decide), if_neg (by decide), if_neg (by decide), if_neg (by decide), if_neg (by decide), if_neg (by decide), if_neg (by decide), if_neg (by decide), if_neg (by decide), if_neg (by decide), if_neg (by decide), if_neg (by decide), if_neg (by decide), if_pos (by decide), y_ld a.f hp j0, mj_xi_ret, if_pos ip, if_pos ip, if_pos ip, if_pos ip, if_pos ip, m36, n1, q_335_630]
      exact ⟨_, rfl, a.up B⟩
    · rw [if_neg c] at e; cases e
  | 20, _, e =>
    rw [if_neg (by decide), if_neg (by decide), if_neg (by decide), if_neg (by decide), if_neg (by decide), if_neg (by decide), if_neg (by decide), if_neg (by decide), if_neg (by decide), if_neg (by decide), if_neg (by decide), if_neg (by decide), if_neg (by decide), if_neg (by decide), if_neg (by decide), if_neg (by decide), if_neg (by decide), if_neg (by decide), if_neg (by decide), if_neg (by decide), if_pos (by decide)]
    exact spk 20 (by omega) e _
  | 21, _, e =>
    rw [if_neg (by decide), if_neg (by decide), if_neg (by decide), if_neg (by decide), if_neg (by decide), if_neg (by decide), if_neg (by decide), if_neg (by decide), if_neg (by decide), if_neg (by decide), if_neg (by decide), if_neg (by decide), if_neg (by decide), if_neg (by decide), if_neg (by decide), if_neg (by decide), if_neg (by decide), if_neg (by decide), if_neg (by decide), if_neg (by decide), if_neg (by decide), if_pos (by decide)]
    exact spk 21 (by omega) e _
  | 22, _, e =>
    rw [if_neg (by decide), if_neg (by decide), if_neg (by decide), if_neg (by decide), if_neg (by decide), if_neg (by decide), if_neg (by decide), if_neg (by decide), if_neg (by decide), if_neg (by decide), if_neg (by decide), if_neg (by decide), if_neg (by decide), if_neg (by decide), if_neg (by decide), if_neg (by decide), if_neg (by decide), if_neg (by decide), if_neg (by decide), if_neg (by decide), if_neg (by decide), if_neg (by decide), if_pos (by decide)]
    exact spk 22 (by omega) e _
  | 23, _, e =>
    rw [if_neg (by decide), if_neg (by decide), if_neg (by decide), if_neg (by decide), if_neg (by decide), if_neg (by decide), if_neg (by decide), if_neg (by decide), if_neg (by decide), if_neg (by decide), if_neg (by decide), if_neg (by decide), if_neg (by decide), if_neg (by decide), if_neg (by decide), if_neg (by decide), if_neg (by decide), if_neg (by decide), if_neg (by decide), if_neg (by decide), if_neg (by decide), if_neg (by decide), if_neg (by decide), if_pos (by decide)]
    exact spk 23 (by omega) e _
  | 24, _, e =>
    rw [if_neg (by decide), if_neg (by decide), if_neg (by decide), if_neg (by decide), if_neg (by decide), if_neg (by decide), if_neg (by decide), if_neg (by decide), if_neg (by decide), if_neg (by decide), if_neg (by decide), if_neg (by decide), if_neg (by decide), if_neg (by decide), if_neg (by decide), if_neg (by decide), if_neg (by decide), if_neg (by decide), if_neg (by decide), if_neg (by decide), if_neg (by decide), if_neg (by decide), if_neg (by decide), if_neg (by decide), if_pos (by decide)]
    exact spk 24 (by omega) e _
  | 25, _, e =>
    rw [if_neg (by decide), if_neg (by decide), if_neg (by decide), if_neg (by decide), if_neg (by decide), if_neg (by decide), if_neg (by decide), if_neg (by decide), if_neg (by decide), if_neg (by decide), if_neg (by decide), if_neg (by decide), if_neg (by decide), if_neg (by decide), if_neg (by decide), if_neg (by decide), if_neg (by decide), if_neg (by decide), if_neg (by decide), if_neg (by decide), if_neg (by decide), if_neg (by decide), if_neg (by decide), if_neg (by decide), if_neg (by decide), if_pos (by decide)]
    exact spk 25 (by omega) e _
  | 26, _, e =>
    rw [if_neg (by decide), if_neg (by decide), if_neg (by decide), if_neg (by decide), if_neg (by decide), if_neg (by decide), if_neg (by decide), if_neg (by decide), if_neg (by decide), if_neg (by decide), if_neg (by decide), if_neg (by decide), if_neg (by decide), if_neg (by decide), if_neg (by decide), if_neg (by decide), if_neg (by decide), if_neg (by decide), if_neg (by decide), if_neg (by decide), if_neg (by decide), if_neg (by decide), if_neg (by decide), if_neg (by decide), if_neg (by decide), if_neg (by decide), if_pos (by decide)]
    exact spk 26 (by omega) e _
  | 27, _, e =>
    rw [if_neg (by decide), if_neg (by decide), if_neg (by decide), if_neg (by decide), if_neg (by decide), if_neg (by decide), if_neg (by decide), if_neg (by decide), if_neg (by decide), if_neg (by decide), if_neg (by decide), if_neg (by decide), if_neg (by decide), if_neg (by decide), if_neg (by decide), if_neg (by decide), if_neg (by decide), if_neg (by decide), if_neg (by decide), if_neg (by decide), if_neg (by decide), if_neg (by decide), if_neg (by decide), if_neg (by decide), if_neg (by decide), if_neg (by decide), if_neg (by decide), if_pos (by decide)]
    exact spk 27 (by omega) e _
  | 28, _, e =>
    rw [if_neg (by decide), if_neg (by decide), if_neg (by decide), if_neg (by decide), if_neg (by decide), if_neg (by decide), if_neg (by decide), if_neg (by decide), if_neg (by decide), if_neg (by decide), if_neg (by decide), if_neg (by decide), if_neg (by decide), if_neg (by decide), if_neg (by decide), if_neg (by decide), if_neg (by decide), if_neg (by decide), if_neg (by decide), if_neg (by decide), if_neg (by decide), if_neg (by decide), if_neg (by decide), if_neg (by decide), if_neg (by decide), if_neg (by decide), if_neg (by decide), if_neg (by decide), if_pos (by decide)]
    exact spk 28 (by omega) e _
  | 29, _, e =>
    have e9 := Option.some.inj e
    cases e9
    obtain ⟨h3, q3, a3⟩ := y_fault (d := d + 3) a.f hp
    rw [if_neg (by decide), if_neg (by decide), if_neg (by decide), if_neg (by decide), if_neg (by decide), if_neg (by decide), if_neg (by decide), if_neg (by decide), if_neg (by decide), if_neg (by decide), if_neg (by decide), if_neg (by decide), if_neg (by decide), if_neg (by decide), if_neg (by decide), if_neg (by decide), if_neg (by decide), if_neg (by decide), if_neg (by decide), if_neg (by decide), if_neg (by decide), if_neg (by decide), if_neg (by decide), if_neg (by decide), if_neg (by decide), if_neg (by decide), if_neg (by decide), if_neg (by decide), if_neg (by decide), if_pos (by decide), q3, mj_xv_ret, q_335_630]
    exact ⟨_, rfl, a.up a3⟩
  | 30, _, e =>
    have e9 := Option.some.inj e
    cases e9
    obtain ⟨h3, q3, a3⟩ := y_come (d := d + 4) (v := cSelf s) a.f hp hr
    rw [if_neg (by decide), if_neg (by decide), if_neg (by decide), if_neg (by decide), if_neg (by decide), if_neg (by decide), if_neg (by decide), if_neg (by decide), if_neg (by decide), if_neg (by decide), if_neg (by decide), if_neg (by decide), if_neg (by decide), if_neg (by decide), if_neg (by decide), if_neg (by decide), if_neg (by decide), if_neg (by decide), if_neg (by decide), if_neg (by decide), if_neg (by decide), if_neg (by decide), if_neg (by decide), if_neg (by decide), if_neg (by decide), if_neg (by decide), if_neg (by decide), if_neg (by decide), if_neg (by decide), if_neg (by decide), if_pos (by decide), if_pos ip, a.f.n hr, q3, mj_xv_ret, q_335_630]
    exact ⟨_, rfl, a.up a3⟩
  | 31, _, e =>
    have e9 := Option.some.inj e
    cases e9
    obtain ⟨h3, q3, a3⟩ := y_gone (d := d + 4) (a.f.r 19 140 1 (by omega)) hp
    have q3 : mj_R mg (d + 4) mq_328 (0, [(0, vR 15 0), (1, vI (nI p))], [], mj_sI h 140 0 p (1 &&& 1)) = _ := q3
    rw [if_neg (by decide), if_neg (by decide), if_neg (by decide), if_neg (by decide), if_neg (by decide), if_neg (by decide), if_neg (by decide), if_neg (by decide), if_neg (by decide), if_neg (by decide), if_neg (by decide), if_neg (by decide), if_neg (by decide), if_neg (by decide), if_neg (by decide), if_neg (by decide), if_neg (by decide), if_neg (by decide), if_neg (by decide), if_neg (by decide), if_neg (by decide), if_neg (by decide), if_neg (by decide), if_neg (by decide), if_neg (by decide), if_neg (by decide), if_neg (by decide), if_neg (by decide), if_neg (by decide), if_neg (by decide), if_neg (by decide), if_pos (by decide), if_pos ip, q3, mj_xv_ret, q_335_630]
    exact ⟨_, rfl, a.up a3⟩
  | n + 32, _, e => cases e
end
