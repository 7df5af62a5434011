/-! the component's core: schedule, bytes -/
section
variable {k d : Nat} {h0 h : mj_H} {s s' : Cr} {w w' : Wd}
theorem k_come {c : Nat} {v : Int32} {b : Bool} (a : RF k h0 s h) (hc : c < 4016) (e : cCome s c v = some (b, s')) : ∃ h', mj_R mg (d + 3) mq_191 (0, [(0, vR 13 k), (1, vI (nI c)), (2, vI v)], [], h) = some (.inl (some (vI (bI b)), h')) ∧ RF k h0 s' h' := by
  unfold cCome at e
  rw [q_191_0, if_pos (in_n hc (by omega)), nI_clamp (by omega), a.y c hc]
  by_cases q : s.2.1 c = -1
  · rw [if_pos q] at e
    have e9 := Option.some.inj e
    cases e9
    rw [if_neg (fun z => z q)]
    exact ⟨_, rfl, a⟩
  · rw [if_neg q] at e
    by_cases q2 : mj_in (s.2.1 c) 8032
    · rw [if_pos q2] at e
      obtain ⟨u, j3, e⟩ := Option.bind_eq_some_iff.mp e
      obtain ⟨u1, hu, u3, u4⟩ := ad_0 j3
      rw [if_pos q, if_pos u3, u4, a.y u hu]
      by_cases q3 : s.2.1 u = 0
      · rw [if_pos q3] at e
        obtain ⟨v1, j2, e⟩ := Option.bind_eq_some_iff.mp e
        obtain ⟨z, j4, e⟩ := Option.bind_eq_some_iff.mp e
        obtain ⟨t, t1, t2⟩ := Option.map_eq_some_iff.mp e
        cases t2
        obtain ⟨y1, hv, y3, y4⟩ := ad_0 j2
        obtain ⟨x1, hz, x3, x4⟩ := ad_0 j4
        obtain ⟨h1, q1, a1⟩ := k_ready (d := d + 1) ((a.m z v).m c (-1)) t1
        rw [if_pos q3, if_pos y3, y4, a.y v1 hv, if_pos x3, if_pos (in_n hc (by omega)), x4, q1, mj_xv_ret]
        exact ⟨_, rfl, a1⟩
      · rw [if_neg q3] at e
        obtain ⟨t, t1, t2⟩ := Option.map_eq_some_iff.mp e
        cases t2
        obtain ⟨h1, q1, a1⟩ := k_wake (d := d) a t1
        rw [if_neg q3, q1, mj_xv_ret]
        exact ⟨_, rfl, a1⟩
    · rw [if_neg q2] at e; cases e
theorem sM_id (x : Nat) : sM s x (s.2.1 x) = s := by
  refine Prod.ext rfl (Prod.ext (funext fun t => ?_) rfl)
  show (if t = x then s.2.1 x else s.2.1 t) = s.2.1 t
  by_cases e : t = x
  · rw [if_pos e, e]
  · rw [if_neg e]
theorem ad_sub {s1 s2 : Cr} {a : Int32} {x y n : Nat} (j : adM s1 a = some x) (j3 : adM s2 (a - nI n) = some y) (hn : n < 10000) : y + n = x := by
  obtain ⟨x1, x2, -, -⟩ := ad_0 j
  obtain ⟨y1, y2, -, -⟩ := ad_0 j3
  have e := congrArg Int32.toInt y1
  rw [x1, Int32.toInt_sub, nI_toInt (by omega), nI_toInt (by omega), nI_toInt (by omega), Int.bmod_eq_of_le (by omega) (by omega)] at e
  omega
/-- words of channels -/
theorem k_spk {o : Nat} (a : RS k h0 s w h) (hl : s.1 15 = 0 ∨ s.1 15 = 1) (ho : 20 ≤ o ∧ o ≤ 28) (e : cSch s w o = some (s', w')) : cDoW k h0 s' w' (mj_R mg (d + 4) mq_183 (0, [(0, vR 13 k), (1, vI (nI o))], [], h)) := by
  have g8 := a.f.g 8 (by omega) (by omega)
  have g11 := a.f.g 11 (by omega) (by omega)
  have g12 := a.f.g 12 (by omega) (by omega)
  obtain ⟨h1, q1, a1⟩ := k_pop (d := d + 3) a.f
  obtain ⟨h2, q2, a2⟩ := k_pop (d := d + 3) a1
  have e8 : (cPop s).1 8 = s.1 9 := rfl
  rw [e8] at q2
  rw [q_183_0, g8, g11, g12]
  match o, ho, e with
  | 20, _, e =>
    obtain ⟨h3, q3, a3⟩ := k_in (d := d + 1) (a.up a2) hl e
    rw [if_pos (by decide), q1, mj_xi_ret, q2, mj_xi_ret, q3, mj_xv_ret, q_183_300]
    exact ⟨_, rfl, a3⟩
  | 21, _, e =>
    obtain ⟨h3, q3, a3⟩ := k_out (d := d) (a.up a2) hl e
    rw [if_neg (by decide), if_pos (by decide), q1, mj_xi_ret, q2, mj_xi_ret, q3, mj_xv_ret, q_183_300_2]
    exact ⟨_, rfl, a3⟩
  | 22, _, e =>
    obtain ⟨x3, j3, e⟩ := Option.bind_eq_some_iff.mp e
    obtain ⟨x, j0, e9⟩ := Option.map_eq_some_iff.mp e
    cases e9
    obtain ⟨-, -, i3, i4⟩ := ad_0 j3
    obtain ⟨-, -, k3, k4⟩ := ad_0 j0
    rw [if_neg (by decide), if_neg (by decide), if_pos (by decide), if_pos i3, if_pos k3, i4, k4, q_183_300_3]
    exact ⟨_, rfl, a.up ((a.f.m x3 1).m x (-1))⟩
  | 23, _, e =>
    have p8 : h1.1 13 k 8 = s.1 9 := a1.g 8 (by omega) (by omega)
    simp only [cSch] at e
    rw [if_neg (by decide), if_neg (by decide), if_neg (by decide), if_pos (by decide), q1, mj_xi_ret, p8]
    by_cases c : s.1 9 = 0
    · rw [if_pos c] at e
      have e9 := Option.some.inj e
      cases e9
      rw [if_pos c, q_183_300_4]
      exact ⟨_, rfl, a.up a1⟩
    · rw [if_neg c] at e
      obtain ⟨t, t1, t2⟩ := Option.map_eq_some_iff.mp e
      cases t2
      obtain ⟨h3, q3, a3⟩ := k_enb (d := d + 1) (a.up a1) hl t1
      rw [if_neg c, q3, mj_xv_ret, q_183_300_4]
      exact ⟨_, rfl, a3⟩
  | 24, _, e =>
    obtain ⟨x, j0, e9⟩ := Option.map_eq_some_iff.mp e
    obtain ⟨-, k2, k3, k4⟩ := ad_0 j0
    rw [if_neg (by decide), if_neg (by decide), if_neg (by decide), if_neg (by decide), if_pos (by decide)]
    by_cases c : s.1 8 = 0
    · rw [if_pos c] at e9
      cases e9
      rw [if_pos c, if_pos k3, k4, q_183_161, if_pos k3, k4, q_183_300_3, a.f.y x k2]
      have b := a.f.m x (s.2.1 x)
      rw [sM_id] at b
      exact ⟨_, rfl, a.up b⟩
    · rw [if_neg c] at e9
      cases e9
      rw [if_neg c, q_183_161, if_pos k3, k4, q_183_300_3]
      exact ⟨_, rfl, a.up (a.f.m x 3)⟩
  | 25, _, e =>
    obtain ⟨x, j0, e⟩ := Option.bind_eq_some_iff.mp e
    obtain ⟨-, k2, k3, k4⟩ := ad_0 j0
    rw [if_neg (by decide), if_neg (by decide), if_neg (by decide), if_neg (by decide), if_neg (by decide), if_pos (by decide), if_pos k3, k4, a.f.y x k2]
    by_cases c : s.2.1 x = 3
    · rw [if_pos c] at e
      have e9 := Option.some.inj e
      cases e9
      rw [if_pos c, q_183_300_3]
      exact ⟨_, rfl, a⟩
    · rw [if_neg c] at e
      obtain ⟨t, t1, t2⟩ := Option.map_eq_some_iff.mp e
      cases t2
      obtain ⟨h3, q3, a3⟩ := k_rest (d := d + 3) (a.f.m x 2) t1
      rw [if_neg c, if_pos k3, q3, mj_xv_ret, q_183_300_3]
      exact ⟨_, rfl, a.up a3⟩
  | 26, _, e =>
    obtain ⟨t, t1, t2⟩ := Option.map_eq_some_iff.mp e
    cases t2
    obtain ⟨h3, q3, a3⟩ := k_pop (d := d + 3) a2
    have e10 : (cPop (cPop s)).1 8 = s.1 10 := rfl
    rw [e10] at q3
    obtain ⟨h4, q4, a4⟩ := k_dis (d := d + 1) (a.up a3) hl t1
    rw [if_neg (by decide), if_neg (by decide), if_neg (by decide), if_neg (by decide), if_neg (by decide), if_neg (by decide), if_pos (by decide), q1, mj_xi_ret, q2, mj_xi_ret, q3, mj_xi_ret, q4, mj_xv_ret, q_183_300_5]
    exact ⟨_, rfl, a4⟩
  | 27, _, e =>
    have p12 : h2.1 13 k 12 = s.1 12 := a2.g 12 (by omega) (by omega)
    simp only [cSch] at e
    rw [if_neg (by decide), if_neg (by decide), if_neg (by decide), if_neg (by decide), if_neg (by decide), if_neg (by decide), if_neg (by decide), if_pos (by decide), q1, mj_xi_ret, q2, mj_xi_ret, p12]
    by_cases c : s.1 8 = 0
    · rw [if_pos c] at e
      have e9 := Option.some.inj e
      cases e9
      rw [if_pos c, q_183_300_6]
      exact ⟨_, rfl, a.up a2⟩
    · rw [if_neg c] at e
      obtain ⟨x, j0, e9⟩ := Option.map_eq_some_iff.mp e
      obtain ⟨-, k2, k3, k4⟩ := ad_0 j0
      have py : h2.1 70 k x = s.2.1 x := a2.y x k2
      rw [if_neg c, if_pos k3, k4, py]
      by_cases c2 : s.2.1 x = -1
      · rw [if_pos c2] at e9
        cases e9
        rw [if_neg (fun z => z c2), if_pos k3, q_183_300_6]
        exact ⟨_, rfl, a.up (a2.m x _)⟩
      · rw [if_neg c2] at e9
        cases e9
        rw [if_pos c2, q_183_300_6]
        exact ⟨_, rfl, a.up a2⟩
  | 28, _, e =>
    obtain ⟨x3, j3, e⟩ := Option.bind_eq_some_iff.mp e
    obtain ⟨x, j0, e9⟩ := Option.map_eq_some_iff.mp e
    cases e9
    obtain ⟨-, -, i3, i4⟩ := ad_0 j3
    obtain ⟨-, k2, k3, k4⟩ := ad_0 j0
    have ne := ad_sub (n := 3) j0 j3 (by omega)
    have B := a.f.m x3 0
    have my : (mj_sI h 70 k x3 0).1 70 k x = s.2.1 x := by rw [B.y x k2]; show (if x = x3 then _ else _) = _; rw [if_neg (by omega)]
    rw [if_neg (by decide), if_neg (by decide), if_neg (by decide), if_neg (by decide), if_neg (by decide), if_neg (by decide), if_neg (by decide), if_neg (by decide), if_pos i3, if_pos k3, i4, k4, my, q_183_300_3]
    exact ⟨_, rfl, a.up (B.r 11 _ (by omega) (by omega))⟩
  | n + 29, ho, _ => exact absurd ho.2 (by omega)
/-- the schedule -/
theorem k_sch {o : Nat} (a : RS k h0 s w h) (hl : s.1 15 = 0 ∨ s.1 15 = 1) (ho : 15 ≤ o) (e : cSch s w o = some (s', w')) : cDoW k h0 s' w' (mj_R mg (d + 5) mq_182 (0, [(0, vR 13 k), (1, vI (nI o))], [], h)) := by
  have g8 := a.f.g 8 (by omega) (by omega)
  have g12 := a.f.g 12 (by omega) (by omega)
  obtain ⟨h1, q1, a1⟩ := k_pop (d := d + 4) a.f
  obtain ⟨h2, q2, a2⟩ := k_pop (d := d + 4) a1
  have e8 : (cPop s).1 8 = s.1 9 := rfl
  rw [e8] at q2
  have spk : ∀ o, 20 ≤ o ∧ o ≤ 28 → cSch s w o = some (s', w') → cDoW k h0 s' w' (mj_R mg (d + 5) mq_182 (288, [(0, vR 13 k), (1, vI (nI o))], [], h)) := by
    intro o ho e
    obtain ⟨h3, q3, a3⟩ := k_spk (d := d) a hl ho e
    rw [q_182_288, q3, mj_xv_ret, q_182_293]
    exact ⟨_, rfl, a3⟩
  have p15 : h2.1 13 k 15 = s.1 15 := a2.g 15 (by omega) (by omega)
  rw [q_182_0, g8, g12]
  match o, ho, e with
  | 15, _, e =>
    obtain ⟨x1, j1, e⟩ := Option.bind_eq_some_iff.mp e
    obtain ⟨x3, j3, e⟩ := Option.bind_eq_some_iff.mp e
    obtain ⟨t, t1, t2⟩ := Option.map_eq_some_iff.mp e
    cases t2
    obtain ⟨-, -, i3, i4⟩ := ad_0 j3
    obtain ⟨-, -, k3, k4⟩ := ad_0 j1
    rw [if_pos (by decide), q_182_84, q1, mj_xi_ret, q2, mj_xi_ret, if_pos k3, if_pos i3, if_neg (by decide), k4, i4, p15]
    rcases hl with l | l
    · rw [l] at t1
      obtain ⟨h3, q3, a3⟩ := k_ready (d := d + 3) ((a2.m x1 (s.1 9)).m x3 0) t1
      rw [if_pos l, q_182_131, q_182_132, q3, mj_xv_ret, q_182_293_3]
      exact ⟨_, rfl, a.up a3⟩
    · rw [l] at t1
      obtain ⟨h3, q3, a3⟩ := k_ready (d := d + 3) ((a2.m x1 (s.1 9)).m x3 0) t1
      rw [if_neg (by rw [l]; decide), q_182_132, q3, mj_xv_ret, q_182_293_3]
      exact ⟨_, rfl, a.up a3⟩
  | 16, _, e =>
    obtain ⟨x1, j1, e⟩ := Option.bind_eq_some_iff.mp e
    obtain ⟨x3, j3, e⟩ := Option.bind_eq_some_iff.mp e
    obtain ⟨t, t1, t2⟩ := Option.map_eq_some_iff.mp e
    cases t2
    obtain ⟨-, -, i3, i4⟩ := ad_0 j3
    obtain ⟨-, -, k3, k4⟩ := ad_0 j1
    obtain ⟨h3, q3, a3⟩ := k_ready (d := d + 3) ((a2.m x1 (s.1 9)).m x3 0) t1
    rw [if_neg (by decide), if_pos (by decide), q_182_84, q1, mj_xi_ret, q2, mj_xi_ret, if_pos k3, if_pos i3, if_pos (by decide), k4, i4, q_182_131, q_182_132, Int32.add_zero, q3, mj_xv_ret, q_182_293_3]
    exact ⟨_, rfl, a.up a3⟩
  | 17, _, e =>
    obtain ⟨x0, j0, e⟩ := Option.bind_eq_some_iff.mp e
    obtain ⟨x1, j1, e⟩ := Option.bind_eq_some_iff.mp e
    obtain ⟨x2, j2, e⟩ := Option.bind_eq_some_iff.mp e
    obtain ⟨-, z2, z3, z4⟩ := ad_0 j0
    obtain ⟨-, i2, i3, i4⟩ := ad_0 j1
    obtain ⟨-, k2, k3, k4⟩ := ad_0 j2
    have m1 : ∀ v, (mj_sI h 70 k x1 v).1 70 k x1 = v := fun v => by rw [mI_same]
    rw [if_neg (by decide), if_neg (by decide), if_pos (by decide), if_pos i3, if_pos i3, if_pos i3, i4, a.f.y x1 i2, m1]
    by_cases c : s.2.1 x1 - 1 = 0
    · rw [if_pos c] at e
      by_cases c2 : mj_in (s.2.1 x2) 8032
      · rw [if_pos c2] at e
        obtain ⟨y1, l1, e⟩ := Option.bind_eq_some_iff.mp e
        obtain ⟨y3, l3, e⟩ := Option.bind_eq_some_iff.mp e
        by_cases c3 : x0 = x1 ∨ x2 = x1 ∨ y1 = x0 ∨ y1 = x1 ∨ y1 = x2
        · rw [if_pos c3] at e; cases e
        · rw [if_neg c3] at e
          obtain ⟨t, t1, t2⟩ := Option.map_eq_some_iff.mp e
          cases t2
          obtain ⟨-, -, n3, n4⟩ := ad_0 l1
          obtain ⟨-, -, o3, o4⟩ := ad_0 l3
          have m0 : (mj_sI h 70 k x1 0).1 70 k x0 = s.2.1 x0 := by rw [mI_1, if_neg (by omega)]; exact a.f.y x0 z2
          have m2 : (mj_sI h 70 k x1 0).1 70 k x2 = s.2.1 x2 := by rw [mI_1, if_neg (by omega)]; exact a.f.y x2 k2
          obtain ⟨h3, q3, a3⟩ := k_ready (d := d + 3) (((a.f.m x1 0).m y1 (s.2.1 x0)).m y3 0) t1
          rw [c, if_neg (fun z => z rfl), if_pos k3, if_pos z3, k4, z4, m0, m2, if_pos n3, if_pos o3, n4, o4, q3, mj_xv_ret, q_182_215_2, q_182_293_2]
          exact ⟨_, rfl, a.up (a3.r 14 0 (by omega) (by omega))⟩
      · rw [if_neg c2] at e; cases e
    · rw [if_neg c] at e
      have e9 := Option.some.inj e
      cases e9
      rw [if_pos c, q_182_215, q_182_293]
      exact ⟨_, rfl, a.up ((a.f.m x1 _).r 14 0 (by omega) (by omega))⟩
  | 18, _, e =>
    have e9 := Option.some.inj e
    cases e9
    rw [if_neg (by decide), if_neg (by decide), if_neg (by decide), if_pos (by decide), q_182_293]
    exact ⟨_, rfl, a.up (a.f.r 14 0 (by omega) (by omega))⟩
  | 19, _, e =>
    simp only [cSch] at e
    by_cases c : mj_in (s.1 12 + 4) 4016
    · rw [if_pos c] at e
      obtain ⟨x, j0, e9⟩ := Option.map_eq_some_iff.mp e
      cases e9
      obtain ⟨-, k2, k3, k4⟩ := ad_0 j0
      have B := a.f.r 11 (s.2.1 x) (by omega) (by omega)
      have b12 : (mj_sI h 13 k 11 (s.2.1 x)).1 13 k 12 = s.1 12 := B.g 12 (by omega) (by omega)
      rw [if_neg (by decide), if_neg (by decide), if_neg (by decide), if_neg (by decide), if_pos (by decide), if_pos k3, k4, a.f.y x k2, b12, q_182_293]
      exact ⟨_, rfl, a.up (B.r 12 _ (by omega) (by omega))⟩
    · rw [if_neg c] at e; cases e
  | 20, _, e =>
    rw [if_neg (by decide), if_neg (by decide), if_neg (by decide), if_neg (by decide), if_neg (by decide), if_pos (by decide)]
    exact spk 20 (by omega) e
  | 21, _, e =>
    rw [if_neg (by decide), if_neg (by decide), if_neg (by decide), if_neg (by decide), if_neg (by decide), if_neg (by decide), if_pos (by decide)]
    exact spk 21 (by omega) e
  | 22, _, e =>
    rw [if_neg (by decide), if_neg (by decide), if_neg (by decide), if_neg (by decide), if_neg (by decide), if_neg (by decide), if_neg (by decide), if_pos (by decide)]
    exact spk 22 (by omega) e
  | 23, _, e =>
    rw [if_neg (by decide), if_neg (by decide), if_neg (by decide), if_neg (by decide), if_neg (by decide), if_neg (by decide), if_neg (by decide), if_neg (by decide), if_pos (by decide)]
    exact spk 23 (by omega) e
  | 24, _, e =>
    rw [if_neg (by decide), if_neg (by decide), if_neg (by decide), if_neg (by decide), if_neg (by decide), if_neg (by decide), if_neg (by decide), if_neg (by decide), if_neg (by decide), if_pos (by decide)]
    exact spk 24 (by omega) e
  | 25, _, e =>
    rw [if_neg (by decide), if_neg (by decide), if_neg (by decide), if_neg (by decide), if_neg (by decide), if_neg (by decide), if_neg (by decide), if_neg (by decide), if_neg (by decide), if_neg (by decide), if_pos (by decide)]
    exact spk 25 (by omega) e
  | 26, _, e =>
    rw [if_neg (by decide), if_neg (by decide), if_neg (by decide), if_neg (by decide), if_neg (by decide), if_neg (by decide), if_neg (by decide), if_neg (by decide), if_neg (by decide), if_neg (by decide), if_neg (by decide), if_pos (by decide)]
    exact spk 26 (by omega) e
  | 27, _, e =>
    rw [if_neg (by decide), if_neg (by decide), if_neg (by decide), if_neg (by decide), if_neg (by decide), if_neg (by decide), if_neg (by decide), if_neg (by decide), if_neg (by decide), if_neg (by decide), if_neg (by decide), if_neg (by decide), if_pos (by decide)]
    exact spk 27 (by omega) e
  | 28, _, e =>
    rw [if_neg (by decide), if_neg (by decide), if_neg (by decide), if_neg (by decide), if_neg (by decide), if_neg (by decide), if_neg (by decide), if_neg (by decide), if_neg (by decide), if_neg (by decide), if_neg (by decide), if_neg (by decide), if_neg (by decide), if_pos (by decide)]
    exact spk 28 (by omega) e
  | 29, _, e =>
    have e9 := Option.some.inj e
    cases e9
    obtain ⟨h3, q3, a3⟩ := k_fails (d := d + 4) a.f
    rw [if_neg (by decide), if_neg (by decide), if_neg (by decide), if_neg (by decide), if_neg (by decide), if_neg (by decide), if_neg (by decide), if_neg (by decide), if_neg (by decide), if_neg (by decide), if_neg (by decide), if_neg (by decide), if_neg (by decide), if_neg (by decide), if_pos (by decide), q3, mj_xv_ret, q_182_293]
    exact ⟨_, rfl, a.up a3⟩
  | 30, _, e =>
    have e9 := Option.some.inj e
    cases e9
    obtain ⟨h3, q3, a3⟩ := k_push (d := d + 4) (v := cSelf s) a.f
    rw [if_neg (by decide), if_neg (by decide), if_neg (by decide), if_neg (by decide), if_neg (by decide), if_neg (by decide), if_neg (by decide), if_neg (by decide), if_neg (by decide), if_neg (by decide), if_neg (by decide), if_neg (by decide), if_neg (by decide), if_neg (by decide), if_neg (by decide), if_pos (by decide), k_self a.f hl, mj_xi_ret, q3, mj_xv_ret, q_182_293]
    exact ⟨_, rfl, a.up a3⟩
  | 31, _, e =>
    have e9 := Option.some.inj e
    cases e9
    rw [if_neg (by decide), if_neg (by decide), if_neg (by decide), if_neg (by decide), if_neg (by decide), if_neg (by decide), if_neg (by decide), if_neg (by decide), if_neg (by decide), if_neg (by decide), if_neg (by decide), if_neg (by decide), if_neg (by decide), if_neg (by decide), if_neg (by decide), if_neg (by decide), if_pos (by decide), q_182_293]
    exact ⟨_, rfl, a.up ((a.f.r 19 1 (by omega) (by omega)).r 14 0 (by omega) (by omega))⟩
  | n + 32, _, e => cases e
end
