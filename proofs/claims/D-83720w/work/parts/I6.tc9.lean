/-! the twin's cores: a byte -/
section
variable {p d : Nat} {h0 h : mj_H} {s s' : Cr} {w w' : Wd}
/-- who runs after a byte -/
theorem y_settle {x2 x3 x4 : Int32} {s1 : Cr} (a : yS p h0 s1 w h) (hp : p < 6) (e : cSettle s1 = some s') : ∃ h', mj_R mg (d + 4) mq_332 (147, [(4, vI x4), (3, vI x3), (2, vI x2), (0, vR 15 0), (1, vI (nI p))], [], h) = some (.inl (some (vI 1), h')) ∧ yS p h0 s' w h' := by
  have ip := yp_in hp
  rw [q_332_147, if_pos ip, nI_clamp (show p < 2 ^ 31 by omega)]
  by_cases c : s1.1 14 = 0
  · have en := cSe_0 c e
    obtain ⟨h1, q1, a1⟩ := y_disp (d := d + 1) a.1.2.2 hp c en
    rw [a.1.2.1, if_pos c, if_neg (fun z => z rfl), q1, mj_xv_ret, q_332_162, y_yield1 a1 hp (cNx_ny c en), mj_xv_ret]
    exact ⟨_, rfl, a.up a1⟩
  · rw [if_pos (a.f.n1 c).2, q_332_162]
    by_cases c2 : ¬ s1.1 14 = 0 ∧ ¬ s1.1 15 = 0 ∧ s1.2.2.1 ≠ []
    · obtain ⟨t, t1, t2⟩ := Option.bind_eq_some_iff.mp e
      obtain ⟨h1, q1, a1⟩ := y_yield2 (d := d) a.f hp c2 t1 t2
      rw [q1, mj_xv_ret]
      exact ⟨_, rfl, a.up a1⟩
    · have es : s1 = s' := by
        unfold cSettle cPre at e
        rw [if_neg c2] at e
        have e : cNext s1 = some s' := e
        unfold cNext at e
        rw [if_pos c] at e
        exact Option.some.inj e
      subst es
      rw [y_yield1 a.f hp c2, mj_xv_ret]
      exact ⟨_, rfl, a⟩
theorem y_settle2 {x2 x3 x4 : Int32} {s2 : Cr} (a : yS p h0 s2 w h) (hp : p < 6) (c : ¬ s2.1 14 = 0) (c2 : ¬ (¬ s2.1 14 = 0 ∧ ¬ s2.1 15 = 0 ∧ s2.2.2.1 ≠ [])) : ∃ h', mj_R mg (d + 4) mq_332 (147, [(4, vI x4), (3, vI x3), (2, vI x2), (0, vR 15 0), (1, vI (nI p))], [], h) = some (.inl (some (vI 1), h')) ∧ yS p h0 s2 w h' := by
  have ip := yp_in hp
  rw [q_332_147, if_pos ip, nI_clamp (show p < 2 ^ 31 by omega), if_pos (a.f.n1 c).2, q_332_162, y_yield1 a.f hp c2, mj_xv_ret]
  exact ⟨_, rfl, a⟩
theorem y_none (a : yS p h0 s w h) (hp : p < 6) (hr : s.1 14 = 0) : mj_R mg (d + 1) mq_332 (0, [(0, vR 15 0), (1, vI (nI p))], [], h) = some (.inl (some (vI 0), h)) := by
  have ip := yp_in hp
  rw [q_332_0, if_pos ip, nI_clamp (show p < 2 ^ 31 by omega), a.1.2.1, if_pos hr, if_neg (fun z => z rfl)]
theorem y_byte {x : Nat} {s1 : Cr} (a : yS p h0 s w h) (hp : p < 6) (hr : ¬ s.1 14 = 0) (hi : mj_in (s.1 11) 6000) (hb : h.1 125 0 (6000 * p + (s.1 11).toNatClampNeg) = nI x) (hx : x < 256) (e : cByte s w x = some (s1, w')) (e2 : cSettle s1 = some s') : ∃ h', mj_R mg (d + 6) mq_332 (0, [(0, vR 15 0), (1, vI (nI p))], [], h) = some (.inl (some (vI 1), h')) ∧ yS p h0 s' w' h' := by
  have ip := yp_in hp
  have g11 : h.1 135 0 p = s.1 11 := a.f.g hr 11 (by omega) (by omega)
  have g13 : h.1 137 0 p = s.1 13 := a.f.g hr 13 (by omega) (by omega)
  have g16 : h.1 142 0 p = s.1 16 := (a.1.1 hr).2.1
  have g17 : h.1 141 0 p = s.1 17 := a.1.2.2.1.1
  have B3 := ((a.f.r 11 135 (s.1 11 + 1) (by omega)).r 17 141 (s.1 17 + 1) (by omega)).r 16 142 (s.1 16 + 1) (by omega)
  obtain ⟨b1, b2⟩ := by_sh ⟨x, hx⟩
  have b1 : nI x >>> ((4 : Int32) &&& 31) = nI (x / 16) := b1
  have b2 : nI x &&& 15 = nI (x % 16) := b2
  have e3 : (s.1 11).toNatClampNeg = (s.1 11).toInt.toNat := rfl
  have i1 := hi.1
  have i2 := hi.2
  have ei : s.1 11 = nI (s.1 11).toNatClampNeg := (n_cl (fun z => by
    have : (s.1 11).toInt < 0 := Int32.lt_iff_toInt_lt.mp z
    omega)).1
  have ead : (6000 : Int32) * nI p + s.1 11 = nI (6000 * p + (s.1 11).toNatClampNeg) := by
    rw [ei, nI_clamp (by omega)]
    show nI 6000 * nI p + _ = _
    rw [nI_mul, nI_add]
  rw [q_332_0]
  simp only [if_pos ip, nI_clamp (show p < 2 ^ 31 by omega)]
  rw [if_pos (a.f.n1 hr).2, g11, ead, if_pos (in_n (by omega) (by omega)), nI_clamp (by omega), hb, b1, b2, g13, g16, g17]
  unfold cByte at e
  by_cases c2 : x / 16 = 2
  · rw [if_pos c2] at e
    have e9 := Option.some.inj e
    cases e9
    rw [if_neg (fun z => z (by rw [c2]; rfl))]
    exact y_settle (d := d + 2) (a.up (B3.r 13 137 _ (by omega))) hp e2
  · rw [if_neg c2] at e
    rw [if_pos (show ¬ nI (x / 16) = 2 from fun z => c2 ((nI_eq (b := 2) (by omega) (by omega)).mp z))]
    by_cases c6 : x / 16 = 6
    · rw [if_pos c6] at e
      have e9 := Option.some.inj e
      cases e9
      rw [if_neg (fun z => z (by rw [c6]; rfl))]
      exact y_settle (d := d + 2) (a.up (B3.r 13 137 _ (by omega))) hp e2
    · rw [if_neg c6] at e
      rw [if_pos (show ¬ nI (x / 16) = 6 from fun z => c6 ((nI_eq (b := 6) (by omega) (by omega)).mp z))]
      have B4 := B3.r 13 137 0 (by omega)
      by_cases c15 : x / 16 = 15
      · rw [if_pos c15] at e
        rw [if_neg (fun z => z (by rw [c15]; rfl))]
        by_cases q : (s.1 13 ||| nI (x % 16)).toNatClampNeg < 15
        · rw [if_pos q] at e
          by_cases q0 : s.1 13 ||| nI (x % 16) < 0
          · rw [if_pos q0] at e; cases e
          · rw [if_neg q0] at e
            obtain ⟨t, t1, t2⟩ := Option.map_eq_some_iff.mp e
            cases t2
            obtain ⟨n1, n2⟩ := n_cl q0
            generalize (s.1 13 ||| nI (x % 16)).toNatClampNeg = n at n1 n2 q t1
            rw [n1]
            obtain ⟨h2, q2, a2⟩ := y_opr (d := d + 2) B4 hp (by exact hr) t1
            rw [q2, mj_xv_ret]
            exact y_settle (d := d + 2) (a.up a2) hp e2
        · rw [if_neg q] at e
          have q0 : ¬ (s.1 13 ||| nI (x % 16)) < 0 := by
            intro z
            have e3 : (s.1 13 ||| nI (x % 16)).toNatClampNeg = (s.1 13 ||| nI (x % 16)).toInt.toNat := rfl
            have e4 : (s.1 13 ||| nI (x % 16)).toInt < 0 := Int32.lt_iff_toInt_lt.mp z
            omega
          obtain ⟨n1, n2⟩ := n_cl q0
          generalize (s.1 13 ||| nI (x % 16)).toNatClampNeg = n at n1 n2 q e
          rw [n1]
          obtain ⟨h2, q2, a2⟩ := y_sch (d := d) (a.up B4) hp (by exact hr) (by omega) e
          rw [q2, mj_xv_ret]
          exact y_settle (d := d + 2) a2 hp e2
      · rw [if_neg c15] at e
        rw [if_pos (show ¬ nI (x / 16) = 15 from fun z => c15 ((nI_eq (b := 15) (by omega) (by omega)).mp z))]
        obtain ⟨t, t1, t2⟩ := Option.map_eq_some_iff.mp e
        cases t2
        obtain ⟨h2, q2, a2⟩ := y_act (d := d + 2) B4 hp (by exact hr) t1 e2
        rw [q2, mj_xv_ret]
        rcases a2 with a2 | ⟨k1, k2, a2⟩
        · exact y_settle (d := d + 2) (a.up a2) hp e2
        · exact y_settle2 (d := d + 2) (a.up a2) hp k1 k2
theorem y_step {cd : Nat → Nat} (a : yS p h0 s w h) (hp : p < 6) (hr : ¬ s.1 14 = 0) (hb : ∀ x, x < 6000 → cd x < 256 → h.1 125 0 (6000 * p + x) = nI (cd x)) (e : cStep cd s w = some (s', w')) : ∃ h', mj_R mg (d + 6) mq_332 (0, [(0, vR 15 0), (1, vI (nI p))], [], h) = some (.inl (some (vI 1), h')) ∧ yS p h0 s' w' h' := by
  unfold cStep at e
  by_cases c : mj_in (s.1 11) 6000 ∧ cd (s.1 11).toNatClampNeg < 256
  · rw [if_pos c] at e
    obtain ⟨⟨t, v⟩, t1, t2⟩ := Option.bind_eq_some_iff.mp e
    obtain ⟨u, u1, u2⟩ := Option.map_eq_some_iff.mp t2
    cases u2
    have e3 : (s.1 11).toNatClampNeg = (s.1 11).toInt.toNat := rfl
    have i1 := c.1.1
    have i2 := c.1.2
    exact y_byte a hp hr c.1 (hb _ (by omega) c.2) c.2 t1 u1
  · rw [if_neg c] at e; cases e
end
