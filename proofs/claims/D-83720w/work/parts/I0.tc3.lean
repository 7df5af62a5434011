/-! the twin's cores: direct functions -/
section
variable {p d : Nat} {h0 h : mj_H} {s s' s2 : Cr}
theorem yD.of (a : yD p s h) : yD p (sR s 14 0) h := by
  obtain ⟨⟨d1, d2, d3, d4, d5⟩, a4, a5, a6⟩ := a
  refine ⟨⟨d1, d2, d3, d4, fun hk j j1 j2 => (d5 hk j j1 j2).trans ?_⟩, a4, a5, a6⟩
  show s.1 j = if j = 14 then 0 else s.1 j
  rw [if_neg (by omega)]
theorem cNx_on (e0 : s.1 14 = 0) (c : s.2.2.1 ≠ [] ∨ s.2.2.2 ≠ []) (e : cNext s = some s') : ¬ s'.1 14 = 0 := by
  unfold cNext at e
  rw [if_neg (fun z => z e0)] at e
  obtain ⟨s1, m, H, L⟩ := s
  cases H with
  | cons n H =>
    obtain ⟨x, ex, es⟩ := cSt_s (s := sQ (s1, m, n :: H, L) H L) e
    rw [es]
    show ¬ (1 : Int32) = 0
    decide
  | nil =>
    cases L with
    | nil => exact (c.elim (fun z => z rfl) (fun z => z rfl)).elim
    | cons n L =>
      obtain ⟨t, t1, t2⟩ := Option.bind_eq_some_iff.mp e
      obtain ⟨x, ex, es⟩ := cSt_s (s := sQ (s1, m, [], n :: L) [] L) t1
      have th : t.1 14 = 1 := by rw [es]; rfl
      by_cases k0 : t.1 22 = 0
      · rw [if_pos k0] at t2
        have e9 := Option.some.inj t2
        subst e9
        rw [th]; decide
      · rw [if_neg k0] at t2
        by_cases k1 : t.1 23 = nI n
        · rw [if_pos k1] at t2
          have e9 := Option.some.inj t2
          subst e9
          show ¬ t.1 14 = 0
          rw [th]; decide
        · rw [if_neg k1] at t2; cases t2
theorem cSe_0 (e0 : s.1 14 = 0) (e : cSettle s = some s') : cNext s = some s' := by
  unfold cSettle cPre at e
  rw [if_neg (fun z => z.1 e0)] at e
  exact e
/-- what a byte's work leaves: the state, or the next one runs already -/
def yA (p : Nat) (h0 : mj_H) (s' s2 : Cr) (R : Option mj_O) : Prop := ∃ h', R = some (.inl (none, h')) ∧ (yR p h0 s' h' ∨ (¬ s2.1 14 = 0 ∧ ¬ (¬ s2.1 14 = 0 ∧ ¬ s2.1 15 = 0 ∧ s2.2.2.1 ≠ []) ∧ yR p h0 s2 h'))
theorem yDo.a {R : Option mj_O} (a : yDo p h0 s' R) : yA p h0 s' s2 R := by
  obtain ⟨h', e, b⟩ := a
  exact ⟨h', e, Or.inl b⟩
theorem y_act {f : Nat} {v : Int32} (a : yR p h0 s h) (hp : p < 6) (hr : ¬ s.1 14 = 0) (e : cDir s f v = some s') (es : cSettle s' = some s2) : yA p h0 s' s2 (mj_R mg (d + 3) mq_333 (0, [(0, vR 15 0), (1, vI (nI p)), (2, vI (nI f)), (3, vI v)], [], h)) := by
  have ip := yp_in hp
  have g8 : h.1 132 0 p = s.1 8 := a.g hr 8 (by omega) (by omega)
  have g9 : h.1 133 0 p = s.1 9 := a.g hr 9 (by omega) (by omega)
  have g11 : h.1 135 0 p = s.1 11 := a.g hr 11 (by omega) (by omega)
  have g12 : h.1 136 0 p = s.1 12 := a.g hr 12 (by omega) (by omega)
  obtain ⟨n1, n2⟩ := a.n1 hr
  rw [q_333_0]
  match f, e with
  | 0, e =>
    have g16 : h.1 142 0 p = s.1 16 := (a.1.1 hr).2.1
    have hq2 := a.1.2.2.2.2.2
    have B := a.r 11 135 (s.1 11 + v) (by omega)
    have e2 : (2 : Int32) * nI p + 1 = nI (2 * p + 1) := by
      rw [nI_succ]
      show nI 2 * nI p + 1 = _
      rw [nI_mul]
    have done : yA p h0 (sR s 11 (s.1 11 + v)) s2 (mj_R mg (d + 3) mq_333 (474, [(0, vR 15 0), (1, vI (nI p)), (2, vI (nI 0)), (3, vI v)], [], mj_sI h 135 0 p (s.1 11 + v))) := by rw [q_333_474]; exact ⟨_, rfl, Or.inl B⟩
    rw [if_pos (by decide)]
    simp only [if_pos ip, nI_clamp (show p < 2 ^ 31 by omega), e2, nI_clamp (show 2 * p + 1 < 2 ^ 31 by omega), if_pos (in_n (show 2 * p + 1 < 12 by omega) (show 12 < 2 ^ 31 by omega))]
    rw [n1, g16, hq2.1, g11, g12]
    obtain ⟨-, -, wn, wb, wb3, wb4, wb5, wb6⟩ := a.1.1 hr
    simp only [cDir] at e
    by_cases c1 : s.1 15 = 0
    · rw [if_neg (fun z => z.1 c1)] at e
      have e9 := Option.some.inj e
      subst e9
      rw [if_pos (by rw [c1]; decide)]
      exact done
    · have c15 : s.1 15 = 1 := by
        have : wb ≠ 0 := fun z => c1 (by rw [wb6, z]; rfl)
        rw [wb6, show wb = 1 by omega]; rfl
      rw [if_neg (fun z => z c15)]
      by_cases c3 : s.1 16 < 64
      · rw [if_neg (fun z => absurd c3 (Int32.not_lt.mpr z.2.1))] at e
        have e9 := Option.some.inj e
        subst e9
        rw [if_pos c3]
        exact done
      · rw [if_neg c3]
        by_cases c4 : s.2.2.2 = []
        · rw [if_neg (fun z => z.2.2 c4)] at e
          have e9 := Option.some.inj e
          subst e9
          rw [c4, if_pos (show nI ([] : List Nat).length ≤ 0 by decide)]
          exact done
        · rw [if_pos ⟨c1, Int32.not_lt.mp c3, c4⟩] at e
          by_cases c2 : mj_in (s.1 12) 4016 ∧ s.2.2.1.length + s.2.2.2.length < 1090
          · rw [if_pos c2] at e
            obtain ⟨u, u1, u2⟩ := Option.map_eq_some_iff.mp e
            obtain ⟨x, ex, eu⟩ := Option.map_eq_some_iff.mp u1
            have ex : adM s (s.1 12 - 1) = some x := ex
            obtain ⟨q1, a1⟩ := y_st (d := d + 1) (s := sR s 11 (s.1 11 + v)) (x := s.1 12 - 1) (v := s.1 11 + v) B hp ex
            have el : s.2.2.2.length ≠ 0 := fun z => c4 (List.length_eq_zero_iff.mp z)
            have m35 : (mj_sI h 135 0 p (s.1 11 + v)).1 135 0 p = s.1 11 + v := mI_same
            have n38 := a1.n (by exact hr)
            obtain ⟨w1, w2⟩ := in_4016 c2.1
            have esf : cSelf (sM (sR s 11 (s.1 11 + v)) x (s.1 11 + v)) = nI (2 * (s.1 12).toNatClampNeg + 1) := by
              show 2 * s.1 12 + s.1 15 = _
              rw [c15, w1]
              show nI 2 * nI _ + nI 1 = _
              rw [nI_mul, nI_add, nI_clamp (by omega)]
            have rd : cReady (sM (sR s 11 (s.1 11 + v)) x (s.1 11 + v)) (cSelf (sM (sR s 11 (s.1 11 + v)) x (s.1 11 + v))) = some (sQ (sM (sR s 11 (s.1 11 + v)) x (s.1 11 + v)) s.2.2.1 (s.2.2.2 ++ [(s.1 12).toNatClampNeg])) := by
              unfold cReady
              rw [esf, if_pos ⟨in_n (by omega) (by omega), c2.2⟩, nI_clamp (by omega), if_neg (by omega), show (2 * (s.1 12).toNatClampNeg + 1) / 2 = (s.1 12).toNatClampNeg by omega]
              rfl
            obtain ⟨h2, q2, a2⟩ := y_ready (d := d + 1) a1 hp (by exact hr) rd
            have es' : s' = sR (sQ (sM (sR s 11 (s.1 11 + v)) x (s.1 11 + v)) s.2.2.1 (s.2.2.2 ++ [(s.1 12).toNatClampNeg])) 14 0 := by rw [← u2, ← eu]; rfl
            have e14 : s'.1 14 = 0 := by rw [es']; rfl
            have en := cSe_0 e14 es
            have D : yD p s' h2 := by rw [es']; exact a2.1.2.2.of
            obtain ⟨h3, q3, a3⟩ := y_disp (d := d) D hp e14 en
            rw [if_neg (n_le0 (by omega) (by omega)), m35, q1, mj_xv_ret, n38, q2, mj_xv_ret, q3, mj_xv_ret, q_333_474_2]
            refine ⟨_, rfl, Or.inr ⟨cNx_on e14 (Or.inr ?_) en, cNx_ny e14 en, a2.u a3⟩⟩
            rw [es']
            show s.2.2.2 ++ [(s.1 12).toNatClampNeg] ≠ []
            exact fun z => by cases (List.append_eq_nil_iff.mp z).2
          · rw [if_neg c2] at e; cases e
  | 1, e =>
    have e9 := Option.some.inj e
    subst e9
    obtain ⟨h1, q1, a1⟩ := y_come (d := d + 2) (v := s.1 12 + v) a hp hr
    rw [if_neg (by decide), if_pos (by decide), if_pos ip, nI_clamp (by omega), g12, q1, mj_xv_ret, q_333_474]
    exact ⟨_, rfl, Or.inl a1⟩
  | 2, e => cases e
  | 3, e =>
    obtain ⟨x, x1, x2⟩ := Option.map_eq_some_iff.mp e
    subst x2
    rw [if_neg (by decide), if_neg (by decide), if_neg (by decide), if_pos (by decide), if_pos ip, nI_clamp (by omega), g8, y_ld a hp x1, mj_xi_ret, if_pos ip, q_333_474]
    exact ⟨_, rfl, Or.inl (a.r 8 132 _ (by omega))⟩
  | 4, e =>
    have e9 := Option.some.inj e
    subst e9
    obtain ⟨h1, q1, a1⟩ := y_come (d := d + 2) (v := v) a hp hr
    rw [if_neg (by decide), if_neg (by decide), if_neg (by decide), if_neg (by decide), if_pos (by decide), q1, mj_xv_ret, q_333_474]
    exact ⟨_, rfl, Or.inl a1⟩
  | 5, e =>
    have e9 := Option.some.inj e
    subst e9
    rw [if_neg (by decide), if_neg (by decide), if_neg (by decide), if_neg (by decide), if_neg (by decide), if_pos (by decide), q_333_211, if_pos ip, if_pos ip, nI_clamp (by omega), g8, q_333_474]
    exact ⟨_, rfl, Or.inl (a.r 8 132 _ (by omega))⟩
  | 6, e => cases e
  | 7, e =>
    obtain ⟨x, x1, x2⟩ := Option.map_eq_some_iff.mp e
    subst x2
    obtain ⟨h1, q1, a1⟩ := y_come (d := d + 2) (v := s.2.1 x) a hp hr
    rw [if_neg (by decide), if_neg (by decide), if_neg (by decide), if_neg (by decide), if_neg (by decide), if_neg (by decide), if_neg (by decide), if_pos (by decide), if_pos ip, nI_clamp (by omega), g12, y_ld a hp x1, mj_xi_ret, q1, mj_xv_ret, q_333_474]
    exact ⟨_, rfl, Or.inl a1⟩
  | 8, e =>
    have e9 := Option.some.inj e
    subst e9
    rw [if_neg (by decide), if_neg (by decide), if_neg (by decide), if_neg (by decide), if_neg (by decide), if_neg (by decide), if_neg (by decide), if_neg (by decide), if_pos (by decide), q_333_211, if_pos ip, if_pos ip, nI_clamp (by omega), g8, q_333_474]
    exact ⟨_, rfl, Or.inl (a.r 8 132 _ (by omega))⟩
  | 9, e =>
    obtain ⟨x, x1, x2⟩ := Option.map_eq_some_iff.mp e
    subst x2
    obtain ⟨w1, w2, -, -⟩ := ad_0 x1
    have B := ((a.w hr (n := x) (by omega)).m (x := x) (s.1 11) w2).r 11 135 (s.1 11 + v) (by omega)
    rw [mI_cm (g := 138) (g' := 131) (by omega), mI_cm (g := 138) (g' := 135) (by omega)] at B
    have st := y_store (d := d + 1) (p := p) (h := mj_sI h 136 0 p (nI x)) (v := s.1 11) hp w2
    have m36 : (mj_sI h 136 0 p (nI x)).1 136 0 p = nI x := mI_same
    have k35 : (mj_sI (mj_sI h 136 0 p (nI x)) 131 0 (4016 * p + x) (s.1 11)).1 135 0 p = s.1 11 := by rw [mI_1, if_neg (by omega), mI_1, if_neg (by omega)]; exact g11
    have k36 : (mj_sI (mj_sI h 136 0 p (nI x)) 131 0 (4016 * p + x) (s.1 11)).1 136 0 p = nI x := by rw [mI_1, if_neg (by omega)]; exact m36
    have k38 : (mj_sI (mj_sI h 136 0 p (nI x)) 131 0 (4016 * p + x) (s.1 11)).1 138 0 p = h.1 138 0 p := by rw [mI_1, if_neg (by omega), mI_1, if_neg (by omega)]
    rw [if_neg (by decide), if_neg (by decide), if_neg (by decide), if_neg (by decide), if_neg (by decide), if_neg (by decide), if_neg (by decide), if_neg (by decide), if_neg (by decide), if_pos (by decide)]
    simp only [if_pos ip, nI_clamp (show p < 2 ^ 31 by omega)]
    rw [g11, g12, w1, m36, st, mj_xv_ret, k35, k36, k38, n1, q_333_474]
    exact ⟨_, rfl, Or.inl B⟩
  | 10, e =>
    rw [if_neg (by decide), if_neg (by decide), if_neg (by decide), if_neg (by decide), if_neg (by decide), if_neg (by decide), if_neg (by decide), if_neg (by decide), if_neg (by decide), if_neg (by decide), if_pos (by decide), if_pos ip, nI_clamp (by omega), g8]
    simp only [cDir] at e
    by_cases c : s.1 8 = 0
    · rw [if_pos c] at e
      have e9 := Option.some.inj e
      subst e9
      rw [if_neg (fun z => z c), if_pos ip, if_pos ip, g11, q_333_474]
      exact ⟨_, rfl, Or.inl (a.r 11 135 _ (by omega))⟩
    · rw [if_neg c] at e
      have e9 := Option.some.inj e
      subst e9
      obtain ⟨h1, q1, a1⟩ := y_take (d := d + 2) a hp hr
      rw [if_pos c, q1, mj_xv_ret, q_333_474]
      exact ⟨_, rfl, Or.inl a1⟩
  | 11, e =>
    simp only [cDir] at e
    by_cases c : mj_in (s.1 12 + v) 4016
    · rw [if_pos c] at e
      have e9 := Option.some.inj e
      subst e9
      obtain ⟨w1, w2⟩ := in_4016 c
      have B := a.w hr (n := (s.1 12 + v).toNatClampNeg) (by omega)
      rw [← w1] at B
      have m36 : (mj_sI h 136 0 p (s.1 12 + v)).1 136 0 p = s.1 12 + v := mI_same
      rw [if_neg (by decide), if_neg (by decide), if_neg (by decide), if_neg (by decide), if_neg (by decide), if_neg (by decide), if_neg (by decide), if_neg (by decide), if_neg (by decide), if_neg (by decide), if_neg (by decide), if_pos (by decide)]
      simp only [if_pos ip, nI_clamp (show p < 2 ^ 31 by omega)]
      rw [g12, m36, n1, q_333_474]
      exact ⟨_, rfl, Or.inl B⟩
    · rw [if_neg c] at e; cases e
  | 12, e =>
    have e9 := Option.some.inj e
    rw [if_neg (by decide), if_neg (by decide), if_neg (by decide), if_neg (by decide), if_neg (by decide), if_neg (by decide), if_neg (by decide), if_neg (by decide), if_neg (by decide), if_neg (by decide), if_neg (by decide), if_neg (by decide), if_pos (by decide), if_pos ip, nI_clamp (by omega), g8]
    by_cases c : s.1 8 = v
    · rw [if_neg (fun z => z c), q_333_414, if_pos ip, nI_clamp (by omega), q_333_474, ← e9, if_pos c]
      exact ⟨_, rfl, Or.inl (a.r 8 132 _ (by omega))⟩
    · rw [if_pos c, q_333_414, if_pos ip, nI_clamp (by omega), q_333_474, ← e9, if_neg c]
      exact ⟨_, rfl, Or.inl (a.r 8 132 _ (by omega))⟩
  | 13, e =>
    obtain ⟨x, x1, x2⟩ := Option.map_eq_some_iff.mp e
    subst x2
    obtain ⟨q1, a1⟩ := y_st (d := d + 1) (v := s.1 8) a hp x1
    obtain ⟨h2, q2, a2⟩ := y_take (d := d + 2) a1 hp (by exact hr)
    rw [if_neg (by decide), if_neg (by decide), if_neg (by decide), if_neg (by decide), if_neg (by decide), if_neg (by decide), if_neg (by decide), if_neg (by decide), if_neg (by decide), if_neg (by decide), if_neg (by decide), if_neg (by decide), if_neg (by decide), if_pos (by decide), if_pos ip, if_pos ip, nI_clamp (by omega), g12, g8, q1, mj_xv_ret, q2, mj_xv_ret, q_333_474]
    exact ⟨_, rfl, Or.inl a2⟩
  | 14, e =>
    obtain ⟨x, x1, x2⟩ := Option.map_eq_some_iff.mp e
    subst x2
    obtain ⟨q1, a1⟩ := y_st (d := d + 1) (v := s.1 9) a hp x1
    obtain ⟨h2, q2, a2⟩ := y_take (d := d + 2) a1 hp (by exact hr)
    obtain ⟨h3, q3, a3⟩ := y_take (d := d + 2) a2 hp (by exact hr)
    rw [if_neg (by decide), if_neg (by decide), if_neg (by decide), if_neg (by decide), if_neg (by decide), if_neg (by decide), if_neg (by decide), if_neg (by decide), if_neg (by decide), if_neg (by decide), if_neg (by decide), if_neg (by decide), if_neg (by decide), if_neg (by decide), q_333_445, if_pos ip, if_pos ip, nI_clamp (by omega), g8, g9, q1, mj_xv_ret, q2, mj_xv_ret, q3, mj_xv_ret, q_333_474]
    exact ⟨_, rfl, Or.inl a3⟩
  | n + 15, e => cases e
end
