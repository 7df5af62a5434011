/-! the twin's cores: operations -/
section
variable {p d : Nat} {h0 h : mj_H} {s s' : Cr} {w w' : Wd}
theorem i_neg1 {x : Int32} : x / (-1) = -x := by
  apply Int32.toInt_inj.mp
  have e : (-1 : Int32).toInt = -1 := by decide
  rw [Int32.toInt_div, e, Int.tdiv_neg, Int.tdiv_one, Int32.toInt_neg]
theorem i_rem1 {x : Int32} : x - x / (-1) * (-1) = 0 := by
  rw [i_neg1, Int32.neg_mul_neg, Int32.mul_one, Int32.sub_self]
/-- n words -/
theorem y_fill {x5 : Int32} {n : Nat} {s s' : Cr} (hp : p < 6) (hr : ¬ s.1 14 = 0) (e : cFill s (s.1 8) (s.1 10) n = some s') (hn2 : n < 2 ^ 31) : ∀ (j m : Nat) (t : Cr) (h : mj_H), m + j = n → cFill s (s.1 8) (s.1 10) m = some t → yR p h0 t h → ∃ h', mj_R mg (d + 2) mq_335 (406, [(6, vI (nI m)), (5, vI x5), (4, vI (nI n)), (3, vI (s.1 8)), (0, vR 15 0), (1, vI (nI p)), (2, vI (nI 14))], [], h) = mj_R mg (d + 2) mq_335 (406, [(6, vI (nI n)), (5, vI x5), (4, vI (nI n)), (3, vI (s.1 8)), (0, vR 15 0), (1, vI (nI p)), (2, vI (nI 14))], [], h') ∧ yR p h0 s' h' := by
  have ip := yp_in hp
  intro j
  induction j with
  | zero =>
    intro m t h hm ht a
    have em : m = n := by omega
    subst em
    rw [e] at ht
    have e9 := Option.some.inj ht
    rw [← e9] at a
    exact ⟨h, rfl, a⟩
  | succ j ih =>
    intro m t h hm ht a
    obtain ⟨u, hu⟩ := cFill_s e (m + 1) (by omega)
    have hu2 : (cFill s (s.1 8) (s.1 10) m).bind (fun s1 => (adM s1 (s.1 8 + nI m)).map fun y => sM s1 y (s.1 10)) = some u := hu
    rw [ht] at hu2
    obtain ⟨y, y1, y2⟩ := Option.map_eq_some_iff.mp hu2
    obtain ⟨r1, r2⟩ := cFill_r _ _ _ ht
    have hrt : ¬ t.1 14 = 0 := by rw [r1]; exact hr
    have g10 : h.1 134 0 p = s.1 10 := by rw [← r1]; exact a.g hrt 10 (by omega) (by omega)
    obtain ⟨q1, a1⟩ := y_st (d := d) (v := s.1 10) a hp y1
    rw [y2] at a1
    obtain ⟨h', q2, a2⟩ := ih (m + 1) u _ (by omega) hu a1
    refine ⟨h', ?_, a2⟩
    rw [q_335_406, if_neg (nI_ge (by omega) (by omega)), if_pos ip, nI_clamp (show p < 2 ^ 31 by omega), g10, q1, mj_xv_ret, ← nI_succ]
    exact q2
theorem y_opr {o : Nat} (a : yR p h0 s h) (hp : p < 6) (hr : ¬ s.1 14 = 0) (e : cOpr s o = some s') : yDo p h0 s' (mj_R mg (d + 3) mq_335 (0, [(0, vR 15 0), (1, vI (nI p)), (2, vI (nI o))], [], h)) := by
  have ip := yp_in hp
  have g8 : h.1 132 0 p = s.1 8 := a.g hr 8 (by omega) (by omega)
  have g9 : h.1 133 0 p = s.1 9 := a.g hr 9 (by omega) (by omega)
  have g11 : h.1 135 0 p = s.1 11 := a.g hr 11 (by omega) (by omega)
  have two : ∀ (v : Int32) (x2 x3 x4 x5 : Int32), yDo p h0 (cTwo s v) (mj_xv (mj_R mg (d + 2) mq_334 (0, [(0, vR 15 0), (1, vI (nI p)), (2, vI v)], [], h)) (fun h1 => mj_R mg (d + 3) mq_335 (630, [(5, vI x5), (4, vI x4), (3, vI x3), (0, vR 15 0), (1, vI (nI p)), (2, vI x2)], [], h1))) := by
    intro v x2 x3 x4 x5
    obtain ⟨h1, q1, a1⟩ := y_two (d := d + 1) (v := v) a hp hr
    rw [q1, mj_xv_ret, q_335_630]
    exact ⟨_, rfl, a1⟩
  have dv0 : ∀ (x2 x4 x5 : Int32), s.1 8 = 0 → yDo p h0 (cFails s) (mj_R mg (d + 3) mq_335 (222, [(5, vI x5), (4, vI x4), (3, vI (s.1 8)), (0, vR 15 0), (1, vI (nI p)), (2, vI x2)], [], h)) := by
    intro x2 x4 x5 c
    obtain ⟨h1, q1, a1⟩ := y_fault (d := d + 1) a hp
    rw [q_335_222, if_pos c, q_335_267, if_neg (fun z => z c), q_335_278, q1, mj_xv_ret, q_335_630]
    exact ⟨_, rfl, a1⟩
  have dvt : ∀ (v : Int32) (x2 x4 x5 : Int32), ¬ s.1 8 = 0 → yDo p h0 (cTwo s v) (mj_R mg (d + 3) mq_335 (264, [(5, vI x5), (4, vI x4), (3, vI (s.1 8)), (0, vR 15 0), (1, vI (nI p)), (2, vI x2)], [vI v, vI (nI p), vR 15 0], h)) := by
    intro v x2 x4 x5 c
    obtain ⟨h1, q1, a1⟩ := y_two (d := d + 1) (v := v) a hp hr
    rw [q_335_264, q1, mj_xv_ret, q_335_267, if_pos c, q_335_278, y_nofault, mj_xv_ret, q_335_630]
    exact ⟨_, rfl, a1⟩
  rw [q_335_0, if_pos ip, if_pos ip, if_pos ip, nI_clamp (show p < 2 ^ 31 by omega), g8, g9, g11]
  match o, e with
  | 0, e =>
    have e9 := Option.some.inj e
    subst e9
    rw [if_pos (by decide), if_pos ip, if_pos ip, q_335_630]
    exact ⟨_, rfl, (a.r 8 132 _ (by omega)).r 9 133 _ (by omega)⟩
  | 1, e =>
    have e9 := Option.some.inj e
    subst e9
    rw [if_neg (by decide), if_pos (by decide), q_335_186, Int32.add_comm (s.1 8)]
    exact two _ _ _ _ _
  | 2, e =>
    have e9 := Option.some.inj e
    subst e9
    rw [if_neg (by decide), if_neg (by decide), if_pos (by decide)]
    exact two _ _ _ _ _
  | 3, e =>
    have e9 := Option.some.inj e
    subst e9
    rw [if_neg (by decide), if_neg (by decide), if_neg (by decide), if_pos (by decide), Int32.mul_comm (s.1 8)]
    exact two _ _ _ _ _
  | 4, e =>
    rw [if_neg (by decide), if_neg (by decide), if_neg (by decide), if_neg (by decide), if_pos (by decide)]
    simp only [cOpr] at e
    by_cases c : s.1 8 = 0
    · rw [if_pos c] at e
      have e9 := Option.some.inj e
      subst e9
      exact dv0 _ _ _ c
    · rw [if_neg c] at e
      have e9 := Option.some.inj e
      subst e9
      rw [q_335_222, if_neg c, if_neg (fun z => z (by decide))]
      by_cases c1 : s.1 8 = -1
      · rw [if_neg (fun z => z c1), c1, i_neg1, ← c1]
        exact dvt _ _ _ _ c
      · rw [if_pos c1, if_pos c]
        exact dvt _ _ _ _ c
  | 5, e =>
    rw [if_neg (by decide), if_neg (by decide), if_neg (by decide), if_neg (by decide), if_neg (by decide), if_pos (by decide)]
    simp only [cOpr] at e
    by_cases c : s.1 8 = 0
    · rw [if_pos c] at e
      have e9 := Option.some.inj e
      subst e9
      exact dv0 _ _ _ c
    · rw [if_neg c] at e
      have e9 := Option.some.inj e
      subst e9
      rw [q_335_222, if_neg c, if_pos (by decide)]
      by_cases c1 : s.1 8 = -1
      · have er : s.1 9 - s.1 9 / s.1 8 * s.1 8 = 0 := by rw [c1]; exact i_rem1
        rw [if_neg (fun z => z c1), er]
        exact dvt _ _ _ _ c
      · rw [if_pos c1, if_pos c]
        exact dvt _ _ _ _ c
  | 6, e =>
    have e9 := Option.some.inj e
    rw [if_neg (by decide), if_neg (by decide), if_neg (by decide), if_neg (by decide), if_neg (by decide), if_neg (by decide), if_pos (by decide)]
    by_cases c : s.1 9 ≤ s.1 8
    · rw [if_pos c] at e9 ⊢
      subst e9
      rw [q_335_297]
      exact two _ _ _ _ _
    · rw [if_neg c] at e9 ⊢
      subst e9
      rw [q_335_297]
      exact two _ _ _ _ _
  | 7, e =>
    have e9 := Option.some.inj e
    subst e9
    rw [if_neg (by decide), if_neg (by decide), if_neg (by decide), if_neg (by decide), if_neg (by decide), if_neg (by decide), if_neg (by decide), if_pos (by decide), Int32.and_comm (s.1 8)]
    exact two _ _ _ _ _
  | 8, e =>
    have e9 := Option.some.inj e
    subst e9
    rw [if_neg (by decide), if_neg (by decide), if_neg (by decide), if_neg (by decide), if_neg (by decide), if_neg (by decide), if_neg (by decide), if_neg (by decide), if_pos (by decide), Int32.or_comm (s.1 8)]
    exact two _ _ _ _ _
  | 9, e =>
    have e9 := Option.some.inj e
    subst e9
    rw [if_neg (by decide), if_neg (by decide), if_neg (by decide), if_neg (by decide), if_neg (by decide), if_neg (by decide), if_neg (by decide), if_neg (by decide), if_neg (by decide), if_pos (by decide)]
    exact two _ _ _ _ _
  | 10, e =>
    have e9 := Option.some.inj e
    subst e9
    rw [if_neg (by decide), if_neg (by decide), if_neg (by decide), if_neg (by decide), if_neg (by decide), if_neg (by decide), if_neg (by decide), if_neg (by decide), if_neg (by decide), if_neg (by decide), if_pos (by decide)]
    exact two _ _ _ _ _
  | 11, e =>
    have e9 := Option.some.inj e
    subst e9
    rw [if_neg (by decide), if_neg (by decide), if_neg (by decide), if_neg (by decide), if_neg (by decide), if_neg (by decide), if_neg (by decide), if_neg (by decide), if_neg (by decide), if_neg (by decide), if_neg (by decide), if_pos (by decide), q_335_186, Int32.add_comm (s.1 8)]
    exact two _ _ _ _ _
  | 12, e =>
    have e9 := Option.some.inj e
    obtain ⟨h1, q1, a1⟩ := y_take (d := d + 2) a hp hr
    rw [if_neg (by decide), if_neg (by decide), if_neg (by decide), if_neg (by decide), if_neg (by decide), if_neg (by decide), if_neg (by decide), if_neg (by decide), if_neg (by decide), if_neg (by decide), if_neg (by decide), if_neg (by decide), if_pos (by decide), q1, mj_xv_ret]
    have bad : ∀ (x2 x3 x4 x5 : Int32), yDo p h0 (cFails (cPop s)) (mj_R mg (d + 3) mq_335 (375, [(5, vI x5), (4, vI x4), (3, vI x3), (0, vR 15 0), (1, vI (nI p)), (2, vI x2)], [vI (nI p), vR 15 0], h1)) := by
      intro x2 x3 x4 x5
      obtain ⟨h2, q2, a2⟩ := y_fault (d := d + 1) a1 hp
      rw [q_335_375, q_335_380, q2, mj_xv_ret, q_335_630]
      exact ⟨_, rfl, a2⟩
    by_cases c0 : s.1 9 < 0
    · rw [if_neg (fun z => absurd c0 (Int32.not_lt.mpr z.1))] at e9
      subst e9
      rw [if_pos c0]
      exact bad _ _ _ _
    · rw [if_neg c0]
      by_cases c1 : s.1 9 < s.1 8
      · rw [if_pos ⟨Int32.not_lt.mp c0, c1⟩] at e9
        subst e9
        rw [if_pos c1, q_335_380, y_nofault, mj_xv_ret, q_335_630]
        exact ⟨_, rfl, a1⟩
      · rw [if_neg (fun z => c1 z.2)] at e9
        subst e9
        rw [if_neg c1]
        exact bad _ _ _ _
  | 13, e =>
    have e9 := Option.some.inj e
    subst e9
    rw [if_neg (by decide), if_neg (by decide), if_neg (by decide), if_neg (by decide), if_neg (by decide), if_neg (by decide), if_neg (by decide), if_neg (by decide), if_neg (by decide), if_neg (by decide), if_neg (by decide), if_neg (by decide), if_neg (by decide), if_pos (by decide), if_pos ip, if_pos ip, Int32.add_comm (s.1 11), q_335_630]
    exact ⟨_, rfl, a.r 8 132 _ (by omega)⟩
  | 14, e =>
    obtain ⟨t, t1, t2⟩ := Option.map_eq_some_iff.mp e
    subst t2
    rw [if_neg (by decide), if_neg (by decide), if_neg (by decide), if_neg (by decide), if_neg (by decide), if_neg (by decide), if_neg (by decide), if_neg (by decide), if_neg (by decide), if_neg (by decide), if_neg (by decide), if_neg (by decide), if_neg (by decide), if_neg (by decide), if_pos (by decide)]
    by_cases c0 : s.1 9 < 0
    · have z : (s.1 9).toNatClampNeg = 0 := by
        have e3 : (s.1 9).toNatClampNeg = (s.1 9).toInt.toNat := rfl
        have e4 : (s.1 9).toInt < 0 := Int32.lt_iff_toInt_lt.mp c0
        omega
      rw [z] at t1
      have t1 : s = t := Option.some.inj t1
      subst t1
      rw [q_335_406, if_pos (Int32.le_of_lt c0), if_pos ip, if_pos ip, if_pos ip, nI_clamp (show p < 2 ^ 31 by omega), q_335_630_2]
      exact ⟨_, rfl, ((a.r 8 132 _ (by omega)).r 9 133 _ (by omega)).r 10 134 _ (by omega)⟩
    · obtain ⟨n1, n2⟩ := n_cl c0
      obtain ⟨h1, q1, a1⟩ := y_fill (d := d + 1) (x5 := h.1 136 0 p) hp hr t1 n2 (s.1 9).toNatClampNeg 0 s h (Nat.zero_add _) rfl a
      rw [← n1] at q1
      have q1 : mj_R mg (d + 3) mq_335 (406, [(6, vI 0), (5, vI (h.1 136 0 p)), (4, vI (s.1 9)), (3, vI (s.1 8)), (0, vR 15 0), (1, vI (nI p)), (2, vI (nI 14))], [], h) = _ := q1
      rw [q1, q_335_406, if_pos (Int32.le_refl _), if_pos ip, if_pos ip, if_pos ip, nI_clamp (show p < 2 ^ 31 by omega), q_335_630_2]
      exact ⟨_, rfl, ((a1.r 8 132 _ (by omega)).r 9 133 _ (by omega)).r 10 134 _ (by omega)⟩
  | n + 15, e => cases e
end
