/-! the twin's cores: channels -/
section
variable {p d : Nat} {h0 h : mj_H} {s s' : Cr} {w w' : Wd}
theorem yW.ta (a : yW w h) (v : Int32) : yW (wH w 2 v) (mj_sI h 15 0 111 v) := by
  obtain ⟨⟨a1, a2, a3⟩, b, c, e⟩ := a
  refine ⟨⟨by rw [mI_1, if_neg (by omega)]; exact a1, by rw [mI_same]; rfl, by rw [mI_1, if_neg (by omega)]; exact a3⟩, fun l hl => ?_, fun x hx => by rw [mI_1, if_neg (by omega)]; exact c x hx, fun x hx => by rw [mI_1, if_neg (by omega)]; exact e x hx⟩
  obtain ⟨l1, l2, l3, l4, l5, l6⟩ := b l hl
  exact ⟨by rw [mI_1, if_neg (by omega)]; exact l1, fun z => by rw [mI_1, if_neg (by omega)]; exact l2 z, by rw [mI_1, if_neg (by omega)]; exact l3, by rw [mI_1, if_neg (by omega)]; exact l4, by rw [mI_1, if_neg (by omega)]; exact l5, fun z => by rw [mI_1, if_neg (by omega)]; exact l6 z⟩
theorem yW.cn (a : yW w h) (v : Int32) : yW (wH w 4 v) (mj_sI h 15 0 113 v) := by
  obtain ⟨⟨a1, a2, a3⟩, b, c, e⟩ := a
  refine ⟨⟨by rw [mI_1, if_neg (by omega)]; exact a1, by rw [mI_1, if_neg (by omega)]; exact a2, by rw [mI_same]; rfl⟩, fun l hl => ?_, fun x hx => by rw [mI_1, if_neg (by omega)]; exact c x hx, fun x hx => by rw [mI_1, if_neg (by omega)]; exact e x hx⟩
  obtain ⟨l1, l2, l3, l4, l5, l6⟩ := b l hl
  exact ⟨by rw [mI_1, if_neg (by omega)]; exact l1, fun z => by rw [mI_1, if_neg (by omega)]; exact l2 z, by rw [mI_1, if_neg (by omega)]; exact l3, by rw [mI_1, if_neg (by omega)]; exact l4, by rw [mI_1, if_neg (by omega)]; exact l5, fun z => by rw [mI_1, if_neg (by omega)]; exact l6 z⟩
theorem yW.ou (a : yW w h) (y : Nat) (v : Int32) : yW (wO w y v) (mj_sI h 151 0 y v) := by
  obtain ⟨⟨a1, a2, a3⟩, b, c, e⟩ := a
  refine ⟨⟨by rw [mI_1, if_neg (by omega)]; exact a1, by rw [mI_1, if_neg (by omega)]; exact a2, by rw [mI_1, if_neg (by omega)]; exact a3⟩, fun l hl => ?_, fun x hx => by rw [mI_1, if_neg (by omega)]; exact c x hx, fun x hx => ?_⟩
  · obtain ⟨l1, l2, l3, l4, l5, l6⟩ := b l hl
    exact ⟨by rw [mI_1, if_neg (by omega)]; exact l1, fun z => by rw [mI_1, if_neg (by omega)]; exact l2 z, by rw [mI_1, if_neg (by omega)]; exact l3, by rw [mI_1, if_neg (by omega)]; exact l4, by rw [mI_1, if_neg (by omega)]; exact l5, fun z => by rw [mI_1, if_neg (by omega)]; exact l6 z⟩
  · show _ = if x = y then v else w.2.2.2 x
    rw [mI_1]
    by_cases q : x = y
    · rw [if_pos ⟨rfl, rfl, q⟩, if_pos q]
    · rw [if_neg (fun z => q z.2.2), if_neg q]; exact e x hx
/-- a link's word is taken -/
theorem yW.tk (a : yW w h) (l : Nat) : yW (wL (wL w l 4 0) l 5 1) (mj_sI (mj_sI h 155 0 l 0) 156 0 l 1) := by
  obtain ⟨a1, b, c, e⟩ := a
  have cc : ∀ g j, g ≠ 155 → g ≠ 156 → (mj_sI (mj_sI h 155 0 l 0) 156 0 l 1).1 g 0 j = h.1 g 0 j := fun g j z1 z2 => by rw [mI_1, if_neg (by omega), mI_1, if_neg (by omega)]
  refine ⟨⟨(cc _ _ (by omega) (by omega)).trans a1.1, (cc _ _ (by omega) (by omega)).trans a1.2.1, (cc _ _ (by omega) (by omega)).trans a1.2.2⟩, fun m hm => ?_, fun x hx => (cc _ _ (by omega) (by omega)).trans (c x hx), fun x hx => (cc _ _ (by omega) (by omega)).trans (e x hx)⟩
  obtain ⟨l1, l2, l3, l4, l5, l6⟩ := b m hm
  by_cases q : m = l
  · subst q
    have v0 : (wL (wL w m 4 0) m 5 1).2.1 m 0 = w.2.1 m 0 := by show (if m = m ∧ 0 = 5 then _ else if m = m ∧ 0 = 4 then _ else _) = _; rw [if_neg (by omega), if_neg (by omega)]
    have v1 : (wL (wL w m 4 0) m 5 1).2.1 m 1 = w.2.1 m 1 := by show (if m = m ∧ 1 = 5 then _ else if m = m ∧ 1 = 4 then _ else _) = _; rw [if_neg (by omega), if_neg (by omega)]
    have v2 : (wL (wL w m 4 0) m 5 1).2.1 m 2 = w.2.1 m 2 := by show (if m = m ∧ 2 = 5 then _ else if m = m ∧ 2 = 4 then _ else _) = _; rw [if_neg (by omega), if_neg (by omega)]
    have v3 : (wL (wL w m 4 0) m 5 1).2.1 m 3 = w.2.1 m 3 := by show (if m = m ∧ 3 = 5 then _ else if m = m ∧ 3 = 4 then _ else _) = _; rw [if_neg (by omega), if_neg (by omega)]
    have v4 : (wL (wL w m 4 0) m 5 1).2.1 m 4 = 0 := by show (if m = m ∧ 4 = 5 then _ else if m = m ∧ 4 = 4 then _ else _) = _; rw [if_neg (by omega), if_pos ⟨rfl, rfl⟩]
    have v5 : (wL (wL w m 4 0) m 5 1).2.1 m 5 = 1 := if_pos ⟨rfl, rfl⟩
    unfold yL
    rw [v0, v1, v2, v3, v4, v5]
    exact ⟨(cc _ _ (by omega) (by omega)).trans l1, fun z => (cc _ _ (by omega) (by omega)).trans (l2 (Or.inl (z.elim id (fun y => absurd y (by decide))))), (cc _ _ (by omega) (by omega)).trans l3, by rw [mI_1, if_neg (by omega), mI_same], mI_same, fun z => (cc _ _ (by omega) (by omega)).trans (l6 z)⟩
  · have v : ∀ t, (wL (wL w l 4 0) l 5 1).2.1 m t = w.2.1 m t := fun t => by show (if m = l ∧ t = 5 then _ else if m = l ∧ t = 4 then _ else _) = _; rw [if_neg (fun z => q z.1), if_neg (fun z => q z.1)]
    unfold yL
    rw [v, v, v, v, v, v]
    exact ⟨(cc _ _ (by omega) (by omega)).trans l1, fun z => (cc _ _ (by omega) (by omega)).trans (l2 z), (cc _ _ (by omega) (by omega)).trans l3, by rw [mI_1, if_neg (by omega), mI_1, if_neg (by omega)]; exact l4, by rw [mI_1, if_neg (by omega), mI_1, if_neg (by omega)]; exact l5, fun z => (cc _ _ (by omega) (by omega)).trans (l6 z)⟩
/-- a sender waits at a link -/
theorem yW.se (a : yW w h) (l : Nat) (v : Int32) (e2 : w.2.1 l 2 = 0) (e3 : w.2.1 l 3 = 0) : yW (wL (wL w l 0 1) l 1 v) (mj_sI (mj_sI (mj_sI (mj_sI h 152 0 l 1) 153 0 l v) 154 0 l 0) 157 0 l 1) := by
  obtain ⟨a1, b, c, e⟩ := a
  have cc : ∀ g j, g ≠ 152 → g ≠ 153 → g ≠ 154 → g ≠ 157 → (mj_sI (mj_sI (mj_sI (mj_sI h 152 0 l 1) 153 0 l v) 154 0 l 0) 157 0 l 1).1 g 0 j = h.1 g 0 j := fun g j z1 z2 z3 z4 => by rw [mI_1, if_neg (by omega), mI_1, if_neg (by omega), mI_1, if_neg (by omega), mI_1, if_neg (by omega)]
  refine ⟨⟨(cc _ _ (by omega) (by omega) (by omega) (by omega)).trans a1.1, (cc _ _ (by omega) (by omega) (by omega) (by omega)).trans a1.2.1, (cc _ _ (by omega) (by omega) (by omega) (by omega)).trans a1.2.2⟩, fun m hm => ?_, fun x hx => (cc _ _ (by omega) (by omega) (by omega) (by omega)).trans (c x hx), fun x hx => (cc _ _ (by omega) (by omega) (by omega) (by omega)).trans (e x hx)⟩
  obtain ⟨l1, l2, l3, l4, l5, l6⟩ := b m hm
  by_cases q : m = l
  · subst q
    have v0 : (wL (wL w m 0 1) m 1 v).2.1 m 0 = 1 := by show (if m = m ∧ 0 = 1 then _ else if m = m ∧ 0 = 0 then _ else _) = _; rw [if_neg (by omega), if_pos ⟨rfl, rfl⟩]
    have v1 : (wL (wL w m 0 1) m 1 v).2.1 m 1 = v := if_pos ⟨rfl, rfl⟩
    have vt : ∀ t, 2 ≤ t → (wL (wL w m 0 1) m 1 v).2.1 m t = w.2.1 m t := fun t ht => by show (if m = m ∧ t = 1 then _ else if m = m ∧ t = 0 then _ else _) = _; rw [if_neg (by omega), if_neg (by omega)]
    unfold yL
    rw [v0, v1, vt 2 (by omega), vt 3 (by omega), vt 4 (by omega), vt 5 (by omega), e2, e3]
    exact ⟨by rw [mI_1, if_neg (by omega), mI_1, if_neg (by omega), mI_1, if_neg (by omega), mI_same], fun _ => by rw [mI_1, if_neg (by omega), mI_1, if_neg (by omega), mI_same], by rw [mI_1, if_neg (by omega), mI_same], (cc _ _ (by omega) (by omega) (by omega) (by omega)).trans l4, (cc _ _ (by omega) (by omega) (by omega) (by omega)).trans l5, fun _ => by rw [mI_same, if_pos ⟨rfl, by decide⟩]⟩
  · have vv : ∀ t, (wL (wL w l 0 1) l 1 v).2.1 m t = w.2.1 m t := fun t => by show (if m = l ∧ t = 1 then _ else if m = l ∧ t = 0 then _ else _) = _; rw [if_neg (fun z => q z.1), if_neg (fun z => q z.1)]
    have c4 : ∀ g, (mj_sI (mj_sI (mj_sI (mj_sI h 152 0 l 1) 153 0 l v) 154 0 l 0) 157 0 l 1).1 g 0 m = h.1 g 0 m := fun g => by rw [mI_1, if_neg (by omega), mI_1, if_neg (by omega), mI_1, if_neg (by omega), mI_1, if_neg (by omega)]
    unfold yL
    rw [vv, vv, vv, vv, vv, vv]
    exact ⟨(c4 _).trans l1, fun z => (c4 _).trans (l2 z), (c4 _).trans l3, (c4 _).trans l4, (c4 _).trans l5, fun z => (c4 _).trans (l6 z)⟩
theorem y_wake {x : Int32} (a : yR p h0 s h) (hp : p < 6) (hr : ¬ s.1 14 = 0) (e : cWake s x = some s') : yDo p h0 s' (mj_R mg (d + 2) mq_343 (0, [(0, vR 15 0), (1, vI (nI p)), (2, vI x)], [], h)) := by
  unfold cWake at e
  by_cases c0 : mj_in x 8032
  · rw [if_pos c0] at e
    obtain ⟨y, j1, e⟩ := Option.bind_eq_some_iff.mp e
    obtain ⟨t, t1, t2⟩ := Option.map_eq_some_iff.mp e
    obtain ⟨q1, a1⟩ := y_st (d := d) (v := 3) a hp j1
    rw [q_343_0, hf_sh c0, y_ld a hp j1, mj_xi_ret, q1, mj_xv_ret]
    by_cases c : s.2.1 y = 2
    · rw [if_pos c] at t1
      obtain ⟨h1, q2, a2⟩ := y_ready (d := d) a1 hp (by exact hr) (cR_m (x := y) (v := 3) t1)
      rw [if_neg (fun z => z c), q2, mj_xv_ret, q_343_35, ← t2]
      exact ⟨_, rfl, a2⟩
    · rw [if_neg c] at t1
      have e9 := Option.some.inj t1
      subst e9
      rw [if_pos c, q_343_35, ← t2]
      exact ⟨_, rfl, a1⟩
  · rw [if_neg c0] at e; cases e
theorem y_in {x y : Int32} (a : yS p h0 s w h) (hp : p < 6) (hr : ¬ s.1 14 = 0) (e : cIn s w x y = some (s', w')) : yDoW p h0 s' w' (mj_R mg (d + 3) mq_345 (0, [(0, vR 15 0), (1, vI (nI p)), (2, vI x), (3, vI y)], [], h)) := by
  have ip := yp_in hp
  unfold cIn at e
  obtain ⟨c, j1, e0⟩ := Option.bind_eq_some_iff.mp e
  clear e
  have e := e0
  clear e0
  obtain ⟨z1, hc, z3, z4⟩ := ad_0 j1
  subst z1
  have wt : ∀ r, (cWait s c y).map (fun s => (s, w)) = some (s', w') → yDoW p h0 s' w' (mj_R mg (d + 3) mq_345 (138, [(4, vI r), (0, vR 15 0), (1, vI (nI p)), (2, vI (nI c)), (3, vI y)], [], h)) := by
    intro r e
    obtain ⟨t, t1, t2⟩ := Option.map_eq_some_iff.mp e
    cases t2
    obtain ⟨x2, x3, k2, k3, er⟩ := y_wait a.f hp hr j1 t1
    have g12 : h.1 136 0 p = s.1 12 := a.f.g hr 12 (by omega) (by omega)
    obtain ⟨q1, a1⟩ := y_st (d := d + 1) (v := y) a.f hp k2
    have g12' : (mj_sI h 131 0 (4016 * p + x2) y).1 136 0 p = s.1 12 := a1.g (by exact hr) 12 (by omega) (by omega)
    obtain ⟨q2, a2⟩ := y_st (d := d + 1) (v := 0) (x := s.1 12 - 3) (n := x3) a1 hp (by exact k3)
    have n38 : (mj_sI (mj_sI h 131 0 (4016 * p + x2) y) 131 0 (4016 * p + x3) 0).1 138 0 p = cSelf s := a2.n (by exact hr)
    obtain ⟨q3, a3⟩ := y_st (d := d + 1) (v := cSelf s) (x := nI c) (n := c) a2 hp (by exact j1)
    obtain ⟨h4, q4, a4⟩ := y_wait0 (d := d) a3 hp (by exact hr) er
    rw [q_345_138, if_pos ip, nI_clamp (show p < 2 ^ 31 by omega), g12, q1, mj_xv_ret, if_pos ip, g12', q2, mj_xv_ret, if_pos ip, n38, q3, mj_xv_ret, q4, mj_xv_ret]
    exact ⟨_, rfl, a.up a4⟩
  have go84 : c ≤ 13 → (cWait s c y).map (fun s => (s, w)) = some (s', w') → yDoW p h0 s' w' (mj_R mg (d + 3) mq_345 (84, [(0, vR 15 0), (1, vI (nI p)), (2, vI (nI c)), (3, vI y)], [], h)) := by
    intro c13 e
    rw [q_345_84, y_ld a.f hp j1, mj_xi_ret, y_outs hc, mj_xi_ret, decide_eq_true c13, if_pos (by decide)]
    exact wt _ e
  rw [q_345_0]
  by_cases c13 : c = 13
  · rw [if_pos c13] at e
    have hh : mj_R mg (d + 2) mq_339 (0, [(0, vR 15 0), (1, vI 13)], [], h) = some (.inl (some (vI (bI (yHas w 13))), h)) := y_has (d := d + 1) (c := 13) a.2.1 (by omega)
    have y13 : yHas w 13 = !decide (w.1 1 ≤ w.1 2) := by
      unfold yHas
      rw [if_neg (by omega)]
      rfl
    rw [if_neg (fun z => z (by rw [c13]; rfl)), hh, mj_xi_ret, y13]
    by_cases q : w.1 1 ≤ w.1 2
    · rw [if_pos q] at e
      rw [decide_eq_true q, if_pos (by decide), q_345_41, y_lnk hc, mj_xi_ret, decide_eq_false (by omega), if_pos (by decide)]
      exact go84 (by omega) e
    · rw [if_neg q] at e
      obtain ⟨v, j2, e⟩ := Option.bind_eq_some_iff.mp e
      by_cases q2 : mj_in (w.1 2) 200
      · rw [if_pos q2] at e
        have e9 := Option.some.inj e
        cases e9
        have hi : (w.1 2).toNatClampNeg < 200 := by
          have e3 : (w.1 2).toNatClampNeg = (w.1 2).toInt.toNat := rfl
          have := q2.1; have := q2.2; omega
        have t1 : h.1 15 0 111 = w.1 2 := a.2.1.1.2.1
        obtain ⟨q1, a1⟩ := y_st (d := d + 1) (v := w.2.2.1 (w.1 2).toNatClampNeg) a.f hp j2
        have b := a.up a1
        have t2 : (mj_sI h 131 0 (4016 * p + v) (w.2.2.1 (w.1 2).toNatClampNeg)).1 15 0 111 = w.1 2 := b.2.1.1.2.1
        rw [decide_eq_false q, if_neg (by decide), t1, if_pos q2, a.2.1.2.2.1 _ hi, q1, mj_xv_ret, t2]
        exact ⟨_, rfl, b.wd (b.2.1.ta _) (fun g i j cc => by rw [mI_1, if_neg (by omega)]) rfl⟩
      · rw [if_neg q2] at e; cases e
  · rw [if_neg c13] at e
    rw [if_pos (show ¬ nI c = 13 from fun z => c13 ((nI_eq (b := 13) (by omega) (by omega)).mp z)), q_345_41, y_lnk hc, mj_xi_ret]
    by_cases c12 : c < 12
    · rw [if_pos c12] at e
      obtain ⟨l1, l2, l3, l4, l5, l6⟩ := a.2.1.2.1 c c12
      have yc : yHas w c = decide (w.2.1 c 4 = 4) := by unfold yHas; rw [if_pos c12]
      rw [decide_eq_true c12, if_neg (by decide), y_has a.2.1 hc, mj_xi_ret, yc]
      by_cases q : w.2.1 c 4 = 4
      · rw [if_pos q] at e
        obtain ⟨v, j2, e⟩ := Option.map_eq_some_iff.mp e
        cases e
        obtain ⟨q1, a1⟩ := y_st (d := d + 1) (v := w.2.1 c 1) a.f hp j2
        have b := a.up a1
        rw [decide_eq_true q, if_neg (by decide), if_pos (in_n c12 (by omega)), nI_clamp (show c < 2 ^ 31 by omega), l2 (Or.inr q), q1, mj_xv_ret, if_pos (in_n c12 (by omega)), if_pos (in_n c12 (by omega))]
        exact ⟨_, rfl, b.wd (b.2.1.tk c) (fun g i j cc => by rw [mI_1, if_neg (by omega), mI_1, if_neg (by omega)]) rfl⟩
      · rw [if_neg q] at e
        rw [decide_eq_false q, if_pos (by decide)]
        exact go84 (by omega) e
    · rw [if_neg c12] at e
      by_cases c1 : c = 12
      · rw [if_pos c1] at e; cases e
      · rw [if_neg c1] at e
        rw [decide_eq_false c12, if_pos (by decide), q_345_84, y_ld a.f hp j1, mj_xi_ret, y_outs hc, mj_xi_ret, decide_eq_false (by omega), if_neg (fun z => z (by decide))]
        by_cases q : s.2.1 c = -1
        · rw [if_pos q] at e
          rw [if_pos q]
          exact wt _ e
        · rw [if_neg q] at e
          by_cases q2 : mj_in (s.2.1 c) 8032
          · rw [if_pos q2] at e
            obtain ⟨u, j3, e⟩ := Option.bind_eq_some_iff.mp e
            obtain ⟨v, j2, e⟩ := Option.bind_eq_some_iff.mp e
            obtain ⟨t, t1, t2⟩ := Option.map_eq_some_iff.mp e
            cases t2
            obtain ⟨q3, a3⟩ := y_st (d := d + 1) (v := s.2.1 u) a.f hp j2
            obtain ⟨q4, a4⟩ := y_st (d := d + 1) (v := -1) (x := nI c) (n := c) a3 hp (by exact j1)
            obtain ⟨h1, q5, a5⟩ := y_ready (d := d + 1) a4 hp (by exact hr) t1
            rw [if_neg q, hf_sh q2, y_ld a.f hp j3, mj_xi_ret, q3, mj_xv_ret, q4, mj_xv_ret, q5, mj_xv_ret]
            exact ⟨_, rfl, a.up a5⟩
          · rw [if_neg q2] at e; cases e
end
