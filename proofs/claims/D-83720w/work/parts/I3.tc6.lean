/-! the twin's cores: output, ALT -/
section
variable {p d : Nat} {h0 h : mj_H} {s s' : Cr} {w w' : Wd}
/-- the stores ahead of waiting -/
theorem y_w141 {c x2 x3 : Nat} {r v : Int32} (a : yS p h0 s w h) (hp : p < 6) (hr : ¬ s.1 14 = 0) (jc : adM s (nI c) = some c) (hc : c < 4016) (k2 : adM s (s.1 12 - 2) = some x2) (k3 : adM s (s.1 12 - 3) = some x3) : ∃ h1, yR p h (sM (sM (sM s x2 v) x3 0) c (cSelf s)) h1 ∧
    mj_R mg (d + 3) mq_344 (141, [(4, vI r), (0, vR 15 0), (1, vI (nI p)), (2, vI (nI c)), (3, vI v)], [], h) = (if r = (-1) ∨ c ≤ 13 then mj_R mg (d + 3) mq_344 (202, [(4, vI r), (0, vR 15 0), (1, vI (nI p)), (2, vI (nI c)), (3, vI v)], [], h1) else mj_xv (mj_R mg (d + 2) mq_343 (0, [(0, vR 15 0), (1, vI (nI p)), (2, vI r)], [], h1)) (fun h5 => mj_R mg (d + 3) mq_344 (202, [(4, vI r), (0, vR 15 0), (1, vI (nI p)), (2, vI (nI c)), (3, vI v)], [], h5))) := by
  have ip := yp_in hp
  have g12 : h.1 136 0 p = s.1 12 := a.f.g hr 12 (by omega) (by omega)
  obtain ⟨q1, a1⟩ := y_st (d := d + 1) (v := v) a.f hp k2
  have g12' : (mj_sI h 131 0 (4016 * p + x2) v).1 136 0 p = s.1 12 := a1.g (by exact hr) 12 (by omega) (by omega)
  obtain ⟨q2, a2⟩ := y_st (d := d + 1) (v := 0) (x := s.1 12 - 3) (n := x3) a1 hp (by exact k3)
  have n38 : (mj_sI (mj_sI h 131 0 (4016 * p + x2) v) 131 0 (4016 * p + x3) 0).1 138 0 p = cSelf s := a2.n (by exact hr)
  obtain ⟨q3, a3⟩ := y_st (d := d + 1) (v := cSelf s) (x := nI c) (n := c) a2 hp (by exact jc)
  refine ⟨_, a3, ?_⟩
  rw [q_344_141, if_pos ip, nI_clamp (show p < 2 ^ 31 by omega), g12, q1, mj_xv_ret, if_pos ip, g12', q2, mj_xv_ret, if_pos ip, n38, q3, mj_xv_ret]
  by_cases e : r = -1
  · rw [if_pos e, if_pos (Or.inl e)]
  · rw [if_neg e, y_outs hc, mj_xi_ret]
    by_cases e2 : c ≤ 13
    · rw [decide_eq_true e2, if_pos (by decide), if_pos (Or.inr e2)]
    · rw [decide_eq_false e2, if_neg (fun z => z (by decide)), if_neg (fun z => z.elim e e2)]
theorem y_ou {x v : Int32} (a : yS p h0 s w h) (hp : p < 6) (hr : ¬ s.1 14 = 0) (e : cOut s w x v = some (s', w')) : yDoW p h0 s' w' (mj_R mg (d + 3) mq_344 (0, [(0, vR 15 0), (1, vI (nI p)), (2, vI x), (3, vI v)], [], h)) := by
  have ip := yp_in hp
  unfold cOut at e
  obtain ⟨c, j1, e0⟩ := Option.bind_eq_some_iff.mp e
  clear e
  have e := e0
  clear e0
  obtain ⟨z1, hc, z3, z4⟩ := ad_0 j1
  subst z1
  have wt : ∀ (r : Int32) (w1 : Wd) (h1 : mj_H), yS p h0 s w1 h1 → (r = -1 ∨ c ≤ 13) → ∀ t, cWait s c v = some t → yDoW p h0 t w1 (mj_R mg (d + 3) mq_344 (141, [(4, vI r), (0, vR 15 0), (1, vI (nI p)), (2, vI (nI c)), (3, vI v)], [], h1)) := by
    intro r w1 h1 a cr t e
    obtain ⟨x2, x3, k2, k3, er⟩ := y_wait a.f hp hr j1 e
    obtain ⟨h2, a2, q2⟩ := y_w141 (d := d) (r := r) (v := v) a hp hr j1 hc k2 k3
    obtain ⟨h4, q4, a4⟩ := y_wait0 (d := d) a2 hp (by exact hr) er
    rw [q2, if_pos cr, q_344_202, q4, mj_xv_ret]
    exact ⟨_, rfl, a.up a4⟩
  rw [q_344_0]
  by_cases c12 : c = 12
  · rw [if_pos c12] at e
    have t1 : h.1 15 0 113 = w.1 4 := a.2.1.1.2.2
    rw [if_neg (fun z => z (by rw [c12]; rfl)), t1]
    by_cases q0 : w.1 4 < 0
    · rw [if_pos q0] at e; cases e
    · rw [if_neg q0] at e
      by_cases q : 1000 ≤ w.1 4
      · rw [if_pos q] at e
        have e9 := Option.some.inj e
        cases e9
        rw [if_pos q, q_344_26, t1]
        exact ⟨_, rfl, a.wd (a.2.1.cn _) (fun g i j cc => by rw [mI_1, if_neg (by omega)]) rfl⟩
      · rw [if_neg q] at e
        have e9 := Option.some.inj e
        cases e9
        obtain ⟨n1, n2⟩ := n_cl q0
        have n3 : (w.1 4).toNatClampNeg < 1000 := by
          rw [n1] at q
          by_cases z : (w.1 4).toNatClampNeg < 1000
          · exact z
          · exact (q (nI_le (a := 1000) (by omega) n2)).elim
        have ii : mj_in (w.1 4) 1000 := by rw [n1]; exact in_n n3 (by omega)
        have b := a.2.1.ou (w.1 4).toNatClampNeg v
        have t2 : (mj_sI h 151 0 (w.1 4).toNatClampNeg v).1 15 0 113 = w.1 4 := b.1.2.2
        rw [if_neg q, if_pos ii, q_344_26, t2]
        exact ⟨_, rfl, a.wd (b.cn _) (fun g i j cc => by rw [mI_1, if_neg (by omega), mI_1, if_neg (by omega)]) rfl⟩
  · rw [if_neg c12] at e
    rw [if_pos (show ¬ nI c = 12 from fun z => c12 ((nI_eq (b := 12) (by omega) (by omega)).mp z)), y_ld a.f hp j1, mj_xi_ret, y_lnk hc, mj_xi_ret]
    by_cases cl : c < 12
    · rw [if_pos cl] at e
      by_cases q : w.2.1 c 0 = 0 ∧ w.2.1 c 2 = 0 ∧ w.2.1 c 3 = 0
      · rw [if_pos q] at e
        obtain ⟨t, t1, t2⟩ := Option.map_eq_some_iff.mp e
        cases t2
        have il := in_n cl (show 12 < 2 ^ 31 by omega)
        have b : yS p h0 s (wL (wL w c 0 1) c 1 v) (mj_sI (mj_sI (mj_sI (mj_sI h 152 0 c 1) 153 0 c v) 154 0 c 0) 157 0 c 1) := a.wd (a.2.1.se c v q.2.1 q.2.2) (fun g i j cc => by rw [mI_1, if_neg (by omega), mI_1, if_neg (by omega), mI_1, if_neg (by omega), mI_1, if_neg (by omega)]) rfl
        rw [decide_eq_true cl, if_neg (by decide), if_pos il, if_pos il, if_pos il, if_pos il, nI_clamp (show c < 2 ^ 31 by omega), q_344_81]
        by_cases r : s.2.1 c = -1
        · rw [if_pos r]
          exact wt _ _ _ b (Or.inl r) _ t1
        · rw [if_neg r, y_outs hc, mj_xi_ret, decide_eq_true (by omega), if_pos (by decide)]
          exact wt _ _ _ b (Or.inr (by omega)) _ t1
      · rw [if_neg q] at e; cases e
    · rw [if_neg cl] at e
      by_cases c13 : c = 13
      · rw [if_pos c13] at e; cases e
      · rw [if_neg c13] at e
        rw [decide_eq_false cl, if_pos (by decide), q_344_81]
        by_cases q : s.2.1 c = -1
        · rw [if_pos q] at e
          obtain ⟨t, t1, t2⟩ := Option.map_eq_some_iff.mp e
          cases t2
          rw [if_pos q]
          exact wt _ _ _ a (Or.inl q) _ t1
        · rw [if_neg q] at e
          by_cases q2 : mj_in (s.2.1 c) 8032
          · rw [if_pos q2] at e
            obtain ⟨u, j3, e⟩ := Option.bind_eq_some_iff.mp e
            rw [if_neg q, y_outs hc, mj_xi_ret, decide_eq_false (by omega), if_neg (fun z => z (by decide)), hf_sh q2, y_ld a.f hp j3, mj_xi_ret]
            by_cases q3 : s.2.1 u = 0
            · rw [if_pos q3] at e
              obtain ⟨v1, j2, e⟩ := Option.bind_eq_some_iff.mp e
              obtain ⟨z, j4, e⟩ := Option.bind_eq_some_iff.mp e
              obtain ⟨t, t1, t2⟩ := Option.map_eq_some_iff.mp e
              cases t2
              obtain ⟨q4, a4⟩ := y_st (d := d + 1) (v := v) a.f hp j4
              obtain ⟨q5, a5⟩ := y_st (d := d + 1) (v := -1) (x := nI c) (n := c) a4 hp (by exact j1)
              obtain ⟨h1, q6, a6⟩ := y_ready (d := d + 1) a5 hp (by exact hr) t1
              rw [if_neg (fun z => z q3), y_ld a.f hp j2, mj_xi_ret, q4, mj_xv_ret, q5, mj_xv_ret, q6, mj_xv_ret]
              exact ⟨_, rfl, a.up a6⟩
            · rw [if_neg q3] at e
              obtain ⟨x1, k1, e⟩ := Option.bind_eq_some_iff.mp e
              obtain ⟨x2, k2, e⟩ := Option.bind_eq_some_iff.mp e
              obtain ⟨x3, k3, e⟩ := Option.bind_eq_some_iff.mp e
              by_cases q4 : u ≠ x1 ∧ u ≠ x2 ∧ u ≠ x3 ∧ u ≠ c
              · rw [if_pos q4] at e
                obtain ⟨t, t1, t2⟩ := Option.map_eq_some_iff.mp e
                cases t2
                obtain ⟨t0, t3, t4⟩ := Option.bind_eq_some_iff.mp t1
                obtain ⟨y2, y3, m2, m3, er⟩ := y_wait a.f hp hr j1 t3
                have ey2 : x2 = y2 := Option.some.inj (k2.symm.trans m2)
                have ey3 : x3 = y3 := Option.some.inj (k3.symm.trans m3)
                subst ey2; subst ey3
                obtain ⟨h2, a2, w2⟩ := y_w141 (d := d) (r := s.2.1 c) (v := v) a hp hr j1 hc k2 k3
                generalize hsa : sM (sM (sM s x2 v) x3 0) c (cSelf s) = sa at er a2
                have k1' : adM sa (sa.1 12 - 1) = some x1 := by rw [← hsa]; exact k1
                have et0 : t0 = sR (sM sa x1 (sa.1 11)) 14 0 := by
                  unfold cRest at er
                  rw [k1'] at er
                  exact (Option.some.inj er).symm
                have mu : sa.2.1 u = s.2.1 u := by
                  rw [← hsa]
                  show (if u = c then _ else if u = x3 then _ else if u = x2 then _ else _) = _
                  rw [if_neg q4.2.2.2, if_neg q4.2.2.1, if_neg q4.2.1]
                have mu0 : t0.2.1 u = sa.2.1 u := by
                  rw [et0]
                  show (if u = x1 then _ else _) = _
                  rw [if_neg q4.1]
                have ju : adM t0 (s.2.1 c / 2 - 3) = some u := by rw [et0, ← hsa]; exact j3
                have jua : adM sa (s.2.1 c / 2 - 3) = some u := by rw [← hsa]; exact j3
                have key : ∀ H L, sR (sM (sQ (sM sa u 3) H L) x1 (sa.1 11)) 14 0 = sM (sQ t0 H L) u 3 := by
                  intro H L
                  have := sM_cm (s := sa) (x := u) (y := x1) (u := 3) (v := sa.1 11) q4.1
                  rw [et0]
                  show sR (sQ (sM (sM sa u 3) x1 (sa.1 11)) H L) 14 0 = _
                  rw [this]
                  rfl
                unfold cWake at t4
                rw [if_pos q2, ju] at t4
                obtain ⟨t5, t6, t7⟩ := Option.map_eq_some_iff.mp t4
                have wk : ∃ sb, cWake sa (s.2.1 c) = some sb ∧ cRest sb = some s' ∧ sb.1 = sa.1 := by
                  unfold cWake
                  rw [if_pos q2, jua]
                  show ∃ sb, ((if sa.2.1 u = 2 then cReady sa (s.2.1 c) else some sa).map fun s => sM s u 3) = some sb ∧ _
                  rw [mu0] at t6
                  by_cases q5 : sa.2.1 u = 2
                  · rw [if_pos q5] at t6 ⊢
                    obtain ⟨n, en, hn, hl, es⟩ := cR_s t6
                    have rd : cReady sa (s.2.1 c) = some (if n % 2 = 0 then sQ sa (sa.2.2.1 ++ [n / 2]) sa.2.2.2 else sQ sa sa.2.2.1 (sa.2.2.2 ++ [n / 2])) := by
                      unfold cReady
                      rw [en, nI_clamp (by omega), if_pos ⟨in_n hn (by omega), by rw [et0] at hl; exact hl⟩]
                    rw [rd]
                    by_cases ev : n % 2 = 0
                    · rw [if_pos ev] at es ⊢
                      refine ⟨_, rfl, ?_, rfl⟩
                      unfold cRest
                      rw [show adM (sM (sQ sa (sa.2.2.1 ++ [n / 2]) sa.2.2.2) u 3) ((sM (sQ sa (sa.2.2.1 ++ [n / 2]) sa.2.2.2) u 3).1 12 - 1) = some x1 from k1']
                      rw [← t7, es]
                      exact congrArg some ((key (sa.2.2.1 ++ [n / 2]) sa.2.2.2).trans (by rw [et0]; rfl))
                    · rw [if_neg ev] at es ⊢
                      refine ⟨_, rfl, ?_, rfl⟩
                      unfold cRest
                      rw [show adM (sM (sQ sa sa.2.2.1 (sa.2.2.2 ++ [n / 2])) u 3) ((sM (sQ sa sa.2.2.1 (sa.2.2.2 ++ [n / 2])) u 3).1 12 - 1) = some x1 from k1']
                      rw [← t7, es]
                      exact congrArg some ((key sa.2.2.1 (sa.2.2.2 ++ [n / 2])).trans (by rw [et0]; rfl))
                  · rw [if_neg q5] at t6 ⊢
                    refine ⟨_, rfl, ?_, rfl⟩
                    have e9 := Option.some.inj t6
                    unfold cRest
                    rw [show adM (sM sa u 3) ((sM sa u 3).1 12 - 1) = some x1 from k1']
                    rw [← t7, ← e9]
                    exact congrArg some ((key sa.2.2.1 sa.2.2.2).trans (by rw [et0]; rfl))
                obtain ⟨sb, wk1, wk2, wk3⟩ := wk
                have hra : ¬ sa.1 14 = 0 := by rw [← hsa]; exact hr
                obtain ⟨h3, q6, a3⟩ := y_wake (d := d) a2 hp hra wk1
                obtain ⟨h4, q7, a4⟩ := y_wait0 (d := d) a3 hp (by rw [wk3]; exact hra) wk2
                rw [if_pos q3, w2, if_neg (fun z => z.elim q (by omega)), q6, mj_xv_ret, q_344_202, q7, mj_xv_ret]
                exact ⟨_, rfl, a.up a4⟩
              · rw [if_neg q4] at e; cases e
          · rw [if_neg q2] at e; cases e
theorem y_enb {x : Int32} (a : yS p h0 s w h) (hp : p < 6) (hr : ¬ s.1 14 = 0) (e : cEnb s w x = some s') : yDoW p h0 s' w (mj_R mg (d + 3) mq_341 (0, [(0, vR 15 0), (1, vI (nI p)), (2, vI x)], [], h)) := by
  have ip := yp_in hp
  unfold cEnb at e
  obtain ⟨c, j1, e0⟩ := Option.bind_eq_some_iff.mp e
  obtain ⟨b, hb, e1⟩ := Option.bind_eq_some_iff.mp e0
  clear e e0
  have e := e1
  clear e1
  obtain ⟨z1, hc, z3, z4⟩ := ad_0 j1
  subst z1
  have g12 : h.1 136 0 p = s.1 12 := a.f.g hr 12 (by omega) (by omega)
  have n38 := a.f.n hr
  have tr : b = true → ∃ x3, adM s (s.1 12 - 3) = some x3 ∧ s' = sM s x3 3 := by
    intro z
    rw [if_pos z] at e
    obtain ⟨u, j2, e⟩ := Option.map_eq_some_iff.mp e
    exact ⟨u, j2, e.symm⟩
  have fa : b = false → (s.2.1 c = -1 ∨ s.2.1 c = cSelf s) ∧ s' = sM s c (cSelf s) := by
    intro z
    rw [if_neg (by rw [z]; decide)] at e
    by_cases q : s.2.1 c = -1 ∨ s.2.1 c = cSelf s
    · rw [if_pos q] at e
      exact ⟨q, (Option.some.inj e).symm⟩
    · rw [if_neg q] at e; cases e
  have go43 : b = false ∨ ¬ c ≤ 13 → yDoW p h0 s' w (mj_R mg (d + 3) mq_341 (43, [(4, vI (s.2.1 c)), (3, vI (s.1 12)), (0, vR 15 0), (1, vI (nI p)), (2, vI (nI c))], [], h)) := by
    intro cb
    rw [q_341_43, if_pos ip, nI_clamp (show p < 2 ^ 31 by omega), n38]
    by_cases q : s.2.1 c = -1
    · have bf : b = false := by
        rcases cb with z | z
        · exact z
        · unfold cHas at hb
          rw [if_neg (by omega), if_neg (by omega), if_neg (by omega), decide_eq_true q] at hb
          exact (Option.some.inj hb).symm
      obtain ⟨-, es⟩ := fa bf
      obtain ⟨q1, a1⟩ := y_st (d := d + 1) (v := cSelf s) a.f hp j1
      rw [if_neg (fun z => z q), if_pos ip, q1, mj_xv_ret, q_341_84, es]
      exact ⟨_, rfl, a.up a1⟩
    · rw [if_pos q]
      by_cases q2 : s.2.1 c = cSelf s
      · have bf : b = false := by
          rcases cb with z | z
          · exact z
          · unfold cHas at hb
            rw [if_neg (by omega), if_neg (by omega), if_neg (by omega), decide_eq_true q2, decide_eq_false q] at hb
            exact (Option.some.inj hb).symm
        obtain ⟨-, es⟩ := fa bf
        rw [if_pos q2, q_341_84, es, ← q2, sM_id]
        exact ⟨_, rfl, a⟩
      · have bt : b = true := by
          cases b with
          | true => rfl
          | false => exact ((fa rfl).1.elim (fun z => (q z).elim) (fun z => (q2 z).elim))
        obtain ⟨x3, j3, es⟩ := tr bt
        obtain ⟨q1, a1⟩ := y_st (d := d + 1) (v := 3) a.f hp j3
        rw [if_neg q2, q1, mj_xv_ret, q_341_84, es]
        exact ⟨_, rfl, a.up a1⟩
  rw [q_341_0, if_pos ip, nI_clamp (show p < 2 ^ 31 by omega), g12, y_ld a.f hp j1, mj_xi_ret, y_outs hc, mj_xi_ret]
  by_cases c13 : c ≤ 13
  · obtain ⟨-, eb⟩ := yHas_c hb c13
    rw [decide_eq_true c13, if_neg (by decide), y_has a.2.1 hc, mj_xi_ret, ← eb]
    cases hbb : b with
    | false =>
      rw [if_pos (by decide)]
      exact go43 (Or.inl hbb)
    | true =>
      obtain ⟨x3, j3, es⟩ := tr hbb
      obtain ⟨q1, a1⟩ := y_st (d := d + 1) (v := 3) a.f hp j3
      rw [if_neg (by decide), q1, mj_xv_ret, q_341_84, es]
      exact ⟨_, rfl, a.up a1⟩
  · rw [decide_eq_false c13, if_pos (by decide)]
    exact go43 (Or.inr c13)
theorem y_dis {x y v : Int32} (a : yS p h0 s w h) (hp : p < 6) (hr : ¬ s.1 14 = 0) (c0 : ¬ y = 0) (e : cDis s w x y v = some s') : yDoW p h0 s' w (mj_R mg (d + 3) mq_342 (0, [(0, vR 15 0), (1, vI (nI p)), (2, vI x), (3, vI v)], [], h)) := by
  have ip := yp_in hp
  unfold cDis at e
  rw [if_neg c0] at e
  obtain ⟨c, j1, e0⟩ := Option.bind_eq_some_iff.mp e
  obtain ⟨b, hb, e1⟩ := Option.bind_eq_some_iff.mp e0
  obtain ⟨u, j2, e2⟩ := Option.bind_eq_some_iff.mp e1
  clear e e0 e1
  have e := e2
  clear e2
  obtain ⟨z1, hc, z3, z4⟩ := ad_0 j1
  subst z1
  have g12 : h.1 136 0 p = s.1 12 := a.f.g hr 12 (by omega) (by omega)
  have n38 := a.f.n hr
  by_cases cu : c = u
  · rw [if_pos cu] at e; cases e
  · rw [if_neg cu] at e
    have e9 := Option.some.inj e
    have fin : ∀ (s1 : Cr) (h1 : mj_H), yS p h0 s1 w h1 → s1.1 = s.1 → s1.2.1 u = s.2.1 u → s' = (if b = true ∧ s.2.1 u = -1 then sM s1 u v else s1) → yDoW p h0 s' w (mj_R mg (d + 3) mq_342 (89, [(5, vI (bI b)), (4, vI (s.1 12)), (0, vR 15 0), (1, vI (nI p)), (2, vI (nI c)), (3, vI v)], [], h1)) := by
      intro s1 h1 a1 e1 e2 e3
      have ju : adM s1 (s.1 12) = some u := by unfold adM; rw [e1]; exact j2
      rw [q_342_89]
      cases b with
      | false =>
        rw [if_neg (fun z => by cases z.1)] at e3
        subst e3
        rw [if_pos (by decide), q_342_113]
        exact ⟨_, rfl, a1⟩
      | true =>
        rw [if_neg (by decide), y_ld a1.f hp ju, mj_xi_ret, e2]
        by_cases q : s.2.1 u = -1
        · rw [if_pos ⟨rfl, q⟩] at e3
          subst e3
          obtain ⟨q1, a2⟩ := y_st (d := d + 1) (v := v) a1.f hp ju
          rw [if_neg (fun z => z q), q1, mj_xv_ret, q_342_113]
          exact ⟨_, rfl, a1.up a2⟩
        · rw [if_neg (fun z => q z.2)] at e3
          subst e3
          rw [if_pos q, q_342_113]
          exact ⟨_, rfl, a1⟩
    rw [q_342_0, if_pos ip, nI_clamp (show p < 2 ^ 31 by omega), g12, y_ld a.f hp j1, mj_xi_ret, if_pos ip, n38]
    by_cases q : s.2.1 c = cSelf s
    · simp only [if_pos q] at e9
      obtain ⟨q1, a1⟩ := y_st (d := d + 1) (v := -1) a.f hp j1
      have fi := fin (sM s c (-1)) _ (a.up a1) rfl (by show (if u = c then _ else _) = _; rw [if_neg (fun z => cu z.symm)]) e9.symm
      rw [if_neg (fun z => z q), q1, mj_xv_ret, y_outs hc, mj_xi_ret]
      by_cases c13 : c ≤ 13
      · obtain ⟨-, eb⟩ := yHas_c hb c13
        rw [decide_eq_true c13, if_neg (by decide), y_has (a.up a1).2.1 hc, mj_xi_ret, ← eb]
        cases hbb : b with
        | false =>
          rw [hbb] at fi
          rw [if_pos (by decide), q_342_50, q_342_51]
          exact fi
        | true =>
          rw [hbb] at fi
          rw [if_neg (by decide), q_342_51]
          exact fi
      · have bf : b = false := by
          unfold cHas at hb
          rw [if_neg (by omega), if_neg (by omega), if_neg (by omega), decide_eq_true q] at hb
          have := (Option.some.inj hb).symm
          rw [this, Bool.not_true, Bool.and_false]
        rw [bf] at fi
        rw [decide_eq_false c13, if_pos (by decide), q_342_50, q_342_51]
        exact fi
    · simp only [if_neg q] at e9
      have fi := fin s h a rfl rfl e9.symm
      rw [if_pos q, y_outs hc, mj_xi_ret]
      by_cases c13 : c ≤ 13
      · obtain ⟨-, eb⟩ := yHas_c hb c13
        rw [decide_eq_true c13, if_neg (by decide), y_has a.2.1 hc, mj_xi_ret, ← eb, q_342_87]
        exact fi
      · have bf : b = !decide (s.2.1 c = -1) := by
          unfold cHas at hb
          rw [if_neg (by omega), if_neg (by omega), if_neg (by omega), decide_eq_false q] at hb
          have := (Option.some.inj hb).symm
          rw [this, Bool.not_false, Bool.and_true]
        rw [decide_eq_false c13, if_pos (by decide), y_ld a.f hp j1, mj_xi_ret]
        by_cases q2 : s.2.1 c = -1
        · rw [bf, decide_eq_true q2] at fi
          rw [if_pos q2, q_342_87]
          exact fi
        · rw [bf, decide_eq_false q2] at fi
          rw [if_neg q2, q_342_87]
          exact fi
end
