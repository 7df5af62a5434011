/-! the component's core: input, output, ALT -/
section
variable {k d : Nat} {h0 h : mj_H} {s s' : Cr} {w w' : Wd}
theorem k_in {x y : Int32} (a : RS k h0 s w h) (hl : s.1 15 = 0 ∨ s.1 15 = 1) (e : cIn s w x y = some (s', w')) : cDoW k h0 s' w' (mj_R mg (d + 2) mq_185 (0, [(0, vR 13 k), (1, vI x), (2, vI y)], [], h)) := by
  unfold cIn at e
  obtain ⟨c, j1, e0⟩ := Option.bind_eq_some_iff.mp e
  clear e
  have e := e0
  clear e0
  obtain ⟨z1, hc, z3, z4⟩ := ad_0 j1
  subst z1
  have e12 : (12 : Int32) = nI 12 := rfl
  have wt : ∀ (h2 : mj_H), h2 = h → (cWait s c y).map (fun s => (s, w)) = some (s', w') → cDoW k h0 s' w' (mj_xv (mj_R mg (d + 1) mq_184 (0, [(0, vR 13 k), (1, vI (nI c)), (2, vI y)], [], h2)) (fun h3 => mj_R mg (d + 2) mq_185 (149, [(0, vR 13 k), (1, vI (nI c)), (2, vI y)], [], h3))) := by
    rintro h2 rfl e
    obtain ⟨t, t1, t2⟩ := Option.map_eq_some_iff.mp e
    cases t2
    obtain ⟨h1, q1, a1⟩ := k_wait (d := d) a.f hl hc t1
    rw [q1, mj_xv_ret, q_185_149_2]
    exact ⟨_, rfl, a.up a1⟩
  rw [q_185_0]
  by_cases c13 : c = 13
  · rw [if_pos c13] at e
    rw [if_neg (fun z => z (by rw [c13]; rfl)), q_162_0, a.2.1.1 1 (by omega), a.2.1.1 2 (by omega)]
    by_cases q : w.1 1 ≤ w.1 2
    · rw [if_pos q] at e
      rw [if_pos q, q_162_16, if_pos (Or.inl rfl), mj_xi_ret, if_pos rfl]
      exact wt _ rfl e
    · rw [if_neg q] at e
      obtain ⟨v, j2, e⟩ := Option.bind_eq_some_iff.mp e
      obtain ⟨y1, hv, y3, y4⟩ := ad_0 j2
      by_cases q2 : mj_in (w.1 2) 200
      · rw [if_pos q2] at e
        have e9 := Option.some.inj e
        cases e9
        have ei : w.1 2 + 1 - 1 = w.1 2 := Int32.add_sub_cancel _ _
        have hi : (w.1 2).toNatClampNeg < 200 := by
          have e3 : (w.1 2).toNatClampNeg = (w.1 2).toInt.toNat := rfl
          have := q2.1; have := q2.2; omega
        rw [if_neg q, q_162_16, if_pos (Or.inr rfl), mj_xi_ret, if_neg (by decide), q_163_0, a.2.1.1 2 (by omega), ei, if_pos q2, a.2.1.2.2.1 _ hi, mj_xi_ret, if_pos y3, y4, q_185_149_2]
        have b := a.ho 2 (w.1 2 + 1) (Or.inl rfl)
        exact ⟨_, rfl, b.up (b.f.m v _)⟩
      · rw [if_neg q2] at e; cases e
  · rw [if_neg c13] at e
    have n13 : ¬ nI c = 13 := fun z => c13 ((nI_eq (b := 13) (by omega) (by omega)).mp z)
    rw [if_pos n13]
    by_cases c12 : c < 12
    · rw [if_pos c12] at e
      have h4 : h.1 12 c 4 = w.2.1 c 4 := a.2.1.2.1 c 4 c12 (by omega)
      have h1' : h.1 12 c 1 = w.2.1 c 1 := a.2.1.2.1 c 1 c12 (by omega)
      rw [e12, if_neg (nI_ge c12 (by omega)), if_pos (in_n c12 (by omega)), nI_clamp (by omega), q_166_0, h4]
      by_cases q : w.2.1 c 4 = 4
      · rw [if_pos q] at e
        obtain ⟨v, j2, e⟩ := Option.map_eq_some_iff.mp e
        obtain ⟨y1, hv, y3, y4⟩ := ad_0 j2
        cases e
        rw [if_neg (fun z => z q), q_166_13, if_pos (Or.inr rfl), mj_xi_ret, if_neg (by decide), if_pos (in_n c12 (by omega)), if_pos y3, if_pos (in_n c12 (by omega)), h1', y4, q_167_0, mj_xv_ret, q_185_149_2]
        have b := a.up (a.f.m v (w.2.1 c 1))
        exact ⟨_, rfl, (b.l c 4 0).l c 5 1⟩
      · rw [if_neg q] at e
        rw [if_pos q, q_166_13, if_pos (Or.inl rfl), mj_xi_ret, if_pos rfl]
        exact wt _ rfl e
    · rw [if_neg c12] at e
      by_cases c1 : c = 12
      · rw [if_pos c1] at e; cases e
      · rw [if_neg c1] at e
        rw [e12, if_pos (nI_le (by omega) (by omega)), if_pos (in_n hc (by omega)), nI_clamp (by omega), a.f.y c hc]
        by_cases q : s.2.1 c = -1
        · rw [if_pos q] at e
          rw [if_neg (fun z => z q)]
          exact wt _ rfl e
        · rw [if_neg q] at e
          by_cases q2 : mj_in (s.2.1 c) 8032
          · rw [if_pos q2] at e
            obtain ⟨u, j3, e⟩ := Option.bind_eq_some_iff.mp e
            obtain ⟨v, j2, e⟩ := Option.bind_eq_some_iff.mp e
            obtain ⟨t, t1, t2⟩ := Option.map_eq_some_iff.mp e
            cases t2
            obtain ⟨y1, hv, y3, y4⟩ := ad_0 j2
            obtain ⟨u1, hu, u3, u4⟩ := ad_0 j3
            obtain ⟨h1, q1, a1⟩ := k_ready (d := d) ((a.f.m v (s.2.1 u)).m c (-1)) t1
            rw [if_pos q, if_pos (in_n hc (by omega)), if_pos u3, if_pos y3, if_pos (in_n hc (by omega)), u4, a.f.y u hu, y4, q1, mj_xv_ret, q_185_149]
            exact ⟨_, rfl, a.up a1⟩
          · rw [if_neg q2] at e; cases e
theorem k_out {x y : Int32} (a : RS k h0 s w h) (hl : s.1 15 = 0 ∨ s.1 15 = 1) (e : cOut s w x y = some (s', w')) : cDoW k h0 s' w' (mj_R mg (d + 3) mq_186 (0, [(0, vR 13 k), (1, vI x), (2, vI y)], [], h)) := by
  unfold cOut at e
  obtain ⟨c, j1, e0⟩ := Option.bind_eq_some_iff.mp e
  clear e
  have e := e0
  clear e0
  obtain ⟨z1, hc, z3, z4⟩ := ad_0 j1
  subst z1
  have e12 : (12 : Int32) = nI 12 := rfl
  rw [q_186_0]
  by_cases c12 : c = 12
  · rw [if_pos c12] at e
    rw [if_neg (fun z => z (by rw [c12]; rfl)), q_161_0, a.2.1.1 4 (by omega)]
    by_cases q0 : w.1 4 < 0
    · rw [if_pos q0] at e; cases e
    · rw [if_neg q0] at e
      by_cases q : 1000 ≤ w.1 4
      · rw [if_pos q] at e
        have e9 := Option.some.inj e
        cases e9
        rw [if_pos q, q_161_20, a.2.1.1 4 (by omega), mj_xv_ret, q_186_133_2]
        exact ⟨_, rfl, a.ho 4 _ (Or.inr rfl)⟩
      · rw [if_neg q] at e
        have e9 := Option.some.inj e
        cases e9
        obtain ⟨n1, n2⟩ := n_cl q0
        have n3 : (w.1 4).toNatClampNeg < 1000 := by
          rw [n1] at q
          by_cases z : (w.1 4).toNatClampNeg < 1000
          · exact z
          · exact (q (nI_le (a := 1000) (by omega) n2)).elim
        have ii : mj_in (w.1 4) 1000 := by rw [n1]; exact in_n n3 (by omega)
        have b := a.o (w.1 4).toNatClampNeg y
        have b4 : (mj_sI h 68 0 (w.1 4).toNatClampNeg y).1 11 0 4 = w.1 4 := b.2.1.1 4 (by omega)
        rw [if_neg q, if_pos ii, q_161_20, b4, mj_xv_ret, q_186_133_2]
        exact ⟨_, rfl, b.ho 4 _ (Or.inr rfl)⟩
  · rw [if_neg c12] at e
    have n12 : ¬ nI c = nI 12 := fun z => c12 ((nI_eq (by omega) (by omega)).mp z)
    rw [e12, if_pos n12]
    by_cases cl : c < 12
    · rw [if_pos cl] at e
      by_cases q : w.2.1 c 0 = 0 ∧ w.2.1 c 2 = 0 ∧ w.2.1 c 3 = 0
      · rw [if_pos q] at e
        obtain ⟨t, t1, t2⟩ := Option.map_eq_some_iff.mp e
        cases t2
        obtain ⟨h1, q1, a1⟩ := k_wait (d := d + 1) a.f hl hc t1
        rw [if_neg (nI_ge cl (by omega)), q1, mj_xv_ret, if_pos (in_n cl (by omega)), if_pos (in_n cl (by omega)), nI_clamp (by omega), q_186_133_2]
        exact ⟨_, rfl, ((a.up a1).l c 0 1).l c 1 y⟩
      · rw [if_neg q] at e; cases e
    · rw [if_neg cl] at e
      by_cases c13 : c = 13
      · rw [if_pos c13] at e; cases e
      · rw [if_neg c13] at e
        rw [if_pos (nI_le (by omega) (by omega)), if_pos (in_n hc (by omega)), nI_clamp (by omega), a.f.y c hc]
        by_cases q : s.2.1 c = -1
        · rw [if_pos q] at e
          obtain ⟨t, t1, t2⟩ := Option.map_eq_some_iff.mp e
          cases t2
          obtain ⟨h1, q1, a1⟩ := k_wait (d := d + 1) a.f hl hc t1
          rw [if_neg (fun z => z q), q1, mj_xv_ret, q_186_133_2]
          exact ⟨_, rfl, a.up a1⟩
        · rw [if_neg q] at e
          by_cases q2 : mj_in (s.2.1 c) 8032
          · rw [if_pos q2] at e
            obtain ⟨u, j3, e⟩ := Option.bind_eq_some_iff.mp e
            obtain ⟨u1, hu, u3, u4⟩ := ad_0 j3
            rw [if_pos q, if_pos (in_n hc (by omega)), if_pos u3, u4, a.f.y u hu]
            by_cases q3 : s.2.1 u = 0
            · rw [if_pos q3] at e
              obtain ⟨v, j2, e⟩ := Option.bind_eq_some_iff.mp e
              obtain ⟨z, j4, e⟩ := Option.bind_eq_some_iff.mp e
              obtain ⟨t, t1, t2⟩ := Option.map_eq_some_iff.mp e
              cases t2
              obtain ⟨y1, hv, y3, y4⟩ := ad_0 j2
              obtain ⟨v1, hz, v3, v4⟩ := ad_0 j4
              obtain ⟨h1, q1, a1⟩ := k_ready (d := d + 1) ((a.f.m z y).m c (-1)) t1
              rw [if_neg (fun z => z q3), if_pos y3, y4, a.f.y v hv, if_pos v3, if_pos (in_n hc (by omega)), v4, q1, mj_xv_ret, q_186_133]
              exact ⟨_, rfl, a.up a1⟩
            · rw [if_neg q3] at e
              obtain ⟨x1, -, e⟩ := Option.bind_eq_some_iff.mp e
              obtain ⟨x2, -, e⟩ := Option.bind_eq_some_iff.mp e
              obtain ⟨x3, -, e⟩ := Option.bind_eq_some_iff.mp e
              by_cases q4 : u ≠ x1 ∧ u ≠ x2 ∧ u ≠ x3 ∧ u ≠ c
              · rw [if_pos q4] at e
                obtain ⟨t, t1, t2⟩ := Option.map_eq_some_iff.mp e
                cases t2
                obtain ⟨t0, t3, t4⟩ := Option.bind_eq_some_iff.mp t1
                obtain ⟨h1, q1, a1⟩ := k_wait (d := d + 1) a.f hl hc t3
                obtain ⟨h2, r1, a2⟩ := k_wake (d := d) a1 t4
                rw [if_pos q3, q1, mj_xv_ret, r1, mj_xv_ret, q_186_133]
                exact ⟨_, rfl, a.up a2⟩
              · rw [if_neg q4] at e; cases e
          · rw [if_neg q2] at e; cases e
theorem k_enb {x : Int32} (a : RS k h0 s w h) (hl : s.1 15 = 0 ∨ s.1 15 = 1) (e : cEnb s w x = some s') : cDoW k h0 s' w (mj_R mg (d + 2) mq_189 (0, [(0, vR 13 k), (1, vI x)], [], h)) := by
  unfold cEnb at e
  obtain ⟨c, j1, e0⟩ := Option.bind_eq_some_iff.mp e
  obtain ⟨b, hb, e1⟩ := Option.bind_eq_some_iff.mp e0
  clear e e0
  have e := e1
  clear e1
  obtain ⟨z1, hc, z3, z4⟩ := ad_0 j1
  subst z1
  rw [q_189_0, k_has a hl hc hb, mj_xi_ret]
  cases b with
  | true =>
    rw [if_pos rfl] at e
    obtain ⟨u, j2, e⟩ := Option.map_eq_some_iff.mp e
    obtain ⟨u1, hu, u3, u4⟩ := ad_0 j2
    subst e
    rw [if_neg (by decide), a.f.g 12 (by omega) (by omega), if_pos u3, u4, q_189_33]
    exact ⟨_, rfl, a.up (a.f.m u 3)⟩
  | false =>
    rw [if_neg (by decide)] at e
    by_cases q : s.2.1 c = -1 ∨ s.2.1 c = cSelf s
    · rw [if_pos q] at e
      have e9 := Option.some.inj e
      subst e9
      rw [if_pos (by decide), k_self a.f hl, mj_xi_ret, if_pos z3, z4, q_189_33]
      exact ⟨_, rfl, a.up (a.f.m c _)⟩
    · rw [if_neg q] at e; cases e
theorem k_dis {x y v : Int32} (a : RS k h0 s w h) (hl : s.1 15 = 0 ∨ s.1 15 = 1) (e : cDis s w x y v = some s') : cDoW k h0 s' w (mj_R mg (d + 2) mq_190 (0, [(0, vR 13 k), (1, vI x), (2, vI y), (3, vI v)], [], h)) := by
  unfold cDis at e
  rw [q_190_0]
  by_cases c0 : y = 0
  · rw [if_pos c0] at e
    have e9 := Option.some.inj e
    subst e9
    rw [if_neg (fun z => z c0)]
    exact ⟨_, rfl, a⟩
  · rw [if_neg c0] at e
    obtain ⟨c, j1, e0⟩ := Option.bind_eq_some_iff.mp e
    obtain ⟨b, hb, e1⟩ := Option.bind_eq_some_iff.mp e0
    obtain ⟨u, j2, e2⟩ := Option.bind_eq_some_iff.mp e1
    clear e e0 e1
    have e := e2
    clear e2
    obtain ⟨z1, hc, z3, z4⟩ := ad_0 j1
    obtain ⟨u1, hu, u3, u4⟩ := ad_0 j2
    subst z1
    by_cases cu : c = u
    · rw [if_pos cu] at e; cases e
    · rw [if_neg cu] at e
      have e9 := Option.some.inj e
      rw [if_pos c0, k_has a hl hc hb, mj_xi_ret, if_pos z3, k_self a.f hl, mj_xi_ret, z4, a.f.y c hc]
      have fin : ∀ (s1 : Cr) (h1 : mj_H), RS k h0 s1 w h1 → s1.1 12 = s.1 12 → s1.2.1 u = s.2.1 u → s' = (if b = true ∧ s.2.1 u = -1 then sM s1 u v else s1) → cDoW k h0 s' w (mj_R mg (d + 2) mq_190 (32, [(4, vI (bI b)), (0, vR 13 k), (1, vI (nI c)), (2, vI y), (3, vI v)], [], h1)) := by
        intro s1 h1 a1 e1 e2 e3
        rw [q_190_32]
        cases b with
        | false =>
          rw [if_neg (fun z => by cases z.1)] at e3
          subst e3
          rw [if_pos (by decide), q_190_60]
          exact ⟨_, rfl, a1⟩
        | true =>
          rw [if_neg (by decide), a1.f.g 12 (by omega) (by omega), e1, if_pos u3, u4, a1.f.y u hu, e2]
          by_cases q : s.2.1 u = -1
          · rw [if_pos ⟨rfl, q⟩] at e3
            subst e3
            rw [if_neg (fun z => z q), if_pos u3, q_190_60]
            exact ⟨_, rfl, a1.up (a1.f.m u v)⟩
          · rw [if_neg (fun z => q z.2)] at e3
            subst e3
            rw [if_pos q, q_190_60]
            exact ⟨_, rfl, a1⟩
      by_cases q : s.2.1 c = cSelf s
      · rw [if_neg (fun z => z q), if_pos z3]
        simp only [if_pos q] at e9
        exact fin (sM s c (-1)) _ (a.up (a.f.m c (-1))) rfl (by show (if u = c then _ else _) = _; rw [if_neg (fun z => cu z.symm)]) e9.symm
      · rw [if_pos q]
        simp only [if_neg q] at e9
        exact fin s h a rfl rfl e9.symm
end
