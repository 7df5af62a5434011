/-! the twin compiles: compile -/
theorem t_comp {t : Nat → Nat} {n D : Nat} {S : Sy} {h : mj_H} (hT : TT t n h) (hn : h.1 15 0 2 = nI n) (hI : tIO S h) (hw : tW68 h) (hD : 1320 ≤ D) : mP (mj_R mg (D + 2) mq_319 (0, [(0, vR 15 0)], [], h)) (fun v h' => gTm h h' ∧ h'.1 15 0 2 = 0 ∧ h'.1 15 0 0 = 0 ∧ tW68 h' ∧ tRs S v h' (cmp (txL t n))) := by
  obtain ⟨mT, lT⟩ := txL_c hT.1
  rw [q_319_0]
  generalize hA : mj_sI (mj_sI (mj_sI (mj_sI (mj_sI (mj_sI (mj_sI (mj_sI (mj_sI (mj_sI (mj_sI (mj_sI h 15 0 0 0) 15 0 16 0) 15 0 17 (-1)) 15 0 18 (-1)) 15 0 58 0) 15 0 19 0) 15 0 28 0) 15 0 29 0) 15 0 31 1) 15 0 46 0) 15 0 52 0) 15 0 9 0 = h0
  have a0 : (∀ g i j, ¬ (g = 15 ∧ (j = 0 ∨ j = 9 ∨ j = 16 ∨ j = 17 ∨ j = 18 ∨ j = 19 ∨ j = 28 ∨ j = 29 ∨ j = 31 ∨ j = 46 ∨ j = 52 ∨ j = 58)) → h0.1 g i j = h.1 g i j) ∧ h0.2 = h.2 := by
    rw [← hA]
    exact ⟨fun g i j c => by rw [mI_1, if_neg (by omega), mI_1, if_neg (by omega), mI_1, if_neg (by omega), mI_1, if_neg (by omega), mI_1, if_neg (by omega), mI_1, if_neg (by omega), mI_1, if_neg (by omega), mI_1, if_neg (by omega), mI_1, if_neg (by omega), mI_1, if_neg (by omega), mI_1, if_neg (by omega), mI_1, if_neg (by omega)], rfl⟩
  have a1 : h0.1 15 0 0 = 0 ∧ h0.1 15 0 16 = 0 ∧ h0.1 15 0 17 = -1 ∧ h0.1 15 0 18 = -1 ∧ h0.1 15 0 58 = 0 ∧ h0.1 15 0 19 = 0 ∧ h0.1 15 0 28 = 0 ∧ h0.1 15 0 29 = 0 ∧ h0.1 15 0 31 = 1 ∧ h0.1 15 0 46 = 0 ∧ h0.1 15 0 52 = 0 ∧ h0.1 15 0 9 = 0 := by
    rw [← hA]
    simp [mI_1]
  obtain ⟨h1, e1, z108, f1, f1'⟩ := t_clr (D := D + 1) 6 0 h0 rfl
  have e1' : mj_R mg (D + 2) mq_319 (62, [(1, vI 0), (0, vR 15 0)], [], h0) = mj_R mg (D + 2) mq_319 (62, [(1, vI (nI 6)), (0, vR 15 0)], [], h1) := e1
  rw [e1', q_319_62, if_pos (show (6 : Int32) ≤ nI 6 by decide)]
  have b1 : ∀ g i j, ¬ (g = 108) → h1.1 g i j = h0.1 g i j := fun g i j c => f1 g i j (by omega)
  refine mP_xv (mP_mono (u_lines (t := t) (n := n) (h := h1) ⟨hT.1, fun j hj => by rw [b1 72 0 j (by omega), a0.1 72 0 j (by omega)]; exact hT.2 j hj⟩ (by rw [b1 15 0 2 (by omega), a0.1 15 0 2 (by omega)]; exact hn)) ?_)
  rintro v h2 ⟨rfl, f2, L2⟩
  refine ⟨rfl, ?_⟩
  generalize hR : mj_sI h2 15 0 2 0 = h3
  have b3 : (∀ g i j, ¬ ((g = 15 ∧ (j = 2 ∨ j = 3)) ∨ (73 ≤ g ∧ g ≤ 77) ∨ g = 108) → h3.1 g i j = h0.1 g i j) ∧ h3.2 = h0.2 := by
    rw [← hR]
    exact ⟨fun g i j c => by rw [mI_1, if_neg (by omega), f2.1 g i j (by omega)]; exact b1 g i j (by omega), f2.2.trans f1'⟩
  have z2 : h3.1 15 0 2 = 0 := by rw [← hR]; simp [mI_1]
  have z3 : ∀ k, k < 6 → h3.1 108 0 k = 0 := fun k hk => by rw [← hR, mI_1, if_neg (by omega), f2.1 108 0 k (by omega)]; exact z108 k (by omega) hk
  obtain ⟨i0, i16, i17, i18, i58, i19, i28, i29, i31, i46, i52, i9⟩ := a1
  have c3 : gTm h h3 := gTm.e (fun g i j c => by rw [b3.1 g i j (by omega), a0.1 g i j (by omega)]) (b3.2.trans a0.2)
  have Q3 : TQ t n h3 (txL t n) := by
    refine ⟨0, ⟨hT.1, fun j hj => by rw [b3.1 72 0 j (by omega), a0.1 72 0 j (by omega)]; exact hT.2 j hj⟩, ?_, (b3.1 15 0 9 (by omega)).trans i9, Nat.zero_le _, rfl⟩
    rw [← hR]
    obtain ⟨l1, l2⟩ := L2
    exact ⟨by rw [mI_1, if_neg (by omega)]; exact l1, fun k x hx => by
      obtain ⟨y1, y2, y3, y4, y5⟩ := l2 k x hx
      refine ⟨?_, ?_, ?_, ?_, ?_⟩
      · rw [mI_1, if_neg (by omega)]; exact y1
      · rw [mI_1, if_neg (by omega)]; exact y2
      · rw [mI_1, if_neg (by omega)]; exact y3
      · rw [mI_1, if_neg (by omega)]; exact y4
      · rw [mI_1, if_neg (by omega)]; exact y5⟩
  have I3 : tIO S h3 := hI.mv (fun g j c => by rw [b3.1 g 0 j (by omega), a0.1 g 0 j (by omega)])
  have w3 : tW68 h3 := hw.mv (by rw [b3.1 15 0 68 (by omega), a0.1 15 0 68 (by omega)])
  refine mP_xv (mP_mono (t_read17 (D := D) Q3 ((b3.1 15 0 16 (by omega)).trans i16) ((b3.1 15 0 19 (by omega)).trans i19) ((b3.1 15 0 28 (by omega)).trans i28) ((b3.1 15 0 29 (by omega)).trans i29) ((b3.1 15 0 31 (by omega)).trans i31) ((b3.1 15 0 46 (by omega)).trans i46) ((b3.1 15 0 52 (by omega)).trans i52) z3 hD) ?_)
  rintro v4 h4 ⟨hq, k58, k17⟩
  have y58 : h4.1 15 0 58 = 0 := k58.trans ((b3.1 15 0 58 (by omega)).trans i58)
  have y0 : h3.1 15 0 0 = 0 := (b3.1 15 0 0 (by omega)).trans i0
  -- how a fault ends
  have fin : ∀ (h5 : mj_H) (a b c : Int32), gTm h h5 → h5.1 15 0 2 = 0 → h5.1 15 0 0 = 0 → tW68 h5 → h5.1 15 0 58 = 0 → tFt (a, b, c) h5 → tIO S h5 → cmp (txL t n) = .inl (a, b, c) → gTm h (mj_sI h5 15 0 28 0) ∧ (mj_sI h5 15 0 28 0).1 15 0 2 = 0 ∧ (mj_sI h5 15 0 28 0).1 15 0 0 = 0 ∧ tW68 (mj_sI h5 15 0 28 0) ∧ tRs S (some (vI (-1))) (mj_sI h5 15 0 28 0) (cmp (txL t n)) := by
    intro h5 a b c g1 g2 g3 g4 g5 g6 g7 e
    have ne : ∀ g i j, ¬ (g = 15 ∧ j = 28) → (mj_sI h5 15 0 28 0).1 g i j = h5.1 g i j := fun g i j c => by rw [mI_1, if_neg (by omega)]
    rw [e]
    exact ⟨g1.tr (gTm.s (by omega)), (ne 15 0 2 (by omega)).trans g2, (ne 15 0 0 (by omega)).trans g3, g4.mv (ne 15 0 68 (by omega)), rfl, (ne 15 0 58 (by omega)).trans g5, ⟨(ne 15 0 16 (by omega)).trans g6.1, (ne 15 0 17 (by omega)).trans g6.2.1, (ne 15 0 18 (by omega)).trans g6.2.2⟩, g7.mv (fun g j c => ne g 0 j (by omega))⟩
  cases hp : prgS (txL t n) with
  | inl f =>
    rw [hp] at hq
    obtain ⟨hv, x1, x2, x3, x4, x5, V⟩ := hq
    refine ⟨hv, ?_⟩
    have e : cmp (txL t n) = .inl (nI f.1, (flI f).1, (flI f).2) := by unfold cmp; rw [hp]
    have ne : ¬ h4.1 15 0 16 = 0 := by rw [x3]; exact fun z => x1 (by have := (nI_eq (by omega) (by decide : (0 : Nat) < 2 ^ 31)).mp z; exact this)
    rw [tb_1 ne, mj_xi_ret, if_pos (by decide), t_e114 ne]
    exact mP_ret (fin h4 _ _ _ (c3.tr ⟨fun g i j c => V.1 g i j (by omega), fun g i j c => V.2.1 g i j (by omega), V.2.2⟩) ((V.1 15 0 2 (by omega)).trans z2) ((V.1 15 0 0 (by omega)).trans y0) (w3.mv (V.1 15 0 68 (by omega))) y58 ⟨x3, x4, x5⟩ (I3.mv (fun g j c => V.1 g 0 j (by omega))) e)
  | inr q =>
    obtain ⟨pa, bs, lk, rt, sy, vis, L'⟩ := q
    obtain ⟨W, hL⟩ := wf_prg hp
    dsimp only at hL
    subst hL
    obtain ⟨j17, j18⟩ := k17 _ hp
    rw [hp] at hq
    obtain ⟨hv, V, nn, TGq, hnn⟩ := hq
    refine ⟨hv, ?_⟩
    have z16 : h4.1 15 0 16 = 0 := TGq.1.2.1
    have y17 : h4.1 15 0 17 = -1 := j17.trans ((b3.1 15 0 17 (by omega)).trans i17)
    have y18 : h4.1 15 0 18 = -1 := j18.trans ((b3.1 15 0 18 (by omega)).trans i18)
    have hz : pzT sy pa bs (pzO sy pa bs) := q_pz hp
    have SG : sgG 3001 (pa, bs, lk, rt, sy, vis, []) := tx_prg mT lT hp
    have PI := pg_prg hp
    have hl : bs.length = pa.length := W.2.2.1
    have c4 : gTm h h4 := c3.tr ⟨fun g i j c => V.1 g i j (by omega), fun g i j c => V.2.1 g i j (by omega), V.2.2⟩
    have p4 : h4.1 15 0 2 = 0 := (V.1 15 0 2 (by omega)).trans z2
    have q4 : h4.1 15 0 0 = 0 := (V.1 15 0 0 (by omega)).trans y0
    have w4 : tW68 h4 := w3.mv (V.1 15 0 68 (by omega))
    have I4 : tIO S h4 := I3.mv (fun g j c => V.1 g 0 j (by omega))
    rw [tb_0 z16, mj_xi_ret, if_neg (by decide)]
    refine mP_xi (mP_mono (t_all (D := D) (by omega) TGq W (by omega) hz) ?_)
    rintro v5 h5 ⟨rfl, g5, rg, r5, m5⟩
    refine ⟨_, rfl, ?_⟩
    have c5 : gTm h h5 := c4.tr (gTm.e (fun g i j c => g5.1 g i j (by omega)) g5.2)
    have p5 : h5.1 15 0 2 = 0 := (g5.1 15 0 2 (by omega)).trans p4
    have q5 : h5.1 15 0 0 = 0 := (g5.1 15 0 0 (by omega)).trans q4
    have w5 : tW68 h5 := w4.mv (g5.1 15 0 68 (by omega))
    have I5 : tIO S h5 := I4.mv (fun g j c => g5.1 g 0 j (by omega))
    have u5 : h5.1 15 0 58 = 0 := (g5.1 15 0 58 (by omega)).trans y58
    have s16 : h5.1 15 0 16 = 0 := (g5.1 15 0 16 (by omega)).trans z16
    have s17 : h5.1 15 0 17 = -1 := (g5.1 15 0 17 (by omega)).trans y17
    have s18 : h5.1 15 0 18 = -1 := (g5.1 15 0 18 (by omega)).trans y18
    cases hf : fts sy (pzO sy pa bs) bs.length rt with
    | false =>
      have e : cmp (txL t n) = .inl (6, -1, -1) := by
        unfold cmp
        rw [hp]
        exact if_pos hf
      have ne : ∀ g i j, ¬ (g = 15 ∧ j = 16) → (mj_sI h5 15 0 16 6).1 g i j = h5.1 g i j := fun g i j c => by rw [mI_1, if_neg (by omega)]
      have e16 : (mj_sI h5 15 0 16 6).1 15 0 16 = 6 := by simp [mI_1]
      rw [if_neg (show ¬ ¬ bI false = 0 by decide), t_e114 (by rw [e16]; decide)]
      exact mP_ret (fin _ 6 (-1) (-1) (c5.tr (gTm.s (by omega))) ((ne 15 0 2 (by omega)).trans p5) ((ne 15 0 0 (by omega)).trans q5) (w5.mv (ne 15 0 68 (by omega))) ((ne 15 0 58 (by omega)).trans u5) ⟨e16, (ne 15 0 17 (by omega)).trans s17, (ne 15 0 18 (by omega)).trans s18⟩ (I5.mv (fun g j c => ne g 0 j (by omega))) e)
    | true =>
      rw [if_pos (show ¬ bI true = 0 by decide), q_319_114, tb_0 s16, mj_xi_ret, if_neg (by decide)]
      have U := ut_of TGq g5 r5 m5
      refine mP_xi (mP_mono (t_uses (D := D) (by omega) (by omega : nn ≤ 3400) W U (fun s hs => ?_) w5 (fun k B hB => (bd_body (pb := fun _ => 0) hl SG hz hf hB).2.1) (fun k B hB => (bd_body (pb := fun _ => 0) hl SG hz hf hB).2.2) (fun k x hx => (bd_root (pb := fun _ => 0) hl SG hf PI.2.2.2.2 hx).2)) ?_)
      · obtain ⟨-, -, s200, ts⟩ := TGq.1.2.2.2.1
        rw [g5.1 83 0 _ (by omega)]
        exact ((ts s (Or.inl hs)).2.2.1 (by have : sy.length ≤ 200 := s200; omega)).2.2
      rintro v6 h6 ⟨g6, O, o1, o67, rfl, w6⟩
      have eO : mnL (-1) O = mnL (-1) (offs (pa, bs, lk, rt, sy, vis, [])) := mnL_eq (fun u => (o1 u).trans (of_eq W u).symm) (fun u hu => ln_all SG ((o1 u).mp hu))
      refine ⟨_, rfl, ?_⟩
      rw [eO] at o67 ⊢
      have c6 : gTm h h6 := c5.tr (gTm.e (fun g i j c => g6.1 g i j (by omega)) g6.2)
      have p6 : h6.1 15 0 2 = 0 := (g6.1 15 0 2 (by omega)).trans p5
      have q6 : h6.1 15 0 0 = 0 := (g6.1 15 0 0 (by omega)).trans q5
      have I6 : tIO S h6 := I5.mv (fun g j c => g6.1 g 0 j (by omega))
      have u6 : h6.1 15 0 58 = 0 := (g6.1 15 0 58 (by omega)).trans u5
      have t16 : h6.1 15 0 16 = 0 := (g6.1 15 0 16 (by omega)).trans s16
      have t17 : h6.1 15 0 17 = -1 := (g6.1 15 0 17 (by omega)).trans s17
      have t18 : h6.1 15 0 18 = -1 := (g6.1 15 0 18 (by omega)).trans s18
      by_cases hm : mnL (-1) (offs (pa, bs, lk, rt, sy, vis, [])) = -1
      · rw [decide_eq_true hm, if_pos (show ¬ bI true = 0 by decide), q_319_141]
        have sH := q_sHy hp hf
        obtain ⟨rg0, v1, v2, v3, v4, v5, v6, v7, v8⟩ := U.2.2
        obtain ⟨m5a, m5b, m5c⟩ := m5
        have W' := W
        obtain ⟨o1', o2', o3', o4', o5', sg, s6, s7⟩ := W'
        dsimp only at o1' o2' o3' o4' o5' s6 s7
        obtain ⟨k1, k2⟩ := s7 _ (sX.rf _)
        have J : ∀ h7, gYl h6 h7 → tJ sy (pzO sy pa bs) pa bs rt lk.length (fun k => sg (2 * k)) h7 := by
          intro h7 f7
          refine tJ_of (by omega : nn ≤ 3400) W TGq g5 r5 ⟨m5a, m5b, m5c⟩ s6 ⟨fun g i j c => by rw [f7.1 g i j (by omega), g6.1 g i j (by omega)], f7.2.trans g6.2⟩ (fun k B hB => ⟨?_, k1 k B hB⟩) k2
          have q5' := sH.2.2.2.2.1 k (gt_lt hB)
          rw [hz k B hB] at q5'
          dsimp only at q5'
          omega
        have big := t_lp (D := D) (h0 := h6) (Q := fun v h' => gTm h h' ∧ h'.1 15 0 2 = 0 ∧ h'.1 15 0 0 = 0 ∧ tW68 h' ∧ tRs S v h' (cmp (txL t n))) (by omega) J (fun k x hx => ⟨?_, sg (2 * k + 1), k2 k x hx, s6.1 (2 * k + 1) (Or.inr ⟨k, rfl, by rw [hx]; exact fun z => by cases z⟩), ?_⟩) ?_ ?_ 6 0 h6 rfl (gYl.rf _) (fun p hp => absurd hp (Nat.not_lt_zero _))
        · exact big
        · have hk6 : k < 6 := by
            have b1 := PI.2.2.2.2 x (List.mem_of_find?_eq_some hx)
            have b2 := List.find?_some hx
            have b3' : x.1 = k := beq_iff_eq.mp b2
            omega
          have y := m5b k hk6
          rw [hx] at y
          obtain ⟨j, y1, y2, y3, y4⟩ := y
          have := tSu_b (p := k) (R := x) (h := h5) r5 s6 (fun k' B hB => ⟨k1 k' B hB, by obtain ⟨z, z1, z2', z3', -⟩ := m5a k' B hB; exact ⟨_, z3'⟩⟩) hx (k2 k x hx) ⟨_, y3⟩
          have s200 : sy.length ≤ 200 := o1'.1
          omega
        · have := (sH.2.2.2.2.2.2 k x hx).2
          omega
        · intro h7 f7 I7
          have ok : okTo (pa, bs, lk, rt, sy, vis, []) 6 := fun p hp6 x hx => (I7 p hp6 x hx).1
          have e : cmp (txL t n) = .inr (pa, bs, lk, rt, sy, vis, []) := by
            unfold cmp
            rw [hp]
            exact (if_neg (by rw [show fts _ (pzQ (pa, bs, lk, rt, sy, vis, [])) _ _ = true from hf]; decide)).trans ((if_neg (fun z => z hm)).trans (if_pos ok))
          obtain ⟨oB, -, -⟩ := b_all sH (q_lHy hp ok)
          have ev : ∀ g i j, ¬ ((g = 15 ∧ (j = 58 ∨ j = 61 ∨ j = 62 ∨ j = 67 ∨ j = 68 ∨ j = 70 ∨ j = 77 ∨ j = 79 ∨ j = 81 ∨ j = 89)) ∨ (111 ≤ g ∧ g ≤ 130) ∨ g = 83 ∨ g = 85) → (mj_sI h7 15 0 58 1).1 g i j = h5.1 g i j := fun g i j c => by rw [mI_1, if_neg (by omega), f7.1 g i j (by omega), g6.1 g i j (by omega)]
          have ev7 : ∀ g i j, ¬ (g = 15 ∧ j = 58) → (mj_sI h7 15 0 58 1).1 g i j = h7.1 g i j := fun g i j c => by rw [mI_1, if_neg (by omega)]
          have roots : ∀ k, k < 6 → match rt.find? (fun x => x.1 == k) with | none => (mj_sI h7 15 0 58 1).1 108 0 k = 0 | some _ => ∃ j, (mj_sI h7 15 0 58 1).1 108 0 k = nI j ∧ 1 ≤ j ∧ j < 2 ^ 31 := by
            intro k hk
            have y := m5b k hk
            rw [ev 108 0 k (by omega)]
            split
            · rename_i e'
              rw [e'] at y
              exact y
            · rename_i x e'
              rw [e'] at y
              obtain ⟨j, y1, y2, -⟩ := y
              have hr := r5.1 (2 * k + 1) (Or.inr ⟨k, rfl, by rw [e']; exact fun z => by cases z⟩)
              exact ⟨j, y1, by omega, by omega⟩
          have td : ∀ p x, p < 6 → rt.find? (fun x => x.1 == p) = some x → tTd sy (pzO sy pa bs) pa bs p x.2 (mj_sI h7 15 0 58 1) := fun p x hp6 hx => (I7 p hp6 x hx).mv (ev7 126 0 p (by omega)) (ev7 127 0 p (by omega)) (fun y hy => ev7 125 0 _ (by omega))
          have sX5 : ∀ h9 : mj_H, (∀ g i j, ¬ ((131 ≤ g ∧ g ≤ 157) ∨ (g = 15 ∧ (j = 110 ∨ j = 111 ∨ j = 113 ∨ j = 120 ∨ j = 121))) → h9.1 g i j = (mj_sI h7 15 0 58 1).1 g i j) → YG (gQ (pa, bs, lk, rt, sy, vis, [])) h9 ∧ YB (gQ (pa, bs, lk, rt, sy, vis, [])) (bQ (pa, bs, lk, rt, sy, vis, [])) h9 := by
            intro h9 q9
            refine ⟨⟨fun p hp6 => ?_, fun l hl' => ?_, ⟨?_, v4⟩, fun p hp6 hG y h6000 hy => ?_, ?_⟩, fun p hp6 hG => ?_⟩
            · have y := roots p hp6
              rw [q9 108 0 p (by omega)]
              constructor
              · intro hG
                obtain ⟨x, hx, ex⟩ := rt_of (rt := rt) (p := p) hG
                rw [hx] at y
                obtain ⟨j, y1, y2, y3⟩ := y
                exact ⟨j, y2, y3, y1⟩
              · intro hG
                have hn : rt.find? (fun x => x.1 == p) = none := Option.isNone_iff_eq_none.mp (Option.isSome_eq_false_iff.mp hG)
                rw [hn] at y
                exact y
            · have hl2 : l < lk.length := hl'
              obtain ⟨a1, a2, a3, a4, a5⟩ := v7 l lk[l] (List.getElem?_eq_getElem hl2)
              have ed : lk.getD l (0, 0) = lk[l] := by rw [List.getD_eq_getElem?_getD, List.getElem?_eq_getElem hl2]; rfl
              show h9.1 106 0 l = nI (lk.getD l (0, 0)).1 ∧ (lk.getD l (0, 0)).1 < 6 ∧ h9.1 107 0 l = nI (lk.getD l (0, 0)).2 ∧ (lk.getD l (0, 0)).2 < 6
              rw [ed, q9 106 0 l (by omega), q9 107 0 l (by omega), ev 106 0 l (by omega), ev 107 0 l (by omega)]
              exact ⟨a1, by omega, a2, by omega⟩
            · show h9.1 15 0 52 = nI lk.length
              rw [q9 15 0 52 (by omega), ev 15 0 52 (by omega)]
              exact v3
            · obtain ⟨x, hx, ex⟩ := rt_of (rt := rt) (p := p) hG
              have hy' : cdF (kX sy (pzO sy pa bs) pa bs (rtO rt p)) (lsO (kX sy (pzO sy pa bs) pa bs (rtO rt p))) y < 256 := hy
              show h9.1 125 0 (6000 * p + y) = nI (cdF (kX sy (pzO sy pa bs) pa bs (rtO rt p)) (lsO (kX sy (pzO sy pa bs) pa bs (rtO rt p))) y)
              rw [ex] at hy' ⊢
              rw [q9 125 0 _ (by omega)]
              exact (td p x hp6 hx).2.2.2 y hy' h6000
            · rw [q9 15 0 58 (by omega), mI_1, if_pos ⟨rfl, rfl, rfl⟩]
              decide
            · obtain ⟨x, hx, ex⟩ := rt_of (rt := rt) (p := p) hG
              obtain ⟨-, a2, a3, -⟩ := td p x hp6 hx
              have y := m5b p hp6
              rw [hx] at y
              obtain ⟨j, y1, y2, y3, y4⟩ := y
              obtain ⟨-, d1, v0, d2, d3, d4⟩ := y4 hp6
              have q8 := (sH.2.2.2.2.2.2 p x hx).2
              have ev0 : v0 = (mz sy (pzO sy pa bs) x.2 0).2 := d3.1 (by omega)
              rw [ev0] at d2
              show h9.1 126 0 p = nI (plS (lsO (kX sy (pzO sy pa bs) pa bs (rtO rt p))) (kAl sy (pzO sy pa bs) pa bs (rtO rt p)).length) ∧ h9.1 127 0 p = nI (plS (lsO (kX sy (pzO sy pa bs) pa bs (rtO rt p))) (kSt sy (pzO sy pa bs) pa bs bs.length)) ∧ ∃ sz dp, h9.1 109 0 p = nI sz ∧ h9.1 110 0 p = nI dp ∧ sz + dp + 3 = 1 + (mz sy (pzO sy pa bs) (rtO rt p) 0).1 + (mz sy (pzO sy pa bs) (rtO rt p) 0).2 + 3 ∧ 16 + dp + 3 = 16 + (mz sy (pzO sy pa bs) (rtO rt p) 0).2 + 3
              rw [ex, q9 126 0 p (by omega), q9 127 0 p (by omega), q9 109 0 p (by omega), q9 110 0 p (by omega), ev 109 0 p (by omega), ev 110 0 p (by omega)]
              exact ⟨a2, a3, _, _, d1, d2, rfl, rfl⟩
          obtain ⟨G8, B8'⟩ := sX5 _ (fun _ _ _ _ => rfl)
          have I8 : tIO S (mj_sI h7 15 0 58 1) := I5.mv (fun g j c => ev g 0 j (by omega))
          obtain ⟨h9, e9, Y9, F9⟩ := y_reset (d := D + 1) (S := S) oB I8 G8 B8'
          obtain ⟨G9, B9⟩ := sX5 h9 (fun g i j c => F9.1 g i j (by omega))
          have ct := t_cnt (D := D + 1) (rt := rt) (h := h9) (fun k hk => by
            have y := roots k hk
            rw [F9.1 108 0 k (by omega)]
            exact y) 6 0 rfl
          have ct' : mj_R mg (D + 2) mq_319 (212, [(2, vI 0), (1, vI 0), (0, vR 15 0)], [], h9) = some (.inl (some (vI (nI (nPr rt 6))), h9)) := ct
          have z7 : h7.1 15 0 16 = 0 := (f7.1 15 0 16 (by omega)).trans t16
          rw [q_319_185, tb_0 z7, mj_xi_ret, if_pos rfl, e9, mj_xv_ret, ct']
          have ev9 : ∀ j, j ≤ 100 → j ≠ 58 → ¬ (j = 70 ∨ j = 77 ∨ j = 79 ∨ j = 81 ∨ j = 89) → h9.1 15 0 j = h6.1 15 0 j := fun j h1 h2 h3' => by rw [F9.1 15 0 j (by omega), ev7 15 0 j (by omega), f7.1 15 0 j (by omega)]
          refine mP_ret ⟨?_, (ev9 2 (by omega) (by omega) (by omega)).trans p6, (ev9 0 (by omega) (by omega) (by omega)).trans q6, tW68.mv w6 (ev9 68 (by omega) (by omega) (by omega)), ?_⟩
          · refine ((c6.tr (gTm.e (fun g i j c => f7.1 g i j (by omega)) f7.2)).tr (gTm.s (by omega))).tr (gTm.e (fun g i j c => F9.1 g i j (by omega)) F9.2)
          · rw [e]
            exact ⟨rfl, ⟨(ev9 16 (by omega) (by omega) (by omega)).trans t16, (ev9 17 (by omega) (by omega) (by omega)).trans t17, (ev9 18 (by omega) (by omega) (by omega)).trans t18⟩, G9, B9, Y9, (ev9 28 (by omega) (by omega) (by omega)).trans ((g6.1 15 0 28 (by omega)).trans ((g5.1 15 0 28 (by omega)).trans TGq.1.2.2.2.1.2.1)), (ev9 46 (by omega) (by omega) (by omega)).trans ((g6.1 15 0 46 (by omega)).trans v2)⟩
        · intro h7 p x f7 hp6 hx hno
          have e : cmp (txL t n) = .inl (6, -1, -1) := by
            unfold cmp
            rw [hp]
            refine (if_neg (by rw [show fts _ (pzQ (pa, bs, lk, rt, sy, vis, [])) _ _ = true from hf]; decide)).trans ((if_neg (fun z => z hm)).trans (if_neg (fun z => hno (z p hp6 x hx))))
          have ne : ∀ g i j, ¬ ((g = 15 ∧ (j = 16 ∨ j = 70 ∨ j = 77 ∨ j = 79 ∨ j = 81 ∨ j = 89)) ∨ (116 ≤ g ∧ g ≤ 130) ∨ g = 85) → (mj_sI h7 15 0 16 6).1 g i j = h6.1 g i j := fun g i j c => by rw [mI_1, if_neg (by omega), f7.1 g i j (by omega)]
          have e16 : (mj_sI h7 15 0 16 6).1 15 0 16 = 6 := by simp [mI_1]
          exact fin _ 6 (-1) (-1) ((c6.tr (gTm.e (fun g i j c => f7.1 g i j (by omega)) f7.2)).tr (gTm.s (by omega))) ((ne 15 0 2 (by omega)).trans p6) ((ne 15 0 0 (by omega)).trans q6) (tW68.mv w6 (ne 15 0 68 (by omega))) ((ne 15 0 58 (by omega)).trans u6) ⟨e16, (ne 15 0 17 (by omega)).trans t17, (ne 15 0 18 (by omega)).trans t18⟩ (I6.mv (fun g j c => ne g 0 j (by omega))) e
      · rw [decide_eq_false hm, if_neg (show ¬ ¬ bI false = 0 by decide), q_319_141, o67]
        have e : cmp (txL t n) = .inl (5, mnL (-1) (offs (pa, bs, lk, rt, sy, vis, [])), -1) := by
          unfold cmp
          rw [hp]
          exact (if_neg (by rw [show fts _ (pzQ (pa, bs, lk, rt, sy, vis, [])) _ _ = true from hf]; decide)).trans (if_pos hm)
        have ne : ∀ g i j, ¬ (g = 15 ∧ (j = 16 ∨ j = 17)) → (mj_sI (mj_sI h6 15 0 16 5) 15 0 17 (mnL (-1) (offs (pa, bs, lk, rt, sy, vis, [])))).1 g i j = h6.1 g i j := fun g i j c => by rw [mI_1, if_neg (by omega), mI_1, if_neg (by omega)]
        have e16 : (mj_sI (mj_sI h6 15 0 16 5) 15 0 17 (mnL (-1) (offs (pa, bs, lk, rt, sy, vis, [])))).1 15 0 16 = 5 := by simp [mI_1]
        have e17 : (mj_sI (mj_sI h6 15 0 16 5) 15 0 17 (mnL (-1) (offs (pa, bs, lk, rt, sy, vis, [])))).1 15 0 17 = mnL (-1) (offs (pa, bs, lk, rt, sy, vis, [])) := by simp [mI_1]
        have t143 := t_e143 (d := D + 1) (k := 0) (by omega) (show ¬ (mj_sI (mj_sI h6 15 0 16 5) 15 0 17 (mnL (-1) (offs (pa, bs, lk, rt, sy, vis, [])))).1 15 0 16 = 0 by rw [e16]; decide)
        have t143' : mj_R mg (D + 2) mq_319 (143, [(1, vI 0), (0, vR 15 0)], [], mj_sI (mj_sI h6 15 0 16 5) 15 0 17 (mnL (-1) (offs (pa, bs, lk, rt, sy, vis, [])))) = _ := t143
        rw [t143']
        exact mP_ret (fin _ 5 _ (-1) ((c6.tr (gTm.s (by omega))).tr (gTm.s (by omega))) ((ne 15 0 2 (by omega)).trans p6) ((ne 15 0 0 (by omega)).trans q6) (tW68.mv w6 (ne 15 0 68 (by omega))) ((ne 15 0 58 (by omega)).trans u6) ⟨e16, e17, (ne 15 0 18 (by omega)).trans t18⟩ (I6.mv (fun g j c => ne g 0 j (by omega))) e)
