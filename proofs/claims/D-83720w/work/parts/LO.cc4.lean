/-! the component compiles: compile -/
/-- what is known of a text's program -/
theorem q_pz {L : List PL} {q : Pg} (h : prgS L = .inr q) : pzT q.2.2.2.2.1 q.1 q.2.1 (pzQ q) := by
  obtain ⟨⟨-, -, -, -, -, sg, -, i7⟩, -⟩ := wf_prg h
  refine pzO_T (pz_ex (fun k B hB => ?_))
  obtain ⟨f, n, v, l, -, -, -, -, -, -, b7⟩ := (i7 _ (sX.rf _)).1 k B hB
  exact ⟨_, _, _, _, b7⟩
theorem q_sHy {L : List PL} {pa : List (List Nat)} {bs : List Tm} {lk : List (Nat × Nat)} {rt : List (Nat × Tm)} {sy : List Sym} {vis : List Nat} {L' : List PL} (h : prgS L = .inr (pa, bs, lk, rt, sy, vis, L')) (hf : fts sy (pzO sy pa bs) bs.length rt = true) : sHy sy (pzO sy pa bs) pa bs lk rt := sHy_of h (q_pz h) hf
theorem q_lHy {L : List PL} {pa : List (List Nat)} {bs : List Tm} {lk : List (Nat × Nat)} {rt : List (Nat × Tm)} {sy : List Sym} {vis : List Nat} {L' : List PL} (h : prgS L = .inr (pa, bs, lk, rt, sy, vis, L')) (ho : okTo (pa, bs, lk, rt, sy, vis, L') 6) : lHy sy (pzO sy pa bs) pa bs rt (lsQ (pa, bs, lk, rt, sy, vis, L')) := by
  intro p x hx
  obtain ⟨-, -, -, -, j5⟩ := pg_prg h
  dsimp only at j5
  have hp : p ≤ 5 := by
    have h1 := j5 x (List.mem_of_find?_eq_some hx)
    have h2 := List.find?_some hx
    have h3 : x.1 = p := beq_iff_eq.mp h2
    omega
  have er : rtO rt p = x.2 := by unfold rtO; rw [hx]
  have o := ho p (by omega) x hx
  obtain ⟨⟨-, -, i3, -, -, sg, i6, i7⟩, -⟩ := wf_prg h
  dsimp only at i3 i6 i7
  obtain ⟨k1, k2⟩ := i7 _ (sX.rf _)
  have el : lsQ (pa, bs, lk, rt, sy, vis, L') p = lsO (kX sy (pzO sy pa bs) pa bs x.2) := by
    show lsO (kX sy (pzO sy pa bs) pa bs (rtO rt p)) = _
    rw [er]
  rw [el]
  exact ⟨o.1.2, o.2, wi_X (nl := lk.length) (sg := fun k => sg (2 * k)) i3 k1 (k2 p x hx) o.1.1⟩
theorem c_comp {t : Nat → Nat} {n D : Nat} {S : Sy} {G0 : PgS} {h : mj_H} (hT : CT t n h) (hS : RSy G0 S h) : mP (mj_R mg (D + 1275) mq_12 (0, [(0, vR 2 0)], [], h)) (fun v h' => gCm h h' ∧ h'.1 3 0 1 = 0 ∧ cRs S v h' (cmp (txL t n))) := by
  have hT1 : CT t n (mj_sI h 2 0 9 0) := ⟨hT.1, by rw [mI_1, if_neg (by omega)]; exact hT.2.1, fun j hj => by rw [mI_1, if_neg (by omega)]; exact hT.2.2 j hj⟩
  obtain ⟨mT, lT⟩ := txL_c hT.1
  have tell : ∀ (h2 : mj_H) (a b c : Int32), gCm h h2 → gSk h h2 → h2.1 3 0 1 = 0 → h2.1 2 0 9 = 0 → cmp (txL t n) = .inl (a, b, c) → gCm h (mj_sI (mj_sI (mj_sI h2 2 0 11 a) 2 0 12 b) 2 0 13 c) ∧ (mj_sI (mj_sI (mj_sI h2 2 0 11 a) 2 0 12 b) 2 0 13 c).1 3 0 1 = 0 ∧ cRs S (some (vI (-1))) (mj_sI (mj_sI (mj_sI h2 2 0 11 a) 2 0 12 b) 2 0 13 c) (cmp (txL t n)) := by
    intro h2 a b c g1 g2 z1 z2 e
    rw [e]
    refine ⟨((g1.tr (gCm.s (by omega))).tr (gCm.s (by omega))).tr (gCm.s (by omega)), ?_, rfl, ?_, ⟨?_, ?_, ?_⟩, fun G => hS.sk (((g2.tr (gSk.s (by omega))).tr (gSk.s (by omega))).tr (gSk.s (by omega)))⟩
    · simp [mI_1, z1]
    · simp [mI_1, z2]
    · simp [mI_1]
    · simp [mI_1]
    · simp [mI_1]
  rw [q_12_0]
  refine mP_xv (mP_mono (q_read (d := D + 3) hT1) ?_)
  rintro v h1 hq
  have c0 : gCm h (mj_sI h 2 0 9 0) := gCm.s (by omega)
  have s0 : gSk h (mj_sI h 2 0 9 0) := gSk.s (by omega)
  cases hp : prgS (txL t n) with
  | inl f =>
    rw [hp] at hq
    obtain ⟨hv, x1, x2, x3, x4, x5, gz, -⟩ := hq
    refine ⟨hv, ?_⟩
    have e : cmp (txL t n) = .inl (nI f.1, (flI f).1, (flI f).2) := by unfold cmp; rw [hp]
    rw [if_neg (show ¬ h1.1 5 0 2 ≤ 0 from by rw [x3]; exact nI_ge (a := 0) (by omega) (by omega)), q_11_0, mj_xv_ret, x3, x4, x5]
    refine mP_ret (tell _ _ _ _ ((c0.tr (gCm.z gz)).tr (gCm.s (by omega))) ((s0.tr (fun g i j c => gz.1 g i j (by omega))).tr (gSk.s (by omega))) (by simp [mI_1]) ?_ e)
    rw [mI_1, if_neg (by omega), gz.1 2 0 9 (by omega), mI_1, if_pos ⟨rfl, rfl, rfl⟩]
  | inr q =>
    obtain ⟨pa, bs, lk, rt, sy, vis, L'⟩ := q
    obtain ⟨W, hL⟩ := wf_prg hp
    dsimp only at hL
    subst hL
    rw [hp] at hq
    obtain ⟨hv, gz, np, PG, hnp⟩ := hq
    refine ⟨hv, ?_⟩
    have z52 : h1.1 5 0 2 = 0 := PG.1.2.1
    have hz : pzT sy pa bs (pzO sy pa bs) := q_pz hp
    have SG : sgG 3001 (pa, bs, lk, rt, sy, vis, []) := tx_prg mT lT hp
    have PI := pg_prg hp
    have hl : bs.length = pa.length := W.2.2.1
    have c1 : gCm h (mj_sI h1 3 0 1 0) := (c0.tr (gCm.z gz)).tr (gCm.s (by omega))
    have s1 : gSk h (mj_sI h1 3 0 1 0) := (s0.tr (fun g i j c => gz.1 g i j (by omega))).tr (gSk.s (by omega))
    have t1 : (mj_sI h1 3 0 1 0).1 3 0 1 = 0 := by simp [mI_1]
    have p1 : (mj_sI h1 3 0 1 0).1 2 0 9 = 0 := by rw [mI_1, if_neg (by omega), gz.1 2 0 9 (by omega), mI_1, if_pos ⟨rfl, rfl, rfl⟩]
    rw [if_pos (show h1.1 5 0 2 ≤ 0 from by rw [z52]; decide)]
    refine mP_xi (mP_mono (c_all (D := D + 1273) (by omega) (PG_0 PG) W (by omega) hz) ?_)
    rintro v2 h2 ⟨rfl, g2, rg, r2, m2⟩
    refine ⟨_, rfl, ?_⟩
    have c2 : gCm h h2 := c1.tr (gCm.e (fun g i j c => g2.1 g i j (by omega)) g2.2)
    have s2 : gSk h h2 := s1.tr (fun g i j c => g2.1 g i j (by omega))
    have t2 : h2.1 3 0 1 = 0 := (g2.1 3 0 1 (by omega)).trans t1
    have p2 : h2.1 2 0 9 = 0 := (g2.1 2 0 9 (by omega)).trans p1
    cases hf : fts sy (pzO sy pa bs) bs.length rt with
    | false =>
      have e : cmp (txL t n) = .inl (6, -1, -1) := by
        unfold cmp
        rw [hp]
        exact if_pos hf
      rw [if_neg (show ¬ ¬ bI false = 0 by decide), q_11_0, mj_xv_ret]
      exact mP_ret (tell h2 6 (-1) (-1) c2 s2 t2 p2 e)
    | true =>
      rw [if_pos (show ¬ bI true = 0 by decide)]
      have U := ug_of (PG_0 PG) g2 r2 m2
      refine mP_xi (mP_mono (u_look (D := D + 1273) (by omega) (by omega : np ≤ 3100) W U (fun k B hB => (bd_body (pb' := fun _ => 0) hl SG hz hf hB).1) (fun k x hx => (bd_root (pb' := fun _ => 0) hl SG hf PI.2.2.2.2 hx).1)) ?_)
      rintro v3 h3 ⟨g3, ub, O, o1, rfl⟩
      have eO : mnL (-1) O = mnL (-1) (offs (pa, bs, lk, rt, sy, vis, [])) := mnL_eq o1 (fun u hu => ln_all SG ((o1 u).mp hu))
      refine ⟨_, rfl, ?_⟩
      rw [eO]
      have c3 : gCm h h3 := c2.tr (gCm.e (fun g i j c => g3.1 g i j (by omega)) g3.2)
      have s3 : gSk h h3 := s2.tr (fun g i j c => g3.1 g i j (by omega))
      have t3 : h3.1 3 0 1 = 0 := (g3.1 3 0 1 (by omega)).trans t2
      have p3 : h3.1 2 0 9 = 0 := (g3.1 2 0 9 (by omega)).trans p2
      by_cases hm : mnL (-1) (offs (pa, bs, lk, rt, sy, vis, [])) = -1
      · rw [if_pos hm]
        have sH := q_sHy hp hf
        obtain ⟨w1, w2, w3, w4, w5, sg, w6, w7⟩ := W
        dsimp only at w1 w2 w3 w4 w5 w6 w7
        obtain ⟨k1, k2⟩ := w7 _ (sX.rf _)
        obtain ⟨y1, y2⟩ := SG sy (sX.rf _)
        dsimp only at y1 y2
        have lim : ∀ R : Tm, 1 + (mz sy (pzO sy pa bs) R 0).1 + (mz sy (pzO sy pa bs) R 0).2 + 3 ≤ 4000 → (mz sy (pzO sy pa bs) R 0).2 < 1000000 := fun R hR => by omega
        have m2' : PBm sy (pzO sy pa bs) h3 rg bs rt bs.length 6 := by
          obtain ⟨a1, a2, a3⟩ := m2
          have gk : ∀ lo hi, gK lo hi h2 h3 := fun lo hi => ⟨fun g i j c => g3.1 g i j (by omega), trivial, fun g i j _ => by rw [g3.2]⟩
          have gd : ∀ lo hi, gD lo hi h2 h3 := fun lo hi g i j c => g3.1 g i j (by omega)
          refine ⟨fun k B hB => ?_, fun k hk => ?_, fun k hk => ⟨(g3.1 41 0 k (by omega)).trans (a3 k hk).1, ?_⟩⟩
          · obtain ⟨x, b1, b2, b3⟩ := a1 k B hB
            have hr := r2.1 (2 * k) (Or.inl ⟨k, rfl, gt_lt hB⟩)
            exact ⟨x, (g3.1 38 0 k (by omega)).trans b1, rQ.mvK (Nat.le_refl _) (Nat.le_refl _) (gk _ _) _ _ _ b2, fun hk => cM.mv (by omega) (gd _ _) _ _ _ b2 (b3 hk)⟩
          · have y := a2 k hk
            split
            · rename_i e
              rw [e] at y
              exact (g3.1 46 0 k (by omega)).trans y
            · rename_i x e
              rw [e] at y
              obtain ⟨j, b1, b2, b3⟩ := y
              have hr := r2.1 (2 * k + 1) (Or.inr ⟨k, rfl, by rw [e]; exact fun z => by cases z⟩)
              exact ⟨j, (g3.1 46 0 k (by omega)).trans b1, rQ.mvK (Nat.le_refl _) (Nat.le_refl _) (gk _ _) _ _ _ b2, fun hk => cM.mv (by omega) (gd _ _) _ _ _ b2 (b3 hk)⟩
          · obtain ⟨v, b1, b2⟩ := (a3 k hk).2
            exact ⟨v, (g3.1 42 0 k (by omega)).trans b1, b2⟩
        have J3 : cpJ sy (pzO sy pa bs) pa bs rt lk.length (fun k => sg (2 * k)) h3 := by
          refine cp_of (by omega : np ≤ 3100) (U.mv g3) hl w4 r2 m2' (fun k B hB => ?_)
          obtain ⟨v, f, n', b1, b2, b3, b4, b5⟩ := y1 k B hB
          have q5 := sH.2.2.2.2.1 k (gt_lt hB)
          rw [hz k B hB] at q5
          dsimp only at q5
          exact ⟨by omega, tL_5900 (lv := 1) b4 (by omega), k1 k B hB, w6.1 (2 * k) (Or.inl ⟨k, rfl, gt_lt hB⟩)⟩
        have f0 : gXl h3 (mj_sI h3 2 0 10 0) := ⟨fun g i j c => by rw [mI_1, if_neg (by omega)], rfl⟩
        refine c_lp (D := D + 1272) (h0 := mj_sI h3 2 0 10 0) (by omega) (J3.mv f0.c) (fun k x hx => ?_) ?_ ?_ 6 0 _ rfl (gXl.rf _) ⟨by simp [mI_1, nPr]; rfl, fun p hp => absurd hp (Nat.not_lt_zero _)⟩
        · obtain ⟨v, lv, b1, b4, b5⟩ := y2 k x hx
          have q8 := (sH.2.2.2.2.2.2 k x hx).2
          exact ⟨sg (2 * k + 1), k2 k x hx, w6.1 (2 * k + 1) (Or.inr ⟨k, rfl, by rw [hx]; exact fun z => by cases z⟩), lim _ q8, tL_5900 b4 b5⟩
        · intro h4 f4 I4
          have f5 := f0.tr f4
          have ok : okTo (pa, bs, lk, rt, sy, vis, []) 6 := fun p hp6 x hx => (I4.2 p hp6 x hx).1
          have e : cmp (txL t n) = .inr (pa, bs, lk, rt, sy, vis, []) := by
            unfold cmp
            rw [hp]
            exact (if_neg (by rw [show fts _ (pzQ (pa, bs, lk, rt, sy, vis, [])) _ _ = true from hf]; decide)).trans ((if_neg (fun z => z hm)).trans (if_pos ok))
          obtain ⟨oB, -, -⟩ := b_all sH (q_lHy hp ok)
          obtain ⟨u1, u2, rg0, v1, v2, v3, v4, v5, v6, v7⟩ := U
          have ev : ∀ g i j, ¬ (g = 2 ∨ (g = 8 ∧ (j = 5 ∨ j = 7 ∨ j = 8)) ∨ (49 ≤ g ∧ g ≤ 57) ∨ g = 43 ∨ g = 10 ∨ g = 35 ∨ g = 36 ∨ (58 ≤ g ∧ g ≤ 66) ∨ g = 69 ∨ g = 13) → (mj_sI (mj_sI (mj_sI (mj_sI h4 2 0 11 0) 2 0 12 (-1)) 2 0 13 (-1)) 2 0 9 1).1 g i j = h2.1 g i j := by
            intro g i j c
            rw [mI_1, if_neg (by omega), mI_1, if_neg (by omega), mI_1, if_neg (by omega), mI_1, if_neg (by omega), f5.1 g i j (by omega), g3.1 g i j (by omega)]
          have rtx : ∀ p x, rt.find? (fun x => x.1 == p) = some x → rtO rt p = x.2 := fun p x hx => by unfold rtO; rw [hx]
          have sX5 : ∀ h5 : mj_H, (∀ g i j, ¬ ((g = 13 ∧ 8 ≤ j ∧ j ≤ 27) ∨ g = 70 ∨ g = 14 ∨ g = 71 ∨ g = 11 ∨ g = 12 ∨ g = 67 ∨ g = 68 ∨ (g = 2 ∧ (j = 14 ∨ j = 15))) → h5.1 g i j = (mj_sI (mj_sI (mj_sI (mj_sI h4 2 0 11 0) 2 0 12 (-1)) 2 0 13 (-1)) 2 0 9 1).1 g i j) → RG (gQ (pa, bs, lk, rt, sy, vis, [])) h5 ∧ RB (gQ (pa, bs, lk, rt, sy, vis, [])) (bQ (pa, bs, lk, rt, sy, vis, [])) h5 := by
            intro h5 q5
            have td : ∀ p x, p < 6 → rt.find? (fun x => x.1 == p) = some x → cTd sy (pzO sy pa bs) pa bs p x.2 h5 := fun p x hp6 hx => (I4.2 p hp6 x hx).mv (fun g j hg => by
              rw [q5 g p j (by omega), mI_1, if_neg (by omega), mI_1, if_neg (by omega), mI_1, if_neg (by omega), mI_1, if_neg (by omega)])
            refine ⟨⟨fun p hp6 => ?_, fun l hl => ?_, ⟨?_, v4⟩, fun p hp6 hG y _ hy => ?_, ?_⟩, fun p hp6 hG => ?_⟩
            · show h5.1 46 0 p = -1 ↔ (rt.find? (fun x => x.1 == p)).isSome = false
              rw [q5 46 0 p (by omega), ev 46 0 p (by omega)]
              have y := v7 p hp6
              cases hx : rt.find? (fun x => x.1 == p) with
              | none =>
                rw [hx] at y
                exact ⟨fun _ => rfl, fun _ => y⟩
              | some x =>
                rw [hx] at y
                obtain ⟨j, b1, b2⟩ := y
                obtain ⟨j', ej, -, j2⟩ := rQ_root b2
                have hr := v1.1 (2 * p + 1) (Or.inr ⟨p, rfl, by rw [hx]; exact fun z => by cases z⟩)
                exact ⟨fun z => absurd (b1.symm.trans z) (by rw [ej]; exact nI_m1 (by omega)), fun z => by cases z⟩
            · have hl' : l < lk.length := hl
              obtain ⟨a1, a2, a3, a4, a5⟩ := v6 l lk[l] (List.getElem?_eq_getElem hl')
              have ed : lk.getD l (0, 0) = lk[l] := by rw [List.getD_eq_getElem?_getD, List.getElem?_eq_getElem hl']; rfl
              show h5.1 44 0 l = nI (lk.getD l (0, 0)).1 ∧ (lk.getD l (0, 0)).1 < 6 ∧ h5.1 45 0 l = nI (lk.getD l (0, 0)).2 ∧ (lk.getD l (0, 0)).2 < 6
              rw [ed, q5 44 0 l (by omega), q5 45 0 l (by omega), ev 44 0 l (by omega), ev 45 0 l (by omega)]
              exact ⟨a1, by omega, a2, by omega⟩
            · show h5.1 4 0 25 = nI lk.length
              rw [q5 4 0 25 (by omega), ev 4 0 25 (by omega)]
              exact v3
            · obtain ⟨x, hx, ex⟩ := rt_of (rt := rt) (p := p) hG
              have hy' : cdF (kX sy (pzO sy pa bs) pa bs (rtO rt p)) (lsO (kX sy (pzO sy pa bs) pa bs (rtO rt p))) y < 256 := hy
              show h5.1 69 p y &&& 255 = nI (cdF (kX sy (pzO sy pa bs) pa bs (rtO rt p)) (lsO (kX sy (pzO sy pa bs) pa bs (rtO rt p))) y)
              rw [ex] at hy' ⊢
              exact (td p x hp6 hx).2.2.2.2.2 y hy'
            · rw [q5 2 0 9 (by omega), mI_1, if_pos ⟨rfl, rfl, rfl⟩]
              decide
            · obtain ⟨x, hx, ex⟩ := rt_of (rt := rt) (p := p) hG
              obtain ⟨-, a2, a3, a4, a5, -⟩ := td p x hp6 hx
              show h5.1 13 p 3 = nI (plS (lsO (kX sy (pzO sy pa bs) pa bs (rtO rt p))) (kAl sy (pzO sy pa bs) pa bs (rtO rt p)).length) ∧ h5.1 13 p 5 = nI (1 + (mz sy (pzO sy pa bs) (rtO rt p) 0).1 + (mz sy (pzO sy pa bs) (rtO rt p) 0).2 + 3) ∧ h5.1 13 p 4 = nI (plS (lsO (kX sy (pzO sy pa bs) pa bs (rtO rt p))) (kSt sy (pzO sy pa bs) pa bs bs.length)) ∧ h5.1 13 p 6 = nI (16 + (mz sy (pzO sy pa bs) (rtO rt p) 0).2 + 3)
              rw [ex]
              exact ⟨a2, a3, a4, a5⟩
          obtain ⟨R5, B5⟩ := sX5 _ (fun _ _ _ _ => rfl)
          have S5 : RSy (gQ (pa, bs, lk, rt, sy, vis, [])) S (mj_sI (mj_sI (mj_sI (mj_sI h4 2 0 11 0) 2 0 12 (-1)) 2 0 13 (-1)) 2 0 9 1) := hS.sk (((((s3.tr (fun g i j c => f5.1 g i j (by omega))).tr (gSk.s (by omega))).tr (gSk.s (by omega))).tr (gSk.s (by omega))).tr (gSk.s (by omega)))
          obtain ⟨h6, e6, S6, F6⟩ := k_begin (d := D + 1272) oB S5 R5 B5
          rw [q_12_106, if_pos (show (6 : Int32) ≤ nI 6 by decide), q_11_0, mj_xv_ret, e6, mj_xv_ret]
          obtain ⟨R6, B6⟩ := sX5 h6 (fun g i j c => F6.1 g i j (by omega))
          have e10 : h6.1 2 0 10 = nI (nPr rt 6) := by
            rw [F6.1 2 0 10 (by omega), mI_1, if_neg (by omega), mI_1, if_neg (by omega), mI_1, if_neg (by omega), mI_1, if_neg (by omega)]
            exact I4.1
          refine mP_ret ⟨?_, ?_, ?_⟩
          · refine ((((((c3.tr (gCm.e (fun g i j c => f5.1 g i j (by omega)) f5.2)).tr (gCm.s (by omega))).tr (gCm.s (by omega))).tr (gCm.s (by omega))).tr (gCm.s (by omega))).tr (gCm.e (fun g i j c => F6.1 g i j (by omega)) F6.2))
          · rw [F6.1 3 0 1 (by omega), mI_1, if_neg (by omega), mI_1, if_neg (by omega), mI_1, if_neg (by omega), mI_1, if_neg (by omega), f5.1 3 0 1 (by omega)]
            exact t3
          · rw [e]
            refine ⟨by rw [e10], ⟨?_, ?_, ?_⟩, R6, B6, S6, by rw [F6.1 4 0 14 (by omega), ev 4 0 14 (by omega)]; exact u1.1, by rw [F6.1 4 0 17 (by omega), ev 4 0 17 (by omega), v2, hl]⟩
            · rw [F6.1 2 0 11 (by omega)]; simp [mI_1]
            · rw [F6.1 2 0 12 (by omega)]; simp [mI_1]
            · rw [F6.1 2 0 13 (by omega)]; simp [mI_1]
        · intro h4 p x f4 hp6 hx hno
          have e : cmp (txL t n) = .inl (6, -1, -1) := by
            unfold cmp
            rw [hp]
            refine (if_neg (by rw [show fts _ (pzQ (pa, bs, lk, rt, sy, vis, [])) _ _ = true from hf]; decide)).trans ((if_neg (fun z => z hm)).trans (if_neg (fun z => hno (z p hp6 x hx))))
          have f5 := f0.tr f4
          exact tell h4 6 (-1) (-1) (c3.tr (gCm.e (fun g i j c => f5.1 g i j (by omega)) f5.2)) (s3.tr (fun g i j c => f5.1 g i j (by omega))) ((f5.1 3 0 1 (by omega)).trans t3) ((f5.1 2 0 9 (by omega)).trans p3) e
      · rw [if_neg hm, q_11_0, mj_xv_ret]
        have e : cmp (txL t n) = .inl (5, mnL (-1) (offs (pa, bs, lk, rt, sy, vis, [])), -1) := by
          unfold cmp
          rw [hp]
          exact (if_neg (by rw [show fts _ (pzQ (pa, bs, lk, rt, sy, vis, [])) _ _ = true from hf]; decide)).trans (if_pos hm)
        exact mP_ret (tell h3 5 _ (-1) c3 s3 t3 p3 e)
