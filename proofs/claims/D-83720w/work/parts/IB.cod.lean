/-! the component's system: how it stands, rounds -/
def eN (G : PgS) (S : Sy) (p : Nat) : Bool := G.1 p && !decide ((S.1 p).1 18 = 0)
def dN (G : PgS) (S : Sy) (p : Nat) : Bool := !G.1 p || !decide ((S.1 p).1 19 = 0)
def rnN (G : PgS) (S : Sy) (p : Nat) : Bool := G.1 p && !decide ((S.1 p).1 14 = 0)
def knN (S : Sy) (l : Nat) : Bool := !decide (S.2.1.2.1 l 5 = 0) || lGo S.2.1 l
section
variable {G : PgS} {S S' : Sy} {h0 h h' : mj_H} {d : Nat}
theorem k_o1 (a : RSy G S h) (g : RG G h) : ∀ (k p : Nat) (A R : Bool), p + k = 6 → mj_R mg (d + 1) mq_26 (10, [(3, vI (nI p)), (2, vI (bI R)), (1, vI (bI A)), (0, vR 2 0)], [], h) = if (List.range' p k).any (eN G S) = true then some (.inl (some (vI 3), h)) else mj_R mg (d + 1) mq_26 (95, [(3, vI (nI 0)), (2, vI (bI (R || (List.range' p k).any (rnN G S)))), (1, vI (bI (A && (List.range' p k).all (dN G S)))), (0, vR 2 0)], [], h) := by
  intro k
  induction k with
  | zero =>
    intro p A R hp
    rw [q_26_10, if_pos (show (6 : Int32) ≤ nI p from nI_le (a := 6) (b := p) (by omega) (by omega)), if_neg (show ¬ (List.range' p 0).any (eN G S) = true from fun z => by cases z), show List.range' p 0 = [] from rfl, List.any_nil, List.all_nil, Bool.or_false, Bool.and_true]
    rfl
  | succ k ih =>
    intro p A R hp
    have hp6 : p < 6 := by omega
    have i6 := in_n hp6 (show 6 < 2 ^ 31 by omega)
    rw [List.range'_succ, List.any_cons, List.any_cons, List.all_cons, q_26_10, if_neg (show ¬ (6 : Int32) ≤ nI p from nI_ge (a := p) (b := 6) (by omega) (by omega)), if_pos i6, nI_clamp (by omega)]
    cases hg : G.1 p with
    | false =>
      have e1 : eN G S p = false := by unfold eN; rw [hg]; rfl
      have e2 : rnN G S p = false := by unfold rnN; rw [hg]; rfl
      have e3 : dN G S p = true := by unfold dN; rw [hg]; rfl
      rw [if_pos ((g.1 p hp6).mpr hg), q_26_87, ← nI_succ, ih (p + 1) A R (by omega), e1, e2, e3, Bool.false_or, Bool.false_or, Bool.true_and]
    | true =>
      have np : ¬ h.1 46 0 p = -1 := fun z => by rw [(g.1 p hp6).mp z] at hg; cases hg
      have F := a.rf hp6 hg
      rw [if_neg np, if_pos i6, F.g 18 (by omega) (by omega)]
      by_cases c18 : (S.1 p).1 18 = 0
      · have e1 : eN G S p = false := by unfold eN; rw [decide_eq_true c18, hg]; rfl
        rw [if_pos c18, e1, Bool.false_or]
        have go : ∀ B : Bool, mj_R mg (d + 1) mq_26 (64, [(3, vI (nI p)), (2, vI (bI R)), (1, vI (bI A)), (0, vR 2 0)], [vI (bI B)], h) = mj_R mg (d + 1) mq_26 (10, [(3, vI (nI (p + 1))), (2, vI (bI (R || rnN G S p))), (1, vI (bI B)), (0, vR 2 0)], [], h) := by
          intro B
          rw [q_26_64, if_pos i6, nI_clamp (by omega), F.g 14 (by omega) (by omega)]
          cases R with
          | true => rw [if_pos (by decide), q_26_81, q_26_86, q_26_87_2, ← nI_succ, Bool.true_or]; rfl
          | false =>
            rw [if_neg (fun z => z (by decide)), Bool.false_or]
            by_cases c14 : (S.1 p).1 14 = 0
            · have e2 : rnN G S p = false := by unfold rnN; rw [decide_eq_true c14, hg]; rfl
              rw [if_pos c14, q_26_86, q_26_87_2, ← nI_succ, e2]; rfl
            · have e2 : rnN G S p = true := by unfold rnN; rw [decide_eq_false c14, hg]; rfl
              rw [if_neg c14, q_26_81, q_26_86, q_26_87_2, ← nI_succ, e2]; rfl
        have fin : ∀ B : Bool, B = (A && dN G S p) → mj_R mg (d + 1) mq_26 (64, [(3, vI (nI p)), (2, vI (bI R)), (1, vI (bI A)), (0, vR 2 0)], [vI (bI B)], h) = if (List.range' (p + 1) k).any (eN G S) = true then some (.inl (some (vI 3), h)) else mj_R mg (d + 1) mq_26 (95, [(3, vI (nI 0)), (2, vI (bI (R || (rnN G S p || (List.range' (p + 1) k).any (rnN G S))))), (1, vI (bI (A && (dN G S p && (List.range' (p + 1) k).all (dN G S))))), (0, vR 2 0)], [], h) := by
          intro B eB
          rw [go B, ih (p + 1) B _ (by omega), eB, Bool.or_assoc, Bool.and_assoc]
        cases A with
        | false =>
          rw [if_pos (by decide), q_26_63]
          exact fin false rfl
        | true =>
          rw [if_neg (by decide), if_pos i6, F.g 19 (by omega) (by omega)]
          by_cases c19 : (S.1 p).1 19 = 0
          · rw [if_pos c19, q_26_63]
            exact fin false (by unfold dN; rw [decide_eq_true c19, hg]; rfl)
          · rw [if_neg c19]
            exact fin true (by unfold dN; rw [decide_eq_false c19, hg]; rfl)
      · have e1 : eN G S p = true := by unfold eN; rw [decide_eq_false c18, hg]; rfl
        rw [if_neg c18, e1, Bool.true_or, if_pos rfl]
theorem k_o2 (a : RSy G S h) (g : RG G h) : ∀ (k l : Nat) (A R : Bool), l + k = G.2.2.2.1 → mj_R mg (d + 1) mq_26 (95, [(3, vI (nI l)), (2, vI (bI R)), (1, vI (bI A)), (0, vR 2 0)], [], h) = some (.inl (some (vI (if A = true then 1 else if (R || (List.range' l k).any (knN S)) = true then 0 else 2)), h)) := by
  have hn := g.2.2.1.2
  intro k
  induction k with
  | zero =>
    intro l A R hl
    rw [q_26_95, g.2.2.1.1, if_pos (nI_le (by omega) (by omega)), show List.range' l 0 = [] from rfl, List.any_nil, Bool.or_false]
    cases A with
    | true => rw [if_neg (show ¬ bI true = 0 by decide), q_26_163, if_pos rfl]
    | false =>
      rw [if_pos (show bI false = 0 from rfl), if_neg (show ¬ false = true by decide)]
      cases R with
      | true => rw [if_neg (show ¬ bI true = 0 by decide), q_26_163, if_pos rfl]
      | false => rw [if_pos (show bI false = 0 from rfl), q_26_163, if_neg (show ¬ false = true by decide)]
  | succ k ih =>
    intro l A R hl
    have hl2 : l < 12 := by omega
    have il := in_n hl2 (show 12 < 2 ^ 31 by omega)
    have l5 : h.1 12 l 5 = S.2.1.2.1 l 5 := a.2.1.2.1 l 5 hl2 (by omega)
    have go : ∀ B : Bool, B = (R || knN S l) → mj_R mg (d + 1) mq_26 (139, [(3, vI (nI l)), (2, vI (bI R)), (1, vI (bI A)), (0, vR 2 0)], [vI (bI B)], h) = some (.inl (some (vI (if A = true then 1 else if (R || (knN S l || (List.range' (l + 1) k).any (knN S))) = true then 0 else 2)), h)) := by
      intro B eB
      rw [q_26_139, ← nI_succ, ih (l + 1) A B (by omega), eB, Bool.or_assoc]
    rw [List.range'_succ, List.any_cons, q_26_95, g.2.2.1.1, if_neg (nI_ge (by omega) (by omega))]
    cases R with
    | true =>
      rw [if_pos (by decide), q_26_134]
      exact go true (by rw [Bool.true_or])
    | false =>
      rw [if_neg (fun z => z (by decide)), if_pos il, nI_clamp (by omega), l5]
      by_cases c5 : S.2.1.2.1 l 5 = 0
      · rw [if_neg (fun z => z c5), if_pos il, k_may a.2.1 hl2, mj_xi_ret]
        cases lg : lGo S.2.1 l with
        | false =>
          rw [if_pos (by decide)]
          exact go false (by unfold knN; rw [decide_eq_true c5, lg]; rfl)
        | true =>
          rw [if_neg (by decide), q_26_134]
          exact go true (by unfold knN; rw [lg, Bool.or_true, Bool.or_true])
      · rw [if_pos c5, q_26_134]
        exact go true (by unfold knN; rw [decide_eq_false c5]; rfl)
theorem k_out1 (a : RSy G S h) (g : RG G h) : mj_R mg (d + 1) mq_26 (0, [(0, vR 2 0)], [], h) = some (.inl (some (vI (sOut G S)), h)) := by
  have e1 : mj_R mg (d + 1) mq_26 (10, [(3, vI 0), (2, vI 0), (1, vI 1), (0, vR 2 0)], [], h) = _ := k_o1 (d := d) a g 6 0 true false rfl
  have er : sErr G S = (List.range' 0 6).any (eN G S) := rfl
  have ea : sAll G S = (List.range' 0 6).all (dN G S) := rfl
  have ey : sAny G S = ((List.range' 0 6).any (rnN G S) || (List.range' 0 G.2.2.2.1).any (knN S)) := by
    unfold sAny
    rw [List.range_eq_range' (n := 6), List.range_eq_range' (n := G.2.2.2.1)]
    rfl
  rw [q_26_0, k_must g, mj_xv_ret, e1]
  unfold sOut
  rw [er, ea, ey]
  by_cases c : (List.range' 0 6).any (eN G S) = true
  · rw [if_pos c, if_pos c]
  · rw [if_neg c, if_neg c, k_o2 (d := d) a g G.2.2.2.1 0 _ _ (Nat.zero_add _), Bool.false_or, Bool.true_and]
theorem sBl_lo (e6 : ∀ l, l < G.2.2.2.1 → G.2.1 l < 6 ∧ G.2.2.1 l < 6) : ∀ (k l : Nat) (S S' : Sy) (n m : Int32), l + k = G.2.2.2.1 → sStl G S → sBl G k l S n = some (m, S') → sStl G S' := by
  intro k
  induction k with
  | zero =>
    intro l S S' n m hl a e
    have e9 := Option.some.inj e
    cases e9
    exact a
  | succ k ih =>
    intro l S S' n m hl a e
    obtain ⟨⟨b, T⟩, t1, t2⟩ := Option.bind_eq_some_iff.mp e
    exact ih (l + 1) T S' _ m (by omega) (sBeat_lo a (e6 l (by omega)).1 (e6 l (by omega)).2 t1) t2
theorem sBa_lo (e6 : ∀ l, l < G.2.2.2.1 → G.2.1 l < 6 ∧ G.2.2.1 l < 6) {m : Int32} (a : sStl G S) (e : sBa G S = some (m, S')) : sStl G S' := by
  obtain ⟨⟨m', T⟩, t1, t2⟩ := Option.map_eq_some_iff.mp e
  cases t2
  have := sBl_lo e6 _ _ _ _ _ _ (Nat.zero_add _) a t1
  exact this
/-- a byte of each -/
theorem k_rd {x2 x1 : Int32} : ∀ (k p : Nat) (S S' : Sy) (h : mj_H), p + k = 6 → RSy G S h → RG G h → sStl G S → sRd G k p S = some S' → ∃ h', mj_R mg (d + 8) mq_25 (32, [(3, vI (nI p)), (2, vI x2), (0, vR 2 0), (1, vI x1)], [], h) = mj_R mg (d + 8) mq_25 (32, [(3, vI (nI 6)), (2, vI x2), (0, vR 2 0), (1, vI x1)], [], h') ∧ RSy G S' h' ∧ fSy h h' ∧ sStl G S' := by
  intro k
  induction k with
  | zero =>
    intro p S S' h hp a g st e
    have e9 := Option.some.inj e
    cases e9
    have : p = 6 := by omega
    subst this
    exact ⟨h, rfl, a, fSy.rf h, st⟩
  | succ k ih =>
    intro p S S' h hp a g st e
    have hp6 : p < 6 := by omega
    have i6 := in_n hp6 (show 6 < 2 ^ 31 by omega)
    obtain ⟨T, t1, t2⟩ := Option.bind_eq_some_iff.mp e
    have skip : T = S → ∃ h', mj_R mg (d + 8) mq_25 (72, [(3, vI (nI p)), (2, vI x2), (0, vR 2 0), (1, vI x1)], [], h) = mj_R mg (d + 8) mq_25 (32, [(3, vI (nI 6)), (2, vI x2), (0, vR 2 0), (1, vI x1)], [], h') ∧ RSy G S' h' ∧ fSy h h' ∧ sStl G S' := by
      intro eT
      subst eT
      obtain ⟨h2, q2, r⟩ := ih (p + 1) T S' h (by omega) a g st t2
      exact ⟨h2, by rw [q_25_72, ← nI_succ]; exact q2, r⟩
    rw [q_25_32, if_neg (show ¬ (6 : Int32) ≤ nI p from nI_ge (a := p) (b := 6) (by omega) (by omega)), if_pos i6, nI_clamp (by omega)]
    cases hg : G.1 p with
    | false =>
      rw [if_neg (fun z => by rw [hg] at z; cases z.1)] at t1
      rw [if_pos ((g.1 p hp6).mpr hg)]
      exact skip (Option.some.inj t1).symm
    | true =>
      have np : ¬ h.1 46 0 p = -1 := fun z => by rw [(g.1 p hp6).mp z] at hg; cases hg
      rw [if_neg np, if_pos i6, (a.rf hp6 hg).g 14 (by omega) (by omega)]
      by_cases c : (S.1 p).1 14 = 0
      · rw [if_neg (fun z => z.2 c)] at t1
        rw [if_pos c]
        exact skip (Option.some.inj t1).symm
      · rw [if_pos ⟨hg, c⟩] at t1
        have st' := sStep_lo st hp6 hg t1
        obtain ⟨⟨s1, w1⟩, t3, t4⟩ := Option.map_eq_some_iff.mp t1
        subst t4
        obtain ⟨h1, q1, a1⟩ := k_step (d := d) (a.rs hp6 hg) (st p hp6 hg).1 (g.2.2.2.1 p hp6 hg) t3
        obtain ⟨z1, z2⟩ := a.upW a1
        obtain ⟨h2, q2, r1, r2, r3⟩ := ih (p + 1) _ S' h1 (by omega) z1 (g.mv z2) st' t2
        refine ⟨h2, ?_, r1, z2.tr r2, r3⟩
        rw [if_neg c, if_pos i6, q1, mj_xv_ret, q_25_72, ← nI_succ]
        exact q2
/-- a round -/
theorem k_rnd {x2 x1 m : Int32} {T : Sy} (a : RSy G S h) (g : RG G h) (st : sStl G S) (e : sRd G 6 0 S = some T) (e2 : sBa G T = some (m, S')) : ∃ h', mj_R mg (d + 8) mq_25 (32, [(3, vI 0), (2, vI x2), (0, vR 2 0), (1, vI x1)], [], h) = mj_R mg (d + 8) mq_25 (18, [(2, vI (x2 + 1)), (3, vI (nI 6)), (0, vR 2 0), (1, vI x1)], [], h') ∧ RSy G S' h' ∧ fSy h h' ∧ sStl G S' := by
  obtain ⟨h1, q1, a1, f1, s1⟩ := k_rd (d := d) (x2 := x2) (x1 := x1) 6 0 S T h rfl a g st e
  have q1 : mj_R mg (d + 8) mq_25 (32, [(3, vI 0), (2, vI x2), (0, vR 2 0), (1, vI x1)], [], h) = _ := q1
  obtain ⟨h2, q2, a2, f2⟩ := k_ba (d := d + 2) a1 (g.mv f1) e2
  refine ⟨h2, ?_, a2, f1.tr f2, sBa_lo (fun l hl => ⟨(g.2.1 l hl).2.1, (g.2.1 l hl).2.2.2⟩) s1 e2⟩
  rw [q1, q_25_32, if_pos (show (6 : Int32) ≤ nI 6 by decide), q2, mj_xi_ret]
theorem k_rs2 {x3 : Int32} : ∀ (k j : Nat) (S S' : Sy) (h : mj_H) (n m : Int32), j + k < 2 ^ 31 → n = nI j → RSy G S h → RG G h → sStl G S → sRs G k S n = some (m, S') → ∃ h', mj_R mg (d + 8) mq_25 (18, [(2, vI n), (3, vI x3), (0, vR 2 0), (1, vI (nI (j + k)))], [], h) = some (.inl (some (vI m), h')) ∧ RSy G S' h' ∧ fSy h h' := by
  intro k
  induction k generalizing x3 with
  | zero =>
    intro j S S' h n m hj hn a g st e
    have e9 := Option.some.inj e
    cases e9
    rw [hn, q_25_18_2, if_pos (nI_le (by omega) (by omega)), q_25_89_2]
    exact ⟨h, rfl, a, fSy.rf h⟩
  | succ k ih =>
    intro j S S' h n m hj hn a g st e
    rw [hn, q_25_18_2, if_neg (nI_ge (by omega) (by omega)), k_out1 (d := d + 6) a g, mj_xi_ret]
    simp only [sRs] at e
    by_cases c : ¬ sOut G S = 0
    · rw [if_pos c] at e
      have e9 := Option.some.inj e
      cases e9
      rw [if_pos c, q_25_89_2, hn]
      exact ⟨h, rfl, a, fSy.rf h⟩
    · rw [if_neg c] at e
      obtain ⟨T, t1, t2⟩ := Option.bind_eq_some_iff.mp e
      obtain ⟨⟨b, U⟩, t3, t4⟩ := Option.bind_eq_some_iff.mp t2
      obtain ⟨h1, q1, a1, f1, s1⟩ := k_rnd (d := d) (x2 := nI j) (x1 := nI (j + (k + 1))) a g st t1 t3
      obtain ⟨h2, q2, a2, f2⟩ := ih (x3 := nI 6) (j + 1) U S' h1 (n + 1) m (by omega) (by rw [hn, nI_succ]) a1 (g.mv f1) s1 t4
      refine ⟨h2, ?_, a2, f1.tr f2⟩
      rw [if_neg c, q1, ← hn, show j + (k + 1) = j + 1 + k by omega]
      exact q2
theorem k_rs1 : ∀ (k j : Nat) (S S' : Sy) (h : mj_H) (n m : Int32), j + k < 2 ^ 31 → n = nI j → RSy G S h → RG G h → sStl G S → sRs G k S n = some (m, S') → ∃ h', mj_R mg (d + 8) mq_25 (18, [(2, vI n), (0, vR 2 0), (1, vI (nI (j + k)))], [], h) = some (.inl (some (vI m), h')) ∧ RSy G S' h' ∧ fSy h h' := by
  intro k
  cases k with
  | zero =>
    intro j S S' h n m hj hn a g st e
    have e9 := Option.some.inj e
    cases e9
    rw [hn, q_25_18, if_pos (nI_le (by omega) (by omega)), q_25_89]
    exact ⟨h, rfl, a, fSy.rf h⟩
  | succ k =>
    intro j S S' h n m hj hn a g st e
    rw [hn, q_25_18, if_neg (nI_ge (by omega) (by omega)), k_out1 (d := d + 6) a g, mj_xi_ret]
    simp only [sRs] at e
    by_cases c : ¬ sOut G S = 0
    · rw [if_pos c] at e
      have e9 := Option.some.inj e
      cases e9
      rw [if_pos c, q_25_89, hn]
      exact ⟨h, rfl, a, fSy.rf h⟩
    · rw [if_neg c] at e
      obtain ⟨T, t1, t2⟩ := Option.bind_eq_some_iff.mp e
      obtain ⟨⟨b, U⟩, t3, t4⟩ := Option.bind_eq_some_iff.mp t2
      obtain ⟨h1, q1, a1, f1, s1⟩ := k_rnd (d := d) (x2 := nI j) (x1 := nI (j + (k + 1))) a g st t1 t3
      obtain ⟨h2, q2, a2, f2⟩ := k_rs2 (d := d) (x3 := nI 6) k (j + 1) U S' h1 (n + 1) m (by omega) (by rw [hn, nI_succ]) a1 (g.mv f1) s1 t4
      refine ⟨h2, ?_, a2, f1.tr f2⟩
      rw [if_neg c, q1, ← hn, show j + (k + 1) = j + 1 + k by omega]
      exact q2
/-- a key comes -/
theorem RW.giv {w : Wd} {v : Int32} (a : RW w h) (hi : mj_in (w.1 1) 200) : RW (wGiv w v) (mj_sI (mj_sI h 67 0 (w.1 1).toNatClampNeg v) 11 0 1 (w.1 1 + 1)) := by
  obtain ⟨b1, b2, b3, b4⟩ := a
  refine ⟨fun t ht => ?_, fun m t hl ht => by rw [mI_1, if_neg (by omega), mI_1, if_neg (by omega)]; exact b2 m t hl ht, fun x hx => ?_, fun x hx => by rw [mI_1, if_neg (by omega), mI_1, if_neg (by omega)]; exact b4 x hx⟩
  · show _ = if t = 1 then _ else _
    rw [mI_1]
    by_cases e : t = 1
    · rw [if_pos ⟨rfl, rfl, e⟩, if_pos e]
    · rw [if_neg (fun z => e z.2.2), if_neg e, mI_1, if_neg (by omega)]; exact b1 t ht
  · show _ = if x = _ then _ else _
    rw [mI_1, if_neg (by omega), mI_1]
    by_cases e : x = (w.1 1).toNatClampNeg
    · rw [if_pos ⟨rfl, rfl, e⟩, if_pos e]
    · rw [if_neg (fun z => e z.2.2), if_neg e]; exact b3 x hx
theorem RW.ho2 {w : Wd} {v : Int32} (a : RW w h) : RW (wH w 2 v) (mj_sI h 11 0 2 v) := by
  obtain ⟨b1, b2, b3, b4⟩ := a
  refine ⟨fun t ht => ?_, fun m t hl ht => by rw [mI_1, if_neg (by omega)]; exact b2 m t hl ht, fun x hx => by rw [mI_1, if_neg (by omega)]; exact b3 x hx, fun x hx => by rw [mI_1, if_neg (by omega)]; exact b4 x hx⟩
  show _ = if t = 2 then _ else _
  rw [mI_1]
  by_cases e : t = 2
  · rw [if_pos ⟨rfl, rfl, e⟩, if_pos e]
  · rw [if_neg (fun z => e z.2.2), if_neg e]; exact b1 t ht
theorem k_inp {v : Int32} (a : RSy G S h) (g : RG G h) (ne : ¬ S.2.1.1 1 = 200) (e : sInp G S v = some S') : ∃ h', mj_R mg (d + 4) mq_20 (0, [(0, vR 2 0), (1, vI v)], [], h) = some (.inl (some (vI (S.2.1.1 1 + 1)), h')) ∧ RSy G S' h' ∧ fSy h h' := by
  have h1 : h.1 11 0 1 = S.2.1.1 1 := a.2.1.1 1 (by omega)
  have i0 : mj_in 0 6 := by decide
  have c0 : (0 : Int32).toNatClampNeg = 0 := by decide
  unfold sInp at e
  by_cases c : mj_in (S.2.1.1 1) 200
  · rw [if_pos c] at e
    rw [q_20_0, k_must g, mj_xv_ret, h1, if_pos ne, if_pos c, if_pos i0, c0]
    have B := a.2.1.giv (v := v) c
    have A := a.wd B (fun g i j c => by rw [mI_1, if_neg (by omega), mI_1, if_neg (by omega)])
    have F : fSy h (mj_sI (mj_sI h 67 0 (S.2.1.1 1).toNatClampNeg v) 11 0 1 (S.2.1.1 1 + 1)) := ⟨fun g i j c => by rw [mI_1, if_neg (by omega), mI_1, if_neg (by omega)], rfl⟩
    have fin : ∀ (T : Sy) (h2 : mj_H), RSy G T h2 → T.2.1.1 1 = S.2.1.1 1 + 1 → fSy h h2 → ∃ h', mj_R mg (d + 4) mq_20 (104, [(0, vR 2 0), (1, vI v)], [], h2) = some (.inl (some (vI (S.2.1.1 1 + 1)), h')) ∧ RSy G T h' ∧ fSy h h' := by
      intro T h2 aT eT fT
      have : h2.1 11 0 1 = S.2.1.1 1 + 1 := (aT.2.1.1 1 (by omega)).trans eT
      rw [q_20_104, this]
      exact ⟨h2, rfl, aT, fT⟩
    by_cases cp : G.1 0 = true
    · rw [if_pos cp] at e
      obtain ⟨⟨b0, s1⟩, t1, t2⟩ := Option.bind_eq_some_iff.mp e
      have np : ¬ h.1 46 0 0 = -1 := fun z => by rw [(g.1 0 (by omega)).mp z] at cp; cases cp
      obtain ⟨h2, q2, a2⟩ := k_come (d := d) (c := 13) (v := v) (A.rf (p := 0) (by omega) cp) (by omega) t1
      have q2 : mj_R mg (d + 3) mq_191 (0, [(0, vR 13 0), (1, vI 13), (2, vI v)], [], _) = _ := q2
      rw [if_neg np, if_pos i0, q2, mj_xi_ret]
      have A2 := (A.rs (p := 0) (by omega) cp).up a2
      cases b0 with
      | false =>
        rw [if_neg (show ¬ false = true by decide)] at t2
        obtain ⟨s2, t3, t4⟩ := Option.map_eq_some_iff.mp t2
        subst t4
        obtain ⟨h3, q3, a3⟩ := k_settle (d := d + 2) a2 t3
        obtain ⟨z1, z2⟩ := A.up (by omega) cp a3
        rw [if_pos (by decide), q_20_95, if_pos i0, c0, q3, mj_xv_ret]
        exact fin _ h3 z1 rfl (F.tr z2)
      | true =>
        rw [if_pos rfl] at t2
        by_cases ct : S.2.1.1 2 = S.2.1.1 1
        · rw [if_pos ct] at t2
          obtain ⟨s2, t3, t4⟩ := Option.map_eq_some_iff.mp t2
          subst t4
          have k2 : h2.1 11 0 2 = S.2.1.1 2 := (A2.2.1.1 2 (by omega)).trans rfl
          have A3 : RS 0 (mj_sI (mj_sI h 67 0 (S.2.1.1 1).toNatClampNeg v) 11 0 1 (S.2.1.1 1 + 1)) s1 (wH (wGiv S.2.1 v) 2 (S.2.1.1 2 + 1)) (mj_sI h2 11 0 2 (S.2.1.1 2 + 1)) := A2.ho 2 _ (Or.inl rfl)
          obtain ⟨h3, q3, a3⟩ := k_settle (d := d + 2) A3.f t3
          obtain ⟨z1, z2⟩ := A.upW (A3.up a3)
          rw [if_neg (by decide), k2, q_20_95, if_pos i0, c0, q3, mj_xv_ret]
          exact fin _ h3 z1 rfl (F.tr z2)
        · rw [if_neg ct] at t2; cases t2
    · rw [if_neg cp] at e
      have e9 := Option.some.inj e
      subst e9
      have np : h.1 46 0 0 = -1 := (g.1 0 (by omega)).mpr (by cases z : G.1 0 with | false => rfl | true => exact (cp z).elim)
      rw [if_pos np]
      exact fin _ _ A rfl F
  · rw [if_neg c] at e; cases e
end
