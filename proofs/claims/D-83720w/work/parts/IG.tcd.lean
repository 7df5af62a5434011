/-! the twin's system: loops -/
section
variable {G : PgS} {S S' : Sy} {h0 h h' : mj_H} {d p : Nat} {bt pk : Int32} {s s1 s' : Cr} {w w' : Wd}
theorem sBeat_22 {l : Nat} {b : Bool} (e : sBeat G S l = some (b, S')) : S'.2.2 = S.2.2 := by
  unfold sBeat at e
  split at e
  · split at e
    · split at e
      · split at e
        · obtain ⟨s2, t1, t4⟩ := Option.map_eq_some_iff.mp e
          cases t4
          rfl
        · cases e
      · split at e
        · have e9 := Option.some.inj e
          cases e9
          rfl
        · cases e
    · cases e
  · split at e
    · split at e
      · split at e
        · obtain ⟨⟨b0, s1⟩, t1, t2⟩ := Option.bind_eq_some_iff.mp e
          obtain ⟨s2, t3, t4⟩ := Option.map_eq_some_iff.mp t2
          cases t4
          rfl
        · have e9 := Option.some.inj e
          cases e9
          rfl
      · split at e
        · have e9 := Option.some.inj e
          cases e9
          rfl
        · cases e
    · have e9 := Option.some.inj e
      cases e9
      rfl
theorem y_bl (e6 : ∀ l, l < G.2.2.2.1 → G.2.1 l < 6 ∧ G.2.2.1 l < 6) {P : Int32} : ∀ (k l : Nat) (S S' : Sy) (h : mj_H) (n m : Int32), l + k = G.2.2.2.1 → YSy G S bt (P + n) h → YG G h → sStl G S → sBl G k l S n = some (m, S') → ∃ h', mj_R mg (d + 7) mq_347 (14, [(2, vI (nI l)), (1, vI n), (0, vR 15 0)], [], h) = some (.inl (some (vI m), h')) ∧ YSy G S' bt (P + m) h' ∧ yFS h h' ∧ S'.2.2 = S.2.2 := by
  intro k
  induction k with
  | zero =>
    intro l S S' h n m hl a g st e
    have e9 := Option.some.inj e
    cases e9
    rw [q_347_14, g.2.2.1.1, if_pos (nI_le (by omega) (by have := g.2.2.1.2; omega))]
    exact ⟨h, rfl, a, yFS.rf h, rfl⟩
  | succ k ih =>
    intro l S S' h n m hl a g st e
    obtain ⟨⟨b, T⟩, t1, t2⟩ := Option.bind_eq_some_iff.mp e
    obtain ⟨h1, q1, a1, f1⟩ := y_beat (d := d) a g st (by omega) t1
    have st' := sBeat_lo st (e6 l (by omega)).1 (e6 l (by omega)).2 t1
    rw [Int32.add_assoc] at a1
    obtain ⟨h2, q2, a2, f2, z⟩ := ih (l + 1) T S' h1 (n + bI b) m (by omega) a1 (g.mv f1) st' t2
    refine ⟨h2, ?_, a2, f1.tr f2, z.trans (sBeat_22 t1)⟩
    rw [q_347_14, g.2.2.1.1, if_neg (nI_ge (by omega) (by have := g.2.2.1.2; omega)), q1, mj_xi_ret]
    cases b with
    | false =>
      rw [if_pos (by decide), q_347_37, ← nI_succ]
      rw [show n + bI false = n from Int32.add_zero n] at q2
      exact q2
    | true => rw [if_neg (by decide), q_347_37, ← nI_succ]; exact q2
/-- the system and what it has counted -/
def YT (G : PgS) (S : Sy) (h : mj_H) : Prop := YSy G S S.2.2.1 S.2.2.2 h
theorem YSy.bts (a : YSy G S bt pk h) (v : Int32) : YSy G S v pk (mj_sI h 15 0 120 v) := by
  obtain ⟨a1, a2, a3, a4, a5⟩ := a
  refine ⟨fun q hq hg => ⟨(a1 q hq hg).1.mv (fun g i j c => by rw [mI_1, if_neg (by omega)]), (a1 q hq hg).2⟩, fun q hq hg => ?_, (by
    obtain ⟨⟨b1, b2, b3⟩, bb, bc, be⟩ := a3
    have cc : ∀ g j, ¬ (g = 15 ∧ j = 120) → (mj_sI h 15 0 120 v).1 g 0 j = h.1 g 0 j := fun g j z => by rw [mI_1, if_neg (by omega)]
    refine ⟨⟨(cc _ _ (by omega)).trans b1, (cc _ _ (by omega)).trans b2, (cc _ _ (by omega)).trans b3⟩, fun m hm => ?_, fun x hx => (cc _ _ (by omega)).trans (bc x hx), fun x hx => (cc _ _ (by omega)).trans (be x hx)⟩
    obtain ⟨m1, m2, m3, m4, m5, m6⟩ := bb m hm
    exact ⟨(cc _ _ (by omega)).trans m1, fun z => (cc _ _ (by omega)).trans (m2 z), (cc _ _ (by omega)).trans m3, (cc _ _ (by omega)).trans m4, (cc _ _ (by omega)).trans m5, fun z => (cc _ _ (by omega)).trans (m6 z)⟩), mI_same, by rw [mI_1, if_neg (by omega)]; exact a5⟩
  obtain ⟨c1, c2⟩ := a2 q hq hg
  exact ⟨by rw [mI_1, if_neg (by omega)]; exact c1, fun x hx => by rw [mI_1, if_neg (by omega)]; exact c2 x hx⟩
theorem y_ba {m : Int32} (a : YT G S h) (g : YG G h) (st : sStl G S) (e : sBa G S = some (m, S')) : ∃ h', mj_R mg (d + 7) mq_347 (0, [(0, vR 15 0)], [], h) = some (.inl (some (vI m), h')) ∧ YT G S' h' ∧ yFS h h' := by
  obtain ⟨⟨m', T⟩, t1, t2⟩ := Option.map_eq_some_iff.mp e
  cases t2
  have F : yFS h (mj_sI h 15 0 120 (S.2.2.1 + 1)) := ⟨fun g i j c => by rw [mI_1, if_neg (by omega)], rfl⟩
  have B := YSy.bts a (S.2.2.1 + 1)
  have B : YSy G S (S.2.2.1 + 1) (S.2.2.2 + 0) (mj_sI h 15 0 120 (S.2.2.1 + 1)) := by rw [Int32.add_zero]; exact B
  obtain ⟨h1, q1, a1, f1, z⟩ := y_bl (d := d) (fun l hl => ⟨(g.2.1 l hl).2.1, (g.2.1 l hl).2.2.2⟩) G.2.2.2.1 0 S T _ 0 m' (Nat.zero_add _) B (g.mv F) st t1
  have q1 : mj_R mg (d + 7) mq_347 (14, [(2, vI 0), (1, vI 0), (0, vR 15 0)], [], _) = _ := q1
  refine ⟨h1, by rw [q_347_0, show h.1 15 0 120 = S.2.2.1 from a.2.2.2.1]; exact q1, ?_, F.tr f1⟩
  obtain ⟨b1, b2, b3, b4, b5⟩ := a1
  refine ⟨b1, b2, b3, ?_, ?_⟩
  · show h1.1 15 0 120 = T.2.2.1 + 1
    rw [z]; exact b4
  · show h1.1 15 0 121 = T.2.2.2 + m'
    rw [z]; exact b5
theorem y_bn : ∀ (k j : Nat) (S S' : Sy) (h : mj_H) (n m : Int32), j + k < 2 ^ 31 → YT G S h → YG G h → sStl G S → sBn G k S n = some (m, S') → ∃ h', mj_R mg (d + 8) mq_353 (49, [(3, vI (nI j)), (2, vI n), (0, vR 15 0), (1, vI (nI (j + k)))], [], h) = some (.inl (some (vI m), h')) ∧ YT G S' h' ∧ yFS h h' := by
  intro k
  induction k with
  | zero =>
    intro j S S' h n m hj a g st e
    have e9 := Option.some.inj e
    cases e9
    rw [q_353_49, if_pos (nI_le (by omega) (by omega))]
    exact ⟨h, rfl, a, yFS.rf h⟩
  | succ k ih =>
    intro j S S' h n m hj a g st e
    obtain ⟨⟨b, T⟩, t1, t2⟩ := Option.bind_eq_some_iff.mp e
    obtain ⟨h1, q1, a1, f1⟩ := y_ba (d := d) a g st t1
    have st' := sBa_lo (fun l hl => ⟨(g.2.1 l hl).2.1, (g.2.1 l hl).2.2.2⟩) st t1
    obtain ⟨h2, q2, a2, f2⟩ := ih (j + 1) T S' h1 (n + b) m (by omega) a1 (g.mv f1) st' t2
    refine ⟨h2, ?_, a2, f1.tr f2⟩
    rw [q_353_49, if_neg (nI_ge (by omega) (by omega)), q1, mj_xi_ret, ← nI_succ]
    rw [show j + (k + 1) = j + 1 + k by omega]
    exact q2
theorem y_has1 (g : YG G h) (hp : p < 6) (hg : G.1 p = true) : ¬ h.1 108 0 p = 0 ∧ ¬ h.1 108 0 p ≤ 0 := by
  obtain ⟨n, n1, n2, n3⟩ := (g.1 p hp).1 hg
  rw [n3]
  exact ⟨nI_ne0 n1 n2, n_le0 n1 n2⟩
/-- a byte, in the system -/
theorem y_sstep (a : YT G S h) (g : YG G h) (hp : p < 6) (hg : G.1 p = true) (c : ¬ (S.1 p).1 14 = 0) (e : sStep G S p = some S') : ∃ h', mj_R mg (d + 6) mq_332 (0, [(0, vR 15 0), (1, vI (nI p))], [], h) = some (.inl (some (vI 1), h')) ∧ YT G S' h' ∧ yFS h h' := by
  obtain ⟨⟨s1, w1⟩, t3, t4⟩ := Option.map_eq_some_iff.mp e
  subst t4
  obtain ⟨h1, q1, a1⟩ := y_step (d := d) (a.rs hp hg) hp c (g.2.2.2.1 p hp hg) t3
  obtain ⟨z1, z2⟩ := a.upW hp hg a1 (cStep_5 t3)
  exact ⟨h1, q1, z1, z2⟩
theorem y_runs (hp : p < 6) (hg : G.1 p = true) : ∀ (k j : Nat) (S S' : Sy) (h : mj_H) (n m : Int32), j + k < 2 ^ 31 → n = nI j → YT G S h → YG G h → sRun G p k S n = some (m, S') → ∃ h', mj_R mg (d + 7) mq_352 (74, [(3, vI n), (0, vR 15 0), (1, vI (nI p)), (2, vI (nI (j + k)))], [], h) = some (.inl (some (vI m), h')) ∧ YT G S' h' ∧ yFS h h' := by
  intro k
  induction k with
  | zero =>
    intro j S S' h n m hj hn a g e
    have e9 := Option.some.inj e
    cases e9
    rw [hn, q_352_74, if_pos (nI_le (by omega) (by omega)), q_352_93]
    exact ⟨h, rfl, a, yFS.rf h⟩
  | succ k ih =>
    intro j S S' h n m hj hn a g e
    rw [hn, q_352_74, if_neg (nI_ge (by omega) (by omega))]
    simp only [sRun] at e
    by_cases c : (S.1 p).1 14 = 0
    · rw [if_pos c] at e
      have e9 := Option.some.inj e
      cases e9
      rw [y_none (d := d + 5) (a.rs hp hg) hp c, mj_xi_ret, if_pos rfl, q_352_93, hn]
      exact ⟨h, rfl, a, yFS.rf h⟩
    · rw [if_neg c] at e
      obtain ⟨T, t1, t2⟩ := Option.bind_eq_some_iff.mp e
      obtain ⟨h1, q1, a1, f1⟩ := y_sstep (d := d) a g hp hg c t1
      obtain ⟨h2, q2, a2, f2⟩ := ih (j + 1) _ S' h1 (n + 1) m (by omega) (by rw [hn, nI_succ]) a1 (g.mv f1) t2
      refine ⟨h2, ?_, a2, f1.tr f2⟩
      rw [q1, mj_xi_ret, if_neg (by decide), show j + (k + 1) = j + 1 + k by omega, ← hn]
      exact q2
/-- how it stands -/
theorem y_o1 (a : YT G S h) (g : YG G h) : ∀ (k p : Nat) (A R : Bool), p + k = 6 → mj_R mg d mq_348 (6, [(3, vI (nI p)), (2, vI (bI R)), (1, vI (bI A)), (0, vR 15 0)], [], h) = if (List.range' p k).any (eN G S) = true then some (.inl (some (vI 3), h)) else if (A && (List.range' p k).all (dN G S)) = true then some (.inl (some (vI 1), h)) else mj_R mg d mq_348 (88, [(3, vI (nI 0)), (2, vI (bI (R || (List.range' p k).any (rnN G S)))), (1, vI (bI (A && (List.range' p k).all (dN G S)))), (0, vR 15 0)], [], h) := by
  intro k
  induction k with
  | zero =>
    intro p A R hp
    rw [q_348_6, if_pos (show (6 : Int32) ≤ nI p from nI_le (a := 6) (b := p) (by omega) (by omega)), if_neg (show ¬ (List.range' p 0).any (eN G S) = true from fun z => by cases z), show List.range' p 0 = [] from rfl, List.any_nil, List.all_nil, Bool.or_false, Bool.and_true]
    cases A with
    | true => rw [if_neg (show ¬ bI true = 0 by decide), if_pos rfl]
    | false => rw [if_pos (show bI false = 0 from rfl), if_neg (show ¬ false = true by decide)]; rfl
  | succ k ih =>
    intro p A R hp
    have hp6 : p < 6 := by omega
    have i6 := in_n hp6 (show 6 < 2 ^ 31 by omega)
    rw [List.range'_succ, List.any_cons, List.any_cons, List.all_cons, q_348_6, if_neg (show ¬ (6 : Int32) ≤ nI p from nI_ge (a := p) (b := 6) (by omega) (by omega)), if_pos i6, nI_clamp (by omega)]
    cases hg : G.1 p with
    | false =>
      have e1 : eN G S p = false := by unfold eN; rw [hg]; rfl
      have e2 : rnN G S p = false := by unfold rnN; rw [hg]; rfl
      have e3 : dN G S p = true := by unfold dN; rw [hg]; rfl
      rw [if_neg (fun z => z ((g.1 p hp6).2 hg)), q_348_74, ← nI_succ, ih (p + 1) A R (by omega), e1, e2, e3, Bool.false_or, Bool.false_or, Bool.true_and]
    | true =>
      have C := (a.1 p hp6 hg).1
      have k18 : h.1 139 0 p = (S.1 p).1 18 := C.2.2.1.2.1
      have k19 : h.1 140 0 p = (S.1 p).1 19 := C.2.2.1.2.2.1
      rw [if_pos (y_has1 g hp6 hg).1, if_pos i6, k18]
      by_cases c18 : (S.1 p).1 18 = 0
      · have e1 : eN G S p = false := by unfold eN; rw [decide_eq_true c18, hg]; rfl
        rw [if_pos c18, e1, Bool.false_or]
        have go : ∀ B : Bool, mj_R mg d mq_348 (53, [(3, vI (nI p)), (2, vI (bI R)), (1, vI (bI A)), (0, vR 15 0)], [vI (bI B)], h) = mj_R mg d mq_348 (6, [(3, vI (nI (p + 1))), (2, vI (bI (R || rnN G S p))), (1, vI (bI B)), (0, vR 15 0)], [], h) := by
          intro B
          rw [q_348_53, if_pos i6, nI_clamp (by omega)]
          cases R with
          | true => rw [if_pos (by decide), q_348_68, q_348_73, q_348_74_2, ← nI_succ, Bool.true_or]; rfl
          | false =>
            rw [if_neg (fun z => z (by decide)), Bool.false_or]
            by_cases c14 : (S.1 p).1 14 = 0
            · have e2 : rnN G S p = false := by unfold rnN; rw [decide_eq_true c14, hg]; rfl
              rw [C.2.1, if_pos c14, if_pos rfl, q_348_73, q_348_74_2, ← nI_succ, e2]; rfl
            · have e2 : rnN G S p = true := by unfold rnN; rw [decide_eq_false c14, hg]; rfl
              rw [if_neg ((a.rs hp6 hg).f.n1 c14).2, q_348_68, q_348_73, q_348_74_2, ← nI_succ, e2]; rfl
        have fin : ∀ B : Bool, B = (A && dN G S p) → mj_R mg d mq_348 (53, [(3, vI (nI p)), (2, vI (bI R)), (1, vI (bI A)), (0, vR 15 0)], [vI (bI B)], h) = if (List.range' (p + 1) k).any (eN G S) = true then some (.inl (some (vI 3), h)) else if (A && (dN G S p && (List.range' (p + 1) k).all (dN G S))) = true then some (.inl (some (vI 1), h)) else mj_R mg d mq_348 (88, [(3, vI (nI 0)), (2, vI (bI (R || (rnN G S p || (List.range' (p + 1) k).any (rnN G S))))), (1, vI (bI (A && (dN G S p && (List.range' (p + 1) k).all (dN G S))))), (0, vR 15 0)], [], h) := by
          intro B eB
          rw [go B, ih (p + 1) B _ (by omega), eB, Bool.or_assoc, Bool.and_assoc]
        cases A with
        | false =>
          rw [if_pos (by decide), q_348_52]
          exact fin false rfl
        | true =>
          rw [if_neg (by decide), if_pos i6, k19]
          by_cases c19 : (S.1 p).1 19 = 0
          · rw [if_pos c19, q_348_52]
            exact fin false (by unfold dN; rw [decide_eq_true c19, hg]; rfl)
          · rw [if_neg c19]
            exact fin true (by unfold dN; rw [decide_eq_false c19, hg]; rfl)
      · have e1 : eN G S p = true := by unfold eN; rw [decide_eq_false c18, hg]; rfl
        rw [if_neg c18, e1, Bool.true_or, if_pos rfl]
theorem y_o2 {x1 : Int32} (a : YT G S h) (g : YG G h) : ∀ (k l : Nat) (R : Bool), l + k = G.2.2.2.1 → mj_R mg d mq_348 (88, [(3, vI (nI l)), (2, vI (bI R)), (1, vI x1), (0, vR 15 0)], [], h) = some (.inl (some (vI (if (R || (List.range' l k).any (knN S)) = true then 0 else 2)), h)) := by
  have hn := g.2.2.1.2
  intro k
  induction k with
  | zero =>
    intro l R hl
    rw [q_348_88, g.2.2.1.1, if_pos (nI_le (by omega) (by omega)), show List.range' l 0 = [] from rfl, List.any_nil, Bool.or_false]
    cases R with
    | true => rw [if_neg (show ¬ bI true = 0 by decide), q_348_148, if_pos rfl]
    | false => rw [if_pos (show bI false = 0 from rfl), q_348_148, if_neg (show ¬ false = true by decide)]
  | succ k ih =>
    intro l R hl
    have hl2 : l < 12 := by omega
    have il := in_n hl2 (show 12 < 2 ^ 31 by omega)
    obtain ⟨l1, l2, l3, l4, l5, l6⟩ := a.2.2.1.2.1 l hl2
    have go : ∀ B : Bool, B = (R || knN S l) → mj_R mg d mq_348 (132, [(3, vI (nI l)), (2, vI (bI R)), (1, vI x1), (0, vR 15 0)], [vI (bI B)], h) = some (.inl (some (vI (if (R || (knN S l || (List.range' (l + 1) k).any (knN S))) = true then 0 else 2)), h)) := by
      intro B eB
      rw [q_348_132, ← nI_succ, ih (l + 1) B (by omega), eB, Bool.or_assoc]
    rw [List.range'_succ, List.any_cons, q_348_88, g.2.2.1.1, if_neg (nI_ge (by omega) (by omega))]
    cases R with
    | true =>
      rw [if_pos (by decide), q_348_127]
      exact go true (by rw [Bool.true_or])
    | false =>
      rw [if_neg (fun z => z (by decide)), if_pos il, nI_clamp (by omega), l5]
      by_cases c5 : S.2.1.2.1 l 5 = 0
      · rw [if_neg (fun z => z c5), if_pos il, l1]
        by_cases c0 : S.2.1.2.1 l 0 = 0
        · rw [if_pos c0, q_348_131]
          exact go false (by unfold knN lGo; rw [decide_eq_true c5, decide_eq_true c0]; rfl)
        · rw [if_neg c0, if_pos il, l6 c0]
          by_cases cg : S.2.1.2.1 l 2 = S.2.1.2.1 l 3 ∧ S.2.1.2.1 l 2 < 4
          · rw [if_pos cg, if_neg (by decide), q_348_127]
            exact go true (by unfold knN lGo; rw [decide_eq_true c5, decide_eq_false c0, decide_eq_true cg.1, decide_eq_true cg.2]; rfl)
          · rw [if_neg cg, if_pos rfl, q_348_131]
            refine go false ?_
            unfold knN lGo
            rw [decide_eq_true c5, decide_eq_false c0]
            by_cases z1 : S.2.1.2.1 l 2 = S.2.1.2.1 l 3
            · rw [decide_eq_false (fun z => cg ⟨z1, z⟩), Bool.and_false]; rfl
            · rw [decide_eq_false z1]; rfl
      · rw [if_pos c5, q_348_127]
        exact go true (by unfold knN; rw [decide_eq_false c5]; rfl)
theorem y_out (a : YT G S h) (g : YG G h) : mj_R mg d mq_348 (0, [(0, vR 15 0)], [], h) = some (.inl (some (vI (sOut G S)), h)) := by
  have e1 : mj_R mg d mq_348 (6, [(3, vI 0), (2, vI 0), (1, vI 1), (0, vR 15 0)], [], h) = _ := y_o1 (d := d) a g 6 0 true false rfl
  have er : sErr G S = (List.range' 0 6).any (eN G S) := rfl
  have ea : sAll G S = (List.range' 0 6).all (dN G S) := rfl
  have ey : sAny G S = ((List.range' 0 6).any (rnN G S) || (List.range' 0 G.2.2.2.1).any (knN S)) := by
    unfold sAny
    rw [List.range_eq_range' (n := 6), List.range_eq_range' (n := G.2.2.2.1)]
    rfl
  rw [q_348_0, e1]
  unfold sOut
  rw [er, ea, ey, Bool.true_and]
  by_cases c : (List.range' 0 6).any (eN G S) = true
  · rw [if_pos c, if_pos c]
  · rw [if_neg c, if_neg c]
    by_cases c2 : (List.range' 0 6).all (dN G S) = true
    · rw [if_pos c2, if_pos c2]
    · rw [if_neg c2, if_neg c2, y_o2 (d := d) a g G.2.2.2.1 0 _ (Nat.zero_add _), Bool.false_or]
theorem y_rp1 {x2 x1 : Int32} {T : Sy} (hp : p < 6) (a : YT G S h) (g : YG G h) (e : (if G.1 p = true ∧ ¬ (S.1 p).1 14 = 0 then sStep G S p else some S) = some T) : ∃ h' y, mj_R mg (d + 8) mq_354 (61, [(3, vI (nI p)), (2, vI x2), (0, vR 15 0), (1, vI x1)], [], h) = mj_R mg (d + 8) mq_354 (61, [(3, vI (nI (p + 1))), (4, vI y), (2, vI x2), (0, vR 15 0), (1, vI x1)], [], h') ∧ YT G T h' ∧ yFS h h' := by
  have i6 := in_n hp (show 6 < 2 ^ 31 by omega)
  rw [q_354_61, if_neg (show ¬ (6 : Int32) ≤ nI p from nI_ge (a := p) (b := 6) (by omega) (by omega)), if_pos i6, nI_clamp (by omega)]
  cases hg : G.1 p with
  | false =>
    rw [if_neg (fun z => by rw [hg] at z; cases z.1)] at e
    have e9 := Option.some.inj e
    subst e9
    rw [if_pos (show h.1 108 0 p ≤ 0 by rw [(g.1 p hp).2 hg]; decide), q_354_88, q_354_89, ← nI_succ]
    exact ⟨h, _, rfl, a, yFS.rf h⟩
  | true =>
    rw [if_neg (y_has1 g hp hg).2]
    by_cases c : (S.1 p).1 14 = 0
    · rw [if_neg (fun z => z.2 c)] at e
      have e9 := Option.some.inj e
      subst e9
      rw [y_none (d := d + 6) (a.rs hp hg) hp c, mj_xi_ret, if_pos rfl, q_354_88, q_354_89, ← nI_succ]
      exact ⟨h, _, rfl, a, yFS.rf h⟩
    · rw [if_pos ⟨hg, c⟩] at e
      obtain ⟨h1, q1, a1, f1⟩ := y_sstep (d := d + 1) a g hp hg c e
      rw [q1, mj_xi_ret, if_neg (by decide), q_354_89, ← nI_succ]
      exact ⟨h1, _, rfl, a1, f1⟩
theorem y_rp2 {x4 : Int32} {x2 x1 : Int32} {T : Sy} (hp : p < 6) (a : YT G S h) (g : YG G h) (e : (if G.1 p = true ∧ ¬ (S.1 p).1 14 = 0 then sStep G S p else some S) = some T) : ∃ h' y, mj_R mg (d + 8) mq_354 (61, [(3, vI (nI p)), (4, vI x4), (2, vI x2), (0, vR 15 0), (1, vI x1)], [], h) = mj_R mg (d + 8) mq_354 (61, [(3, vI (nI (p + 1))), (4, vI y), (2, vI x2), (0, vR 15 0), (1, vI x1)], [], h') ∧ YT G T h' ∧ yFS h h' := by
  have i6 := in_n hp (show 6 < 2 ^ 31 by omega)
  rw [q_354_61_2, if_neg (show ¬ (6 : Int32) ≤ nI p from nI_ge (a := p) (b := 6) (by omega) (by omega)), if_pos i6, nI_clamp (by omega)]
  cases hg : G.1 p with
  | false =>
    rw [if_neg (fun z => by rw [hg] at z; cases z.1)] at e
    have e9 := Option.some.inj e
    subst e9
    rw [if_pos (show h.1 108 0 p ≤ 0 by rw [(g.1 p hp).2 hg]; decide), q_354_88_2, q_354_89_2, ← nI_succ]
    exact ⟨h, _, rfl, a, yFS.rf h⟩
  | true =>
    rw [if_neg (y_has1 g hp hg).2]
    by_cases c : (S.1 p).1 14 = 0
    · rw [if_neg (fun z => z.2 c)] at e
      have e9 := Option.some.inj e
      subst e9
      rw [y_none (d := d + 6) (a.rs hp hg) hp c, mj_xi_ret, if_pos rfl, q_354_88_2, q_354_89_2, ← nI_succ]
      exact ⟨h, _, rfl, a, yFS.rf h⟩
    · rw [if_pos ⟨hg, c⟩] at e
      obtain ⟨h1, q1, a1, f1⟩ := y_sstep (d := d + 1) a g hp hg c e
      rw [q1, mj_xi_ret, if_neg (by decide), q_354_89_2, ← nI_succ]
      exact ⟨h1, _, rfl, a1, f1⟩
theorem y_rp3 {x4 : Int32} {x2 x1 : Int32} {T : Sy} (hp : p < 6) (a : YT G S h) (g : YG G h) (e : (if G.1 p = true ∧ ¬ (S.1 p).1 14 = 0 then sStep G S p else some S) = some T) : ∃ h' y, mj_R mg (d + 8) mq_354 (61, [(3, vI (nI p)), (2, vI x2), (4, vI x4), (0, vR 15 0), (1, vI x1)], [], h) = mj_R mg (d + 8) mq_354 (61, [(3, vI (nI (p + 1))), (4, vI y), (2, vI x2), (0, vR 15 0), (1, vI x1)], [], h') ∧ YT G T h' ∧ yFS h h' := by
  have i6 := in_n hp (show 6 < 2 ^ 31 by omega)
  rw [q_354_61_3, if_neg (show ¬ (6 : Int32) ≤ nI p from nI_ge (a := p) (b := 6) (by omega) (by omega)), if_pos i6, nI_clamp (by omega)]
  cases hg : G.1 p with
  | false =>
    rw [if_neg (fun z => by rw [hg] at z; cases z.1)] at e
    have e9 := Option.some.inj e
    subst e9
    rw [if_pos (show h.1 108 0 p ≤ 0 by rw [(g.1 p hp).2 hg]; decide), q_354_88_3, q_354_89_3, ← nI_succ]
    exact ⟨h, _, rfl, a, yFS.rf h⟩
  | true =>
    rw [if_neg (y_has1 g hp hg).2]
    by_cases c : (S.1 p).1 14 = 0
    · rw [if_neg (fun z => z.2 c)] at e
      have e9 := Option.some.inj e
      subst e9
      rw [y_none (d := d + 6) (a.rs hp hg) hp c, mj_xi_ret, if_pos rfl, q_354_88_3, q_354_89_3, ← nI_succ]
      exact ⟨h, _, rfl, a, yFS.rf h⟩
    · rw [if_pos ⟨hg, c⟩] at e
      obtain ⟨h1, q1, a1, f1⟩ := y_sstep (d := d + 1) a g hp hg c e
      rw [q1, mj_xi_ret, if_neg (by decide), q_354_89_3, ← nI_succ]
      exact ⟨h1, _, rfl, a1, f1⟩
theorem y_rd2 {x2 x1 : Int32} : ∀ (k p : Nat) (x4 : Int32) (S S' : Sy) (h : mj_H), p + k = 6 → YT G S h → YG G h → sRd G k p S = some S' → ∃ h' y, mj_R mg (d + 8) mq_354 (61, [(3, vI (nI p)), (4, vI x4), (2, vI x2), (0, vR 15 0), (1, vI x1)], [], h) = mj_R mg (d + 8) mq_354 (61, [(3, vI (nI 6)), (4, vI y), (2, vI x2), (0, vR 15 0), (1, vI x1)], [], h') ∧ YT G S' h' ∧ yFS h h' := by
  intro k
  induction k with
  | zero =>
    intro p x4 S S' h hp a g e
    have e9 := Option.some.inj e
    cases e9
    have : p = 6 := by omega
    subst this
    exact ⟨h, x4, rfl, a, yFS.rf h⟩
  | succ k ih =>
    intro p x4 S S' h hp a g e
    obtain ⟨T, t1, t2⟩ := Option.bind_eq_some_iff.mp e
    obtain ⟨h1, y, q1, a1, f1⟩ := y_rp2 (d := d) (x2 := x2) (x1 := x1) (x4 := x4) (by omega) a g t1
    obtain ⟨h2, y2, q2, a2, f2⟩ := ih (p + 1) y T S' h1 (by omega) a1 (g.mv f1) t2
    exact ⟨h2, y2, q1.trans q2, a2, f1.tr f2⟩
theorem sRd_lo : ∀ (k p : Nat) (S S' : Sy), p + k = 6 → sStl G S → sRd G k p S = some S' → sStl G S' := by
  intro k
  induction k with
  | zero =>
    intro p S S' hp a e
    have e9 := Option.some.inj e
    cases e9
    exact a
  | succ k ih =>
    intro p S S' hp a e
    obtain ⟨T, t1, t2⟩ := Option.bind_eq_some_iff.mp e
    refine ih (p + 1) T S' (by omega) ?_ t2
    split at t1
    · rename_i c
      exact sStep_lo a (by omega) c.1 t1
    · have e9 := Option.some.inj t1
      cases e9
      exact a
/-- a round -/
theorem y_fin {x2 x1 y m : Int32} (a : YT G S h) (g : YG G h) (st : sStl G S) (e2 : sBa G S = some (m, S')) : ∃ h', mj_R mg (d + 8) mq_354 (61, [(3, vI (nI 6)), (4, vI y), (2, vI x2), (0, vR 15 0), (1, vI x1)], [], h) = mj_R mg (d + 8) mq_354 (47, [(2, vI (x2 + 1)), (3, vI (nI 6)), (4, vI y), (0, vR 15 0), (1, vI x1)], [], h') ∧ YT G S' h' ∧ yFS h h' := by
  obtain ⟨h2, q2, a2, f2⟩ := y_ba (d := d) a g st e2
  refine ⟨h2, ?_, a2, f2⟩
  rw [q_354_61_2, if_pos (show (6 : Int32) ≤ nI 6 by decide), q2, mj_xi_ret]
theorem y_rnd1 {x2 x1 m : Int32} {T : Sy} (a : YT G S h) (g : YG G h) (st : sStl G S) (e : sRd G 6 0 S = some T) (e2 : sBa G T = some (m, S')) : ∃ h' y, mj_R mg (d + 8) mq_354 (61, [(3, vI 0), (2, vI x2), (0, vR 15 0), (1, vI x1)], [], h) = mj_R mg (d + 8) mq_354 (47, [(2, vI (x2 + 1)), (3, vI (nI 6)), (4, vI y), (0, vR 15 0), (1, vI x1)], [], h') ∧ YT G S' h' ∧ yFS h h' ∧ sStl G S' := by
  have sT := sRd_lo 6 0 S T rfl st e
  obtain ⟨U, t1, t2⟩ := Option.bind_eq_some_iff.mp e
  obtain ⟨h1, y, q1, a1, f1⟩ := y_rp1 (d := d) (p := 0) (x2 := x2) (x1 := x1) (by omega) a g t1
  obtain ⟨h2, y2, q2, a2, f2⟩ := y_rd2 (d := d) (x2 := x2) (x1 := x1) 5 1 y U T h1 rfl a1 (g.mv f1) t2
  obtain ⟨h3, q3, a3, f3⟩ := y_fin (d := d) (x2 := x2) (x1 := x1) (y := y2) a2 (g.mv (f1.tr f2)) sT e2
  exact ⟨h3, y2, (q1.trans q2).trans q3, a3, (f1.tr f2).tr f3, sBa_lo (fun l hl => ⟨(g.2.1 l hl).2.1, (g.2.1 l hl).2.2.2⟩) sT e2⟩
theorem y_rnd3 {x4 : Int32} {x2 x1 m : Int32} {T : Sy} (a : YT G S h) (g : YG G h) (st : sStl G S) (e : sRd G 6 0 S = some T) (e2 : sBa G T = some (m, S')) : ∃ h' y, mj_R mg (d + 8) mq_354 (61, [(3, vI 0), (2, vI x2), (4, vI x4), (0, vR 15 0), (1, vI x1)], [], h) = mj_R mg (d + 8) mq_354 (47, [(2, vI (x2 + 1)), (3, vI (nI 6)), (4, vI y), (0, vR 15 0), (1, vI x1)], [], h') ∧ YT G S' h' ∧ yFS h h' ∧ sStl G S' := by
  have sT := sRd_lo 6 0 S T rfl st e
  obtain ⟨U, t1, t2⟩ := Option.bind_eq_some_iff.mp e
  obtain ⟨h1, y, q1, a1, f1⟩ := y_rp3 (d := d) (p := 0) (x2 := x2) (x1 := x1) (x4 := x4) (by omega) a g t1
  obtain ⟨h2, y2, q2, a2, f2⟩ := y_rd2 (d := d) (x2 := x2) (x1 := x1) 5 1 y U T h1 rfl a1 (g.mv f1) t2
  obtain ⟨h3, q3, a3, f3⟩ := y_fin (d := d) (x2 := x2) (x1 := x1) (y := y2) a2 (g.mv (f1.tr f2)) sT e2
  exact ⟨h3, y2, (q1.trans q2).trans q3, a3, (f1.tr f2).tr f3, sBa_lo (fun l hl => ⟨(g.2.1 l hl).2.1, (g.2.1 l hl).2.2.2⟩) sT e2⟩
theorem y_rs3 {x3 : Int32} : ∀ (k j : Nat) (x4 : Int32) (S S' : Sy) (h : mj_H) (n m : Int32), j + k < 2 ^ 31 → n = nI j → YT G S h → YG G h → sStl G S → sRs G k S n = some (m, S') → ∃ h', mj_R mg (d + 8) mq_354 (47, [(2, vI n), (3, vI x3), (4, vI x4), (0, vR 15 0), (1, vI (nI (j + k)))], [], h) = some (.inl (some (vI m), h')) ∧ YT G S' h' ∧ yFS h h' := by
  intro k
  induction k generalizing x3 with
  | zero =>
    intro j x4 S S' h n m hj hn a g st e
    have e9 := Option.some.inj e
    cases e9
    rw [hn, q_354_47_3, if_pos (nI_le (by omega) (by omega)), q_354_108_3]
    exact ⟨h, rfl, a, yFS.rf h⟩
  | succ k ih =>
    intro j x4 S S' h n m hj hn a g st e
    rw [hn, q_354_47_3, if_neg (nI_ge (by omega) (by omega)), y_out (d := d + 7) a g, mj_xi_ret]
    simp only [sRs] at e
    by_cases c : ¬ sOut G S = 0
    · rw [if_pos c] at e
      have e9 := Option.some.inj e
      cases e9
      rw [if_pos c, q_354_108_3, hn]
      exact ⟨h, rfl, a, yFS.rf h⟩
    · rw [if_neg c] at e
      obtain ⟨T, t1, t2⟩ := Option.bind_eq_some_iff.mp e
      obtain ⟨⟨b, U⟩, t3, t4⟩ := Option.bind_eq_some_iff.mp t2
      obtain ⟨h1, y, q1, a1, f1, s1⟩ := y_rnd3 (d := d) (x2 := nI j) (x1 := nI (j + (k + 1))) (x4 := x4) a g st t1 t3
      obtain ⟨h2, q2, a2, f2⟩ := ih (x3 := nI 6) (j + 1) y U S' h1 (n + 1) m (by omega) (by rw [hn, nI_succ]) a1 (g.mv f1) s1 t4
      refine ⟨h2, ?_, a2, f1.tr f2⟩
      rw [if_neg c, q1, ← hn, show j + (k + 1) = j + 1 + k by omega]
      exact q2
theorem y_rs1 : ∀ (k j : Nat) (S S' : Sy) (h : mj_H) (n m : Int32), j + k < 2 ^ 31 → n = nI j → YT G S h → YG G h → sStl G S → sRs G k S n = some (m, S') → ∃ h', mj_R mg (d + 8) mq_354 (47, [(2, vI n), (0, vR 15 0), (1, vI (nI (j + k)))], [], h) = some (.inl (some (vI m), h')) ∧ YT G S' h' ∧ yFS h h' := by
  intro k
  cases k with
  | zero =>
    intro j S S' h n m hj hn a g st e
    have e9 := Option.some.inj e
    cases e9
    rw [hn, q_354_47, if_pos (nI_le (by omega) (by omega)), q_354_108]
    exact ⟨h, rfl, a, yFS.rf h⟩
  | succ k =>
    intro j S S' h n m hj hn a g st e
    rw [hn, q_354_47, if_neg (nI_ge (by omega) (by omega)), y_out (d := d + 7) a g, mj_xi_ret]
    simp only [sRs] at e
    by_cases c : ¬ sOut G S = 0
    · rw [if_pos c] at e
      have e9 := Option.some.inj e
      cases e9
      rw [if_pos c, q_354_108, hn]
      exact ⟨h, rfl, a, yFS.rf h⟩
    · rw [if_neg c] at e
      obtain ⟨T, t1, t2⟩ := Option.bind_eq_some_iff.mp e
      obtain ⟨⟨b, U⟩, t3, t4⟩ := Option.bind_eq_some_iff.mp t2
      obtain ⟨h1, y, q1, a1, f1, s1⟩ := y_rnd1 (d := d) (x2 := nI j) (x1 := nI (j + (k + 1))) a g st t1 t3
      obtain ⟨h2, q2, a2, f2⟩ := y_rs3 (d := d) (x3 := nI 6) k (j + 1) y U S' h1 (n + 1) m (by omega) (by rw [hn, nI_succ]) a1 (g.mv f1) s1 t4
      refine ⟨h2, ?_, a2, f1.tr f2⟩
      rw [if_neg c, q1, ← hn, show j + (k + 1) = j + 1 + k by omega]
      exact q2
end
