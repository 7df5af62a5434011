/-! THE LAW, third part: what changes something; compiling -/
section
variable {t : Nat → Nat} {n K d : Nat} {F : Int32 × Int32 × Int32} {st : Option Pg} {S S' : Sy} {h h' h1 : mj_H} {q : Pg}
theorem JW.le {K' : Nat} (a : JW K h) (hk : K ≤ K') : JW K' h := by
  obtain ⟨t, n, F, st, S, a1, a2, a3⟩ := a
  exact ⟨t, n, F, st, S, a1, a2, a3.le hk⟩
theorem CPj.tx {t' : Nat → Nat} {n' : Nat} (a : CPj t n F st S h) (c : cTx t' n' h') (f : ∀ g i j, ¬ (g = 21 ∨ (g = 3 ∧ j = 1)) → ¬ (g = 15 ∨ 72 ≤ g) → h'.1 g i j = h.1 g i j) : CPj t' n' F st S h' := by
  obtain ⟨a1, a2, a3, a4⟩ := a
  refine ⟨c, a2.m1 (fun j _ _ => f 2 0 j (by omega) (by omega)), fun G => (a3 G).sk (fun g i j c => f g i j (by omega) (by omega)), ?_⟩
  cases st with
  | none => exact (f 2 0 9 (by omega) (by omega)).trans a4
  | some q =>
    obtain ⟨b1, b2, b3, b4⟩ := a4
    exact ⟨b1.m1 (fun g i j c => f g i j (by omega) (by omega)), b2.m1 (fun i j _ _ => f 13 i j (by omega) (by omega)), (f 4 0 14 (by omega) (by omega)).trans b3, (f 4 0 17 (by omega) (by omega)).trans b4⟩
theorem TPj.tx {t' : Nat → Nat} {n' : Nat} (a : TPj t n F st S h) (c : yTx t' n' h') (f : ∀ g i j, ¬ (g = 72 ∨ (g = 15 ∧ (j = 2 ∨ j = 0))) → h'.1 g i j = h.1 g i j) : TPj t' n' F st S h' := by
  obtain ⟨a1, a2, a3, a4, a5⟩ := a
  refine ⟨c, a2.m1 (fun j _ _ => f 15 0 j (by omega)), a3.mv (f 15 0 68 (by omega)), a4.mv (fun g j c => f g 0 j (by omega)), ?_⟩
  cases st with
  | none => exact (f 15 0 58 (by omega)).trans a5
  | some q =>
    obtain ⟨b1, b2, b3, b4, b5⟩ := a5
    exact ⟨b1.m1 (fun g j c => f g 0 j (by omega)), b2.m1 (fun g j c => f g 0 j (by omega)), b3.m1 (fun g j c => f g 0 j (by omega)), (f 15 0 28 (by omega)).trans b4, (f 15 0 46 (by omega)).trans b5⟩
theorem CPj.sy {G : PgS} (a : CPj t n F (some q) S h) (c : RSy G S' h') (f : fSy h h') : CPj t n F (some q) S' h' := by
  obtain ⟨a1, a2, a3, b1, b2, b3, b4⟩ := a
  exact ⟨a1.m1 (fun g i j c => f.1 g i j (by omega)), a2.m1 (fun j _ _ => f.1 2 0 j (by omega)), fun G' => c.sk (fun _ _ _ _ => rfl), b1.mv f, b2.m1 (fun i j _ _ => f.1 13 i j (by omega)), (f.1 4 0 14 (by omega)).trans b3, (f.1 4 0 17 (by omega)).trans b4⟩
theorem YT.io {G : PgS} (a : YT G S h) : tIO S h := a.2.2.1.2.2
theorem TPj.sy (a : TPj t n F (some q) S h) (c : YT (gQ q) S' h') (f : yFA h h') : TPj t n F (some q) S' h' := by
  obtain ⟨a1, a2, a3, a4, b1, b2, b3, b4, b5⟩ := a
  exact ⟨a1.m1 (fun g j c => f.1 g 0 j (by omega)), a2.m1 (fun j _ _ => f.1 15 0 j (by omega)), a3.mv (f.1 15 0 68 (by omega)), c.io, b1.ma f, b2.m1 (fun g j c => f.1 g 0 j (by omega)), c, (f.1 15 0 28 (by omega)).trans b4, (f.1 15 0 46 (by omega)).trans b5⟩
/-- both sides go on with a new state of the system -/
theorem JW.sy (a : CPj t n F (some q) S h) (b : TPj t n F (some q) S h) {h2 : mj_H} (c1 : RSy (gQ q) S' h1) (f1 : fSy h h1) (c2 : YT (gQ q) S' h2) (f2 : yFA h1 h2) (j : JI K (some q) S') : JW K h2 :=
  ⟨t, n, F, some q, S', (a.sy c1 f1).mv (fun g i j c => f2.1 g i j (by omega)), (b.mv (fun g i j c _ => f1.1 g i j (by omega))).sy c2 f2, j⟩
theorem TPj.f1 (b : TPj t n F st S h) (f1 : fSy h h1) : TPj t n F st S h1 := b.mv (fun g i j c _ => f1.1 g i j (by omega))
theorem e6_of {G : PgS} (o : okG G) : ∀ l, l < G.2.2.2.1 → G.2.1 l < 6 ∧ G.2.2.1 l < 6 := fun l hl => (o.2 l hl).2
/-! texts -/
theorem j_put (J : JW K h) (x : Int32) : jA [1, 5] K (fun h => mj_R mg 1322 mq_9 (0, [(0, vR 2 0), (1, vI x)], [], h)) (fun h => mj_R mg 1322 mq_201 (0, [(0, vR 15 0), (1, vI x)], [], h)) h := by
  obtain ⟨t, n, F, st, S, a, b, c⟩ := J
  obtain ⟨h1, e1, c1, f1, f1'⟩ := k_put (d := 1320) (x := x) a.1
  have A1 : CPj (tPut t n x).1 (tPut t n x).2 F st S h1 := a.tx c1 (fun g i j z _ => f1 g i j (by omega))
  have B1 : TPj t n F st S h1 := b.mv (fun g i j c _ => f1 g i j (by omega))
  obtain ⟨h2, v, k, e2, z2, ag, c2, f2, f2'⟩ := y_put (d := 1320) (x := x) B1.1
  have J2 : JW K h2 := ⟨_, _, F, st, S, A1.mv (fun g i j c => f2 g i j (by omega)), B1.tx c2 (fun g i j z => f2 g i j (by omega)), c⟩
  rcases ag with ⟨g1, rfl⟩ | ⟨e, g1, rfl⟩
  · rw [g1] at e1
    exact Or.inl ⟨v, h1, h2, e1, e2, z2, J2⟩
  · rw [g1] at e1
    have he : e = 1 ∨ e = 5 := by
      unfold aPut at g1
      repeat' split at g1
      all_goals first | (cases g1; done) | (cases g1; exact Or.inl rfl) | (cases g1; exact Or.inr rfl)
    rcases he with rfl | rfl
    · exact Or.inr ⟨1, 0, v, h1, h2, e1, rfl, e2, z2, J2⟩
    · exact Or.inr ⟨5, 1, v, h1, h2, e1, rfl, e2, z2, J2⟩
theorem j_end (J : JW K h) (x : Int32) : jV [1] K (fun h => mj_R mg 1322 mq_10 (0, [(0, vR 2 0), (1, vI x)], [], h)) (fun h => mj_R mg 1322 mq_202 (0, [(0, vR 15 0), (1, vI x)], [], h)) h := by
  have J0 := J
  obtain ⟨t, n, F, st, S, a, b, c⟩ := J
  by_cases z : 0 ≤ x ∧ x ≤ nI n
  · obtain ⟨h1, e1, c1, f1, f1'⟩ := k_end (d := 1321) a.1 z
    have B1 : TPj t n F st S h1 := b.mv (fun g i j c _ => f1 g i j (by omega))
    obtain ⟨h2, e2, c2, f2, f2', z2⟩ := y_end (d := 1321) B1.1 z
    exact Or.inl ⟨h1, h2, e1, e2, z2, _, _, F, st, S, (a.tx c1 (fun g i j z _ => f1 g i j (by omega))).mv (fun g i j c => f2 g i j (by omega)), B1.tx c2 (fun g i j z => f2 g i j (by omega)), c⟩
  · exact Or.inr ⟨1, 0, h, _, k_xEnd (d := 1321) a.1 z, rfl, y_xEnd (d := 1321) b.1 z, by simp [mI_1], J0.th _⟩
theorem j_fault (J : JW K h) (x : Int32) : jA [1] K (fun h => mj_R mg 1322 mq_14 (0, [(0, vR 2 0), (1, vI x)], [], h)) (fun h => mj_R mg 1322 mq_320 (0, [(0, vR 15 0), (1, vI x)], [], h)) h := by
  have J0 := J
  obtain ⟨t, n, F, st, S, ⟨-, a, -, -⟩, ⟨-, b, -⟩, c⟩ := J
  have e1 := k_aFt (d := 1321) (h := h) (x := x)
  have e2 := y_aFt (d := 1321) (h := h) (x := x)
  rw [a.1, a.2.1, a.2.2] at e1
  rw [b.1, b.2.1, b.2.2] at e2
  refine j_ask (cd := fun _ => 1) (x := aFt (F.1, F.2.1, F.2.2) x) J0 e1 e2 (fun e he => ?_)
  unfold aFt at he
  split at he
  · cases he
  · cases he; exact ⟨0, rfl, rfl⟩
/-! the system -/
theorem j_begin (J : JW K h) : jV [3] K (fun h => mj_R mg 1322 mq_19 (0, [(0, vR 2 0)], [], h)) (fun h => mj_R mg 1322 mq_349 (0, [(0, vR 15 0)], [], h)) h := by
  have J0 := J
  obtain ⟨t, n, F, st, S, a, b, c⟩ := J
  cases st with
  | none => exact Or.inr ⟨3, 0, h, _, k_no19 (d := 1321) a.2.2.2, rfl, y_no349 (d := 1321) b.2.2.2.2, by simp [mI_1], J0.th _⟩
  | some q =>
    obtain ⟨⟨o1, o2, o3, o4, o5, o6⟩, c2, c3⟩ := c
    obtain ⟨h1, e1, r1, f1⟩ := k_begin (d := 1320) o2 (a.2.2.1 _) a.2.2.2.1 a.2.2.2.2.1
    have b1 := b.f1 f1
    obtain ⟨h2, e2, r2, f2, z2⟩ := y_begin (d := 1321) o2 b1.2.2.2.2.2.2.1 b1.2.2.2.2.1 b1.2.2.2.2.2.1
    exact Or.inl ⟨h1, h2, e1, e2, z2, JW.sy a b r1 f1 r2 f2 ⟨⟨o1, o2, o3, o4, o5, o6⟩, sBeg_lo, SI_m (o6 S) (Nat.zero_le _)⟩⟩
theorem j_run (J : JW K h) (hK : K + 30000 < 2 ^ 31) (p x : Int32) : jA [3, 4, 1] (K + 30000) (fun h => mj_R mg 1322 mq_21 (0, [(0, vR 2 0), (1, vI p), (2, vI x)], [], h)) (fun h => mj_R mg 1322 mq_352 (0, [(0, vR 15 0), (1, vI p), (2, vI x)], [], h)) h := by
  have J0 := J.le (K' := K + 30000) (by omega)
  obtain ⟨t, n, F, st, S, a, b, c⟩ := J
  cases st with
  | none => exact j_ask (cd := cdA) (x := .inr 3) J0 (k_no21 (d := 1320) a.2.2.2) (y_no352 (d := 1321) b.2.2.2.2) (fun e he => by cases he; exact ⟨0, rfl, rfl⟩)
  | some q =>
    obtain ⟨⟨o1, o2, o3, o4, o5, o6⟩, c2, c3⟩ := c
    by_cases z : isQ (gQ q) p ∧ 0 ≤ x ∧ x ≤ nI 5000
    · obtain ⟨z1, z2⟩ := z
      have hx := lt_n z2 (by omega)
      have hp6 : p.toNatClampNeg < 6 := (q_ix z1.1).2
      obtain ⟨m, S', e, si⟩ := s_run o1 hp6 z1.2 (o5 _ hp6 z1.2) x.toNatClampNeg K S 0 c3 (by omega)
      obtain ⟨h1, e1, r1, f1⟩ := k_aRun (d := 1314) (a.2.2.1 (gQ q)) a.2.2.2.1 c2 z1 z2 e
      have b1 := b.f1 f1
      obtain ⟨h2, e2, r2, f2, z3⟩ := y_aRun (d := 1315) b1.2.2.2.2.2.2.1 b1.2.2.2.2.1 z1 z2 e
      exact Or.inl ⟨m, h1, h2, e1, e2, z3, JW.sy a b r1 f1 r2 f2 ⟨⟨o1, o2, o3, o4, o5, o6⟩, sRun_lo hp6 z1.2 _ _ _ _ _ c2 e, SI_m si (by omega)⟩⟩
    · refine j_ask (cd := cdA) J0 (k_xRun (d := 1320) a.2.2.2.1 z) (y_xRun (d := 1320) b.2.2.2.2.1 z) (fun e he => ?_)
      split at he
      · cases he; exact ⟨2, rfl, rfl⟩
      · cases he; exact ⟨1, rfl, rfl⟩
theorem j_beat (J : JW K h) (x : Int32) : jA [3, 1] K (fun h => mj_R mg 1322 mq_24 (0, [(0, vR 2 0), (1, vI x)], [], h)) (fun h => mj_R mg 1322 mq_353 (0, [(0, vR 15 0), (1, vI x)], [], h)) h := by
  have J0 := J
  obtain ⟨t, n, F, st, S, a, b, c⟩ := J
  cases st with
  | none => exact j_ask (cd := cdB) (x := .inr 3) J0 (k_no24 (d := 1321) a.2.2.2) (y_no353 (d := 1321) b.2.2.2.2) (fun e he => by cases he; exact ⟨0, rfl, rfl⟩)
  | some q =>
    obtain ⟨⟨o1, o2, o3, o4, o5, o6⟩, c2, c3⟩ := c
    by_cases z2 : 0 ≤ x ∧ x ≤ nI 1000
    · obtain ⟨m, S', e, si⟩ := s_bn o1 x.toNatClampNeg S 0 c3
      obtain ⟨h1, e1, r1, f1⟩ := k_aBt (d := 1316) (a.2.2.1 (gQ q)) a.2.2.2.1 z2 e
      have b1 := b.f1 f1
      obtain ⟨h2, e2, r2, f2, z3⟩ := y_aBt (d := 1314) b1.2.2.2.2.2.2.1 b1.2.2.2.2.1 c2 z2 e
      exact Or.inl ⟨m, h1, h2, e1, e2, z3, JW.sy a b r1 f1 r2 f2 ⟨⟨o1, o2, o3, o4, o5, o6⟩, sBn_lo (e6_of o1) _ _ _ _ _ c2 e, si⟩⟩
    · exact j_ask (cd := cdB) J0 (k_xBt (d := 1320) a.2.2.2.1 z2) (y_xBt (d := 1321) b.2.2.2.2.1 z2) (fun e he => by cases he; exact ⟨1, rfl, rfl⟩)
theorem j_rounds (J : JW K h) (hK : K + 30000 < 2 ^ 31) (x : Int32) : jA [3, 1] (K + 30000) (fun h => mj_R mg 1322 mq_25 (0, [(0, vR 2 0), (1, vI x)], [], h)) (fun h => mj_R mg 1322 mq_354 (0, [(0, vR 15 0), (1, vI x)], [], h)) h := by
  have J0 := J.le (K' := K + 30000) (by omega)
  obtain ⟨t, n, F, st, S, a, b, c⟩ := J
  cases st with
  | none => exact j_ask (cd := cdB) (x := .inr 3) J0 (k_no25 (d := 1321) a.2.2.2) (y_no354 (d := 1321) b.2.2.2.2) (fun e he => by cases he; exact ⟨0, rfl, rfl⟩)
  | some q =>
    obtain ⟨⟨o1, o2, o3, o4, o5, o6⟩, c2, c3⟩ := c
    by_cases z2 : 0 ≤ x ∧ x ≤ nI 5000
    · have hx := lt_n z2 (by omega)
      obtain ⟨m, S', e, si⟩ := s_rs o1 o5 x.toNatClampNeg K S 0 c3 (by omega)
      obtain ⟨h1, e1, r1, f1⟩ := k_aRs (d := 1314) (a.2.2.1 (gQ q)) a.2.2.2.1 c2 z2 e
      have b1 := b.f1 f1
      obtain ⟨h2, e2, r2, f2, z3⟩ := y_aRs (d := 1314) b1.2.2.2.2.2.2.1 b1.2.2.2.2.1 c2 z2 e
      exact Or.inl ⟨m, h1, h2, e1, e2, z3, JW.sy a b r1 f1 r2 f2 ⟨⟨o1, o2, o3, o4, o5, o6⟩, sRs_lo (e6_of o1) _ _ _ _ _ c2 e, SI_m si (by omega)⟩⟩
    · exact j_ask (cd := cdB) J0 (k_xRs (d := 1320) a.2.2.2.1 z2) (y_xRs (d := 1321) b.2.2.2.2.1 z2) (fun e he => by cases he; exact ⟨1, rfl, rfl⟩)
theorem j_input (J : JW K h) (x : Int32) : jA [3, 5] K (fun h => mj_R mg 1322 mq_20 (0, [(0, vR 2 0), (1, vI x)], [], h)) (fun h => mj_R mg 1322 mq_350 (0, [(0, vR 15 0), (1, vI x)], [], h)) h := by
  have J0 := J
  obtain ⟨t, n, F, st, S, a, b, c⟩ := J
  cases st with
  | none => exact j_ask (cd := cdB) (x := .inr 3) J0 (k_no20 (d := 1321) a.2.2.2) (y_no350 (d := 1321) b.2.2.2.2) (fun e he => by cases he; exact ⟨0, rfl, rfl⟩)
  | some q =>
    obtain ⟨⟨o1, o2, o3, o4, o5, o6⟩, c2, c3⟩ := c
    by_cases z : S.2.1.1 1 = 200
    · exact j_ask (cd := cdB) J0 (k_xInp (d := 1321) (a.2.2.1 (gQ q)) a.2.2.2.1 z) (y_xInp (d := 1321) b.2.2.2.2.2.2.1 b.2.2.2.2.1 z) (fun e he => by cases he; exact ⟨1, rfl, rfl⟩)
    · have hk : mj_in (S.2.1.1 1) 200 := by
        obtain ⟨-, w1, w2, w3⟩ := c3.2.2
        refine ⟨?_, ?_⟩
        · have h1 := Int32.le_iff_toInt_le.mp w1
          have h2 := Int32.le_iff_toInt_le.mp w3
          have h3 : (0 : Int32).toInt = 0 := rfl
          omega
        · have h2 := Int32.le_iff_toInt_le.mp w2
          have h3 : (200 : Int32).toInt = 200 := rfl
          have h4 : (S.2.1.1 1).toInt ≠ 200 := fun y => z (Int32.toInt_inj.mp (y.trans h3.symm))
          show (S.2.1.1 1).toInt < ((200 : Nat) : Int)
          omega
      obtain ⟨S', e, si⟩ := s_inp (v := x) o1 c3 hk
      obtain ⟨h1, e1, r1, f1⟩ := k_inp (d := 1318) (a.2.2.1 (gQ q)) a.2.2.2.1 z e
      have b1 := b.f1 f1
      obtain ⟨h2, e2, r2, f2, z3⟩ := y_inp (d := 1316) b1.2.2.2.2.2.2.1 b1.2.2.2.2.1 c2 z e
      exact Or.inl ⟨_, h1, h2, e1, e2, z3, JW.sy a b r1 f1 r2 f2 ⟨⟨o1, o2, o3, o4, o5, o6⟩, sInp_lo c2 e, si⟩⟩
/-! compiling -/
theorem tx_0 (t : Nat → Nat) : txOK t 0 := ⟨Nat.zero_le _, fun j hj => absurd hj (Nat.not_lt_zero _)⟩
theorem j_comp (J : JW K h) : ∃ v h1 h2, mj_R mg 1322 mq_12 (0, [(0, vR 2 0)], [], h) = some (.inl (some (vI v), h1)) ∧ mj_R mg 1322 mq_319 (0, [(0, vR 15 0)], [], h1) = some (.inl (some (vI v), h2)) ∧ JW K h2 := by
  obtain ⟨t, n, F, st, S, a, b, c⟩ := J
  obtain ⟨v1, h1, e1, g1, l1, r1⟩ := c_comp (D := 47) (G0 := (fun _ => false, fun _ => 0, fun _ => 0, 0, fun _ _ => 0)) (t := t) (n := n) (S := S) (h := h) a.1 (a.2.2.1 _)
  have b1 : TPj t n F st S h1 := b.mv (fun g i j c _ => g1.1 g i j (by omega))
  obtain ⟨v2, h2, e2, g2, l2, z2, w2, r2⟩ := t_comp (D := 1320) (t := t) (n := n) (S := S) (h := h1) ⟨b1.1.1, b1.1.2.2⟩ b1.1.2.1 b1.2.2.2.1 b1.2.2.1 (Nat.le_refl _)
  have y2 : yTx t 0 h2 := ⟨tx_0 t, l2, fun j hj => absurd hj (Nat.not_lt_zero _)⟩
  have x1 : cTx t 0 h1 := ⟨tx_0 t, l1, fun j hj => absurd hj (Nat.not_lt_zero _)⟩
  cases hc : cmp (txL t n) with
  | inl f =>
    rw [hc] at r1 r2
    obtain ⟨rfl, p1, p2, p3⟩ := r1
    obtain ⟨rfl, q1, q2, q3⟩ := r2
    exact ⟨-1, h1, h2, e1, e2, t, 0, f, none, S, CPj.mv (h := h1) ⟨x1, p2, p3, p1⟩ (fun g i j c => g2.1 g i j (by omega)), ⟨y2, q2, w2, q3, q1⟩, trivial⟩
  | inr q =>
    rw [hc] at r1 r2
    obtain ⟨rfl, p2, p3, p4, p5, p6, p7⟩ := r1
    obtain ⟨rfl, q2, q3, q4, q5, q6, q7⟩ := r2
    have ok := cmp_ok a.1.1 hc
    exact ⟨_, h1, h2, e1, e2, t, 0, (0, -1, -1), some q, sBeg (gQ q) (bQ q) S, CPj.mv (h := h1) ⟨x1, p2, fun G => p5.sk (fun _ _ _ _ => rfl), p3, p4, p6, p7⟩ (fun g i j c => g2.1 g i j (by omega)), ⟨y2, q2, w2, q5.io, q3, q4, q5, q6, q7⟩, ok, sBeg_lo, SI_m (ok.2.2.2.2.2 S) (Nat.zero_le _)⟩
theorem j_thrown (h : mj_H) : mj_R mg 1322 mq_197 (0, [(0, vR 15 0)], [], h) = some (.inl (some (vI (h.1 15 0 0)), h)) := q_197_0 _ _
end
