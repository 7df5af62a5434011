/-! the component's system: loops, what is asked -/
/-- a value, or what is thrown -/
abbrev An := Int32 ⊕ Nat
def rsl (x : An) (h : mj_H) : Option mj_O := match x with
  | .inl v => some (.inl (some (vI v), h))
  | .inr k => some (.inr (k, h))
def isP (G : PgS) (x : Int32) : Prop := mj_in x 6 ∧ G.1 x.toNatClampNeg = true
section
variable {G : PgS} {S S' : Sy} {h0 h h' : mj_H} {d : Nat}
theorem mj_xr_r (g r : Nat) (h : mj_H) (k : Nat → mj_H → Option mj_O) : mj_xr g (some (.inl (some (vR g r), h))) k = k r h := by
  show (if g = g then k r h else none) = k r h
  rw [if_pos rfl]
theorem mj_xr_t (g k0 : Nat) (h : mj_H) (k : Nat → mj_H → Option mj_O) : mj_xr g (some (.inr (k0, h))) k = some (.inr (k0, h)) := rfl
theorem mj_xi_t (k0 : Nat) (h : mj_H) (k : Int32 → mj_H → Option mj_O) : mj_xi (some (.inr (k0, h))) k = some (.inr (k0, h)) := rfl
theorem mj_xv_t (k0 : Nat) (h : mj_H) (k : mj_H → Option mj_O) : mj_xv (some (.inr (k0, h))) k = some (.inr (k0, h)) := rfl
theorem k_is {x : Int32} {c : Nat} (hc : c < 2 ^ 31) : mj_R mg d mq_0 (0, [(0, vL ((x : Int32).toInt64)), (2, vL 0), (4, vL (Int64.ofNat c))], [], h) = some (.inl (some (vI (bI (decide (0 ≤ x ∧ x ≤ nI c)))), h)) := by
  have x1 := Int32.le_toInt x
  have x2 := Int32.toInt_lt x
  have ey : (Int64.ofNat c).toInt = (c : Int) := Int64.toInt_ofNat_of_lt (by omega)
  have en : (nI c).toInt = (c : Int) := nI_toInt hc
  have e1 : lg_cmp x.toInt64 0 < 0 ↔ x < 0 := by
    rw [lg_cmp_lt, Int64.lt_iff_toInt_lt, Int32.toInt_toInt64, Int32.lt_iff_toInt_lt]
    exact Iff.rfl
  have e2 : 0 < lg_cmp x.toInt64 (Int64.ofNat c) ↔ ¬ x ≤ nI c := by
    rw [lg_cmp_gt, Int64.lt_iff_toInt_lt, ey, Int32.toInt_toInt64, Int32.le_iff_toInt_le, en]
    omega
  rw [q_0_0]
  by_cases c1 : x < 0
  · have : ¬ (0 ≤ x ∧ x ≤ nI c) := fun z => absurd c1 (Int32.not_lt.mpr z.1)
    rw [if_pos (e1.mpr c1), q_0_17, q_0_18, if_pos (Or.inl rfl), decide_eq_false this]
    rfl
  · rw [if_neg (fun z => c1 (e1.mp z))]
    by_cases c2 : x ≤ nI c
    · rw [if_neg (fun z => (e2.mp z) c2), q_0_18, if_pos (Or.inr rfl), decide_eq_true ⟨Int32.not_lt.mp c1, c2⟩]
      rfl
    · have : ¬ (0 ≤ x ∧ x ≤ nI c) := fun z => c2 z.2
      rw [if_pos (e2.mpr c2), q_0_17, q_0_18, if_pos (Or.inl rfl), decide_eq_false this]
      rfl
theorem k_need (b : Bool) : mj_R mg d mq_5 (0, [(0, vI (bI b))], [], h) = if b = true then some (.inl (none, h)) else some (.inr (1, h)) := by
  rw [q_5_0]
  cases b with
  | true => rw [if_pos (by decide), if_pos rfl]
  | false => rw [if_neg (fun z => z (by decide)), if_neg (by decide)]
theorem k_inn (b : Bool) : mj_R mg d mq_6 (0, [(0, vI (bI b))], [], h) = if b = true then some (.inl (none, h)) else some (.inr (2, h)) := by
  rw [q_6_0]
  cases b with
  | true => rw [if_pos (by decide), if_pos rfl]
  | false => rw [if_neg (fun z => z (by decide)), if_neg (by decide)]
theorem k_must (g : RG G h) : mj_R mg d mq_7 (0, [(0, vR 2 0)], [], h) = some (.inl (none, h)) := by rw [q_7_0, if_pos g.2.2.2.2]
theorem k_must0 (g : h.1 2 0 9 = 0) : mj_R mg d mq_7 (0, [(0, vR 2 0)], [], h) = some (.inr (3, h)) := by rw [q_7_0, if_neg (fun z => z g)]
theorem in_6 {x : Int32} : mj_in x 6 ↔ (0 ≤ x ∧ x ≤ nI 5) := by
  rw [Int32.le_iff_toInt_le, Int32.le_iff_toInt_le, nI_toInt (by omega)]
  show 0 ≤ x.toInt ∧ x.toInt < 6 ↔ (0 : Int) ≤ x.toInt ∧ x.toInt ≤ 5
  omega
theorem k_coreOf {x : Int32} (g : RG G h) (c : isP G x) : mj_R mg (d + 1) mq_8 (0, [(0, vR 2 0), (1, vI x)], [], h) = some (.inl (some (vR 13 x.toNatClampNeg), h)) := by
  have e : mj_R mg d mq_0 (0, [(0, vL ((x : Int32).toInt64)), (2, vL 0), (4, vL 5)], [], h) = _ := k_is (d := d) (h := h) (x := x) (c := 5) (by omega)
  have hp : x.toNatClampNeg < 6 := by
    have e3 : x.toNatClampNeg = x.toInt.toNat := rfl
    have := c.1.1; have := c.1.2; omega
  rw [q_8_0, k_must g, mj_xv_ret, e, mj_xi_ret, decide_eq_true (in_6.mp c.1), if_neg (by decide), if_pos c.1, if_pos (fun z => by have := (g.1 _ hp).mp z; rw [c.2] at this; cases this), if_pos c.1]
theorem k_coreN {x : Int32} (g : RG G h) (c : ¬ isP G x) : mj_R mg (d + 1) mq_8 (0, [(0, vR 2 0), (1, vI x)], [], h) = some (.inr (4, h)) := by
  have e : mj_R mg d mq_0 (0, [(0, vL ((x : Int32).toInt64)), (2, vL 0), (4, vL 5)], [], h) = _ := k_is (d := d) (h := h) (x := x) (c := 5) (by omega)
  rw [q_8_0, k_must g, mj_xv_ret, e, mj_xi_ret]
  by_cases c1 : mj_in x 6
  · have hp : x.toNatClampNeg < 6 := by
      have e3 : x.toNatClampNeg = x.toInt.toNat := rfl
      have := c1.1; have := c1.2; omega
    have : G.1 x.toNatClampNeg = false := by
      cases z : G.1 x.toNatClampNeg with
      | false => rfl
      | true => exact (c ⟨c1, z⟩).elim
    rw [decide_eq_true (in_6.mp c1), if_neg (by decide), if_pos c1, if_neg (fun z => z ((g.1 _ hp).mpr this)), q_8_29]
  · rw [decide_eq_false (fun z => c1 (in_6.mpr z)), if_pos (by decide), q_8_29]
/-- all links -/
theorem k_bl (g : RG G h) (e6 : ∀ l, l < G.2.2.2.1 → G.2.1 l < 6 ∧ G.2.2.1 l < 6) : ∀ (k l : Nat) (S S' : Sy) (h : mj_H) (n m : Int32), l + k = G.2.2.2.1 → RSy G S h → RG G h → sBl G k l S n = some (m, S') → ∃ h', mj_R mg (d + 5) mq_23 (4, [(2, vI (nI l)), (1, vI n), (0, vR 2 0)], [], h) = some (.inl (some (vI m), mj_sI (mj_sI h' 2 0 14 (h'.1 2 0 14 + 1)) 2 0 15 (h'.1 2 0 15 + m))) ∧ RSy G S' h' ∧ fSy h h' := by
  intro k
  induction k with
  | zero =>
    intro l S S' h n m hl a g e
    have e9 := Option.some.inj e
    cases e9
    have k15 : (mj_sI h 2 0 14 (h.1 2 0 14 + 1)).1 2 0 15 = h.1 2 0 15 := by rw [mI_1, if_neg (by omega)]
    rw [q_23_4, g.2.2.1.1, if_pos (nI_le (by omega) (by have := g.2.2.1.2; omega))]
    exact ⟨h, rfl, a, fSy.rf h⟩
  | succ k ih =>
    intro l S S' h n m hl a g e
    obtain ⟨⟨b, T⟩, t1, t2⟩ := Option.bind_eq_some_iff.mp e
    obtain ⟨h1, q1, a1, f1⟩ := k_beat (d := d) a g (by omega) t1
    obtain ⟨h2, q2, a2, f2⟩ := ih (l + 1) T S' h1 (n + bI b) m (by omega) a1 (g.mv f1) t2
    refine ⟨h2, ?_, a2, f1.tr f2⟩
    rw [q_23_4, g.2.2.1.1, if_neg (nI_ge (by omega) (by have := g.2.2.1.2; omega)), q1, mj_xi_ret]
    cases b with
    | false => rw [if_pos (by decide), q_23_29, ← nI_succ]; exact q2
    | true => rw [if_neg (by decide), q_23_29, ← nI_succ]; exact q2
theorem k_ba {m : Int32} (a : RSy G S h) (g : RG G h) (e : sBa G S = some (m, S')) : ∃ h', mj_R mg (d + 5) mq_23 (0, [(0, vR 2 0)], [], h) = some (.inl (some (vI m), h')) ∧ RSy G S' h' ∧ fSy h h' := by
  obtain ⟨⟨m', T⟩, t1, t2⟩ := Option.map_eq_some_iff.mp e
  cases t2
  obtain ⟨h1, q1, a1, f1⟩ := k_bl (d := d) g (fun l hl => ⟨(g.2.1 l hl).2.1, (g.2.1 l hl).2.2.2⟩) G.2.2.2.1 0 S T h 0 m' (Nat.zero_add _) a g t1
  refine ⟨mj_sI (mj_sI h1 2 0 14 (h1.1 2 0 14 + 1)) 2 0 15 (h1.1 2 0 15 + m'), by rw [q_23_0]; exact q1, ⟨fun p hp => (a1.1 p hp).mv (fun g i j c => by rw [mI_1, if_neg (by omega), mI_1, if_neg (by omega)]), a1.2.1.mv (fun g i j c => by rw [mI_1, if_neg (by omega), mI_1, if_neg (by omega)]), ?_, ?_⟩, f1.tr ⟨fun g i j c => by rw [mI_1, if_neg (by omega), mI_1, if_neg (by omega)], rfl⟩⟩
  · rw [mI_1, if_neg (by omega), mI_same, a1.2.2.1]
  · rw [mI_same, a1.2.2.2]
theorem k_bn : ∀ (k j : Nat) (S S' : Sy) (h : mj_H) (n m : Int32), j + k < 2 ^ 31 → RSy G S h → RG G h → sBn G k S n = some (m, S') → ∃ h', mj_R mg (d + 6) mq_24 (20, [(3, vI (nI j)), (2, vI n), (0, vR 2 0), (1, vI (nI (j + k)))], [], h) = some (.inl (some (vI m), h')) ∧ RSy G S' h' ∧ fSy h h' := by
  intro k
  induction k with
  | zero =>
    intro j S S' h n m hj a g e
    have e9 := Option.some.inj e
    cases e9
    rw [q_24_20, if_pos (nI_le (by omega) (by omega))]
    exact ⟨h, rfl, a, fSy.rf h⟩
  | succ k ih =>
    intro j S S' h n m hj a g e
    obtain ⟨⟨b, T⟩, t1, t2⟩ := Option.bind_eq_some_iff.mp e
    obtain ⟨h1, q1, a1, f1⟩ := k_ba (d := d) a g t1
    obtain ⟨h2, q2, a2, f2⟩ := ih (j + 1) T S' h1 (n + b) m (by omega) a1 (g.mv f1) t2
    refine ⟨h2, ?_, a2, f1.tr f2⟩
    rw [q_24_20, if_neg (nI_ge (by omega) (by omega)), q1, mj_xi_ret, ← nI_succ]
    rw [show j + (k + 1) = j + 1 + k by omega]
    exact q2
/-- bytes of a processor -/
theorem k_runs {p : Nat} {x1 : Int32} (hp : p < 6) (hg : G.1 p = true) : ∀ (k j : Nat) (S S' : Sy) (h : mj_H) (n m : Int32), j + k < 2 ^ 31 → n = nI j → RSy G S h → RG G h → sStl G S → sRun G p k S n = some (m, S') → ∃ h', mj_R mg (d + 8) mq_21 (21, [(4, vI n), (3, vR 13 p), (0, vR 2 0), (1, vI x1), (2, vI (nI (j + k)))], [], h) = some (.inl (some (vI m), h')) ∧ RSy G S' h' ∧ fSy h h' := by
  intro k
  induction k with
  | zero =>
    intro j S S' h n m hj hn a g st e
    have e9 := Option.some.inj e
    cases e9
    rw [hn, q_21_21, if_pos (nI_le (by omega) (by omega)), q_21_44]
    exact ⟨h, rfl, a, fSy.rf h⟩
  | succ k ih =>
    intro j S S' h n m hj hn a g st e
    rw [hn, q_21_21, if_neg (nI_ge (by omega) (by omega)), (a.rf hp hg).g 14 (by omega) (by omega)]
    simp only [sRun] at e
    by_cases c : (S.1 p).1 14 = 0
    · rw [if_pos c] at e
      have e9 := Option.some.inj e
      cases e9
      rw [if_pos c, q_21_44, hn]
      exact ⟨h, rfl, a, fSy.rf h⟩
    · rw [if_neg c] at e
      obtain ⟨T, t1, t2⟩ := Option.bind_eq_some_iff.mp e
      have st' := sStep_lo st hp hg t1
      obtain ⟨⟨s1, w1⟩, t3, t4⟩ := Option.map_eq_some_iff.mp t1
      subst t4
      obtain ⟨h1, q1, a1⟩ := k_step (d := d) (a.rs hp hg) (st p hp hg).1 (g.2.2.2.1 p hp hg) t3
      obtain ⟨z1, z2⟩ := a.upW a1
      obtain ⟨h2, q2, a2, f2⟩ := ih (j + 1) _ S' h1 (n + 1) m (by omega) (by rw [hn, nI_succ]) z1 (g.mv z2) st' t2
      refine ⟨h2, ?_, a2, z2.tr f2⟩
      rw [if_neg c, q1, mj_xv_ret, show j + (k + 1) = j + 1 + k by omega, ← hn]
      exact q2
end
