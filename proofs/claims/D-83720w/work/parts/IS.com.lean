/-! texts: the twin's put -/
section
variable {h : mj_H} {d n : Nat} {t : Nat → Nat} {x : Int32}
theorem y_sgn {m : Nat} (c0 : ¬ m = 0) (hm : m < 256) : mj_R mg (d + 1) mq_200 (0, [(0, vI (nI m))], [], h) = some (.inl (some (vI (bI (decide (okS m)))), h)) := by
  rw [q_200_0]
  by_cases c1 : m = 10
  · rw [if_pos (show nI m = 10 by rw [c1]; rfl), q_200_17, q_200_22, if_pos (Or.inr rfl), decide_eq_true (Or.inr (Or.inl c1))]; rfl
  · rw [if_neg (show ¬ nI m = 10 from fun z => c1 ((nI_eq (b := 10) (by omega) (by omega)).mp z)), y_199, mj_xi_ret]
    by_cases c2 : okS m
    · rw [decide_eq_true ((okS_d c0 c1 hm).mpr c2), if_neg (by decide), q_200_17, q_200_22, if_pos (Or.inr rfl), decide_eq_true c2]; rfl
    · rw [decide_eq_false (fun z => c2 ((okS_d c0 c1 hm).mp z)), if_pos (by decide), q_200_22, if_pos (Or.inl rfl), decide_eq_false c2]; rfl
theorem y_p11 {j a : Nat} {bd : Bool} {y : Int32} (hj : j < 4) : ∃ z, mj_R mg (d + 2) mq_201 (7, [(4, vI (nI (8 * j))), (3, vI (nI a)), (2, vI (bI bd)), (0, vR 15 0), (1, vI x)], [], h) = mj_R mg (d + 2) mq_201 (7, [(4, vI (nI (8 * (j + 1)))), (3, vI (nI (a + one (sgn x j)))), (2, vI (bI (bd || !decide (okS (sgn x j))))), (5, vI z), (0, vR 15 0), (1, vI x)], [], h) := by
  obtain ⟨e1, e2⟩ := sgn_e x j
  refine ⟨nI (sgn x j), ?_⟩
  have e8 : nI (8 * j) + 8 = nI (8 * (j + 1)) := by
    show nI (8 * j) + nI 8 = _
    rw [nI_add, show 8 * j + 8 = 8 * (j + 1) by omega]
  have fin : ∀ B : Bool, mj_R mg (d + 2) mq_201 (46, [(5, vI (nI (sgn x j))), (4, vI (nI (8 * j))), (3, vI (nI a)), (2, vI (bI bd)), (0, vR 15 0), (1, vI x)], [vI (bI B)], h) = mj_R mg (d + 2) mq_201 (7, [(4, vI (nI (8 * (j + 1)))), (3, vI (nI (a + one (sgn x j)))), (2, vI (bI B)), (5, vI (nI (sgn x j))), (0, vR 15 0), (1, vI x)], [], h) := by
    intro B
    rw [q_201_46]
    unfold one
    by_cases c : sgn x j = 0
    · rw [if_pos (show nI (sgn x j) = 0 by rw [c]; rfl), q_201_59, e8, if_pos c]; rfl
    · rw [if_neg (nI_ne0 (by omega) (by omega)), q_201_59, e8, if_neg c, nI_succ]
  rw [q_201_7, if_neg (show ¬ (32 : Int32) ≤ nI (8 * j) from nI_ge (a := 8 * j) (b := 32) (by omega) (by omega)), e1]
  cases bd with
  | true =>
    rw [if_pos (by decide), q_201_41, Bool.true_or]
    exact fin true
  | false =>
    rw [if_neg (fun z => z (by decide)), Bool.false_or]
    by_cases c0 : sgn x j = 0
    · rw [if_pos (show nI (sgn x j) = 0 by rw [c0]; rfl), q_201_45, decide_eq_true (Or.inl c0)]
      exact fin false
    · rw [if_neg (nI_ne0 (by omega) (by omega)), y_sgn c0 e2, mj_xi_ret]
      by_cases c2 : okS (sgn x j)
      · rw [decide_eq_true c2, if_pos (by decide), q_201_45]
        exact fin false
      · rw [decide_eq_false c2, if_neg (fun z => z (by decide)), q_201_41]
        exact fin true
theorem y_p12 {j a : Nat} {bd : Bool} {y : Int32} (hj : j < 4) : ∃ z, mj_R mg (d + 2) mq_201 (7, [(4, vI (nI (8 * j))), (3, vI (nI a)), (2, vI (bI bd)), (5, vI y), (0, vR 15 0), (1, vI x)], [], h) = mj_R mg (d + 2) mq_201 (7, [(4, vI (nI (8 * (j + 1)))), (3, vI (nI (a + one (sgn x j)))), (2, vI (bI (bd || !decide (okS (sgn x j))))), (5, vI z), (0, vR 15 0), (1, vI x)], [], h) := by
  obtain ⟨e1, e2⟩ := sgn_e x j
  refine ⟨nI (sgn x j), ?_⟩
  have e8 : nI (8 * j) + 8 = nI (8 * (j + 1)) := by
    show nI (8 * j) + nI 8 = _
    rw [nI_add, show 8 * j + 8 = 8 * (j + 1) by omega]
  have fin : ∀ B : Bool, mj_R mg (d + 2) mq_201 (46, [(5, vI (nI (sgn x j))), (4, vI (nI (8 * j))), (3, vI (nI a)), (2, vI (bI bd)), (0, vR 15 0), (1, vI x)], [vI (bI B)], h) = mj_R mg (d + 2) mq_201 (7, [(4, vI (nI (8 * (j + 1)))), (3, vI (nI (a + one (sgn x j)))), (2, vI (bI B)), (5, vI (nI (sgn x j))), (0, vR 15 0), (1, vI x)], [], h) := by
    intro B
    rw [q_201_46]
    unfold one
    by_cases c : sgn x j = 0
    · rw [if_pos (show nI (sgn x j) = 0 by rw [c]; rfl), q_201_59, e8, if_pos c]; rfl
    · rw [if_neg (nI_ne0 (by omega) (by omega)), q_201_59, e8, if_neg c, nI_succ]
  rw [q_201_7_2, if_neg (show ¬ (32 : Int32) ≤ nI (8 * j) from nI_ge (a := 8 * j) (b := 32) (by omega) (by omega)), e1]
  cases bd with
  | true =>
    rw [if_pos (by decide), q_201_41, Bool.true_or]
    exact fin true
  | false =>
    rw [if_neg (fun z => z (by decide)), Bool.false_or]
    by_cases c0 : sgn x j = 0
    · rw [if_pos (show nI (sgn x j) = 0 by rw [c0]; rfl), q_201_45, decide_eq_true (Or.inl c0)]
      exact fin false
    · rw [if_neg (nI_ne0 (by omega) (by omega)), y_sgn c0 e2, mj_xi_ret]
      by_cases c2 : okS (sgn x j)
      · rw [decide_eq_true c2, if_pos (by decide), q_201_45]
        exact fin false
      · rw [decide_eq_false c2, if_neg (fun z => z (by decide)), q_201_41]
        exact fin true
theorem y_p23 {j : Nat} {y b c' : Int32} (hj : j < 4) (a : yTx t n h) (c : okS (sgn x j)) (hn : n + one (sgn x j) ≤ 3000) : ∃ h' z, mj_R mg (d + 2) mq_201 (101, [(4, vI (nI (8 * j))), (3, vI b), (2, vI c'), (5, vI y), (0, vR 15 0), (1, vI x)], [], h) = mj_R mg (d + 2) mq_201 (101, [(4, vI (nI (8 * (j + 1)))), (5, vI z), (3, vI b), (2, vI c'), (0, vR 15 0), (1, vI x)], [], h') ∧ yTx (tx1 (t, n) (sgn x j)).1 (tx1 (t, n) (sgn x j)).2 h' ∧ (∀ g i k, ¬ ((g = 72 ∧ i = 0) ∨ (g = 15 ∧ i = 0 ∧ k = 2)) → h'.1 g i k = h.1 g i k) ∧ h'.2 = h.2 := by
  obtain ⟨e1, e2⟩ := sgn_e x j
  have e8 : nI (8 * j) + 8 = nI (8 * (j + 1)) := by
    show nI (8 * j) + nI 8 = _
    rw [nI_add, show 8 * j + 8 = 8 * (j + 1) by omega]
  obtain ⟨a1, a2, a3⟩ := a
  rw [q_201_101_3, if_neg (show ¬ (32 : Int32) ≤ nI (8 * j) from nI_ge (a := 8 * j) (b := 32) (by omega) (by omega)), e1, a2]
  unfold tx1
  by_cases c0 : sgn x j = 0
  · rw [if_pos (show nI (sgn x j) = 0 by rw [c0]; rfl), q_201_144, e8, if_pos c0]
    exact ⟨h, _, rfl, ⟨a1, a2, a3⟩, fun _ _ _ _ => rfl, rfl⟩
  · have on : one (sgn x j) = 1 := if_neg c0
    have cm : sgn x j = 10 ∨ (32 ≤ sgn x j ∧ sgn x j ≤ 126) := by
      rcases c with z | z | z
      · exact (c0 z).elim
      · exact Or.inl z
      · exact Or.inr z
    rw [if_neg (nI_ne0 (by omega) (by omega)), if_pos (in_n (by omega) (by omega)), nI_clamp (by omega), q_201_144, e8, if_neg c0]
    refine ⟨_, _, rfl, ⟨⟨by show n + 1 ≤ 3000; omega, fun k hk => ?_⟩, by rw [mI_same, nI_succ], fun k hk => ?_⟩, fun g i k z => by rw [mI_1, if_neg (by omega), mI_1, if_neg (by omega)], rfl⟩
    · have hk : k < n + 1 := hk
      show (if k = n then _ else _) = 10 ∨ (32 ≤ (if k = n then _ else _) ∧ (if k = n then _ else _) ≤ 126)
      by_cases ek : k = n
      · rw [if_pos ek]; exact cm
      · rw [if_neg ek]; exact a1.2 k (by omega)
    · have hk : k < n + 1 := hk
      show _ = nI (if k = n then _ else _)
      rw [mI_1, if_neg (by omega), mI_1]
      by_cases ek : k = n
      · rw [if_pos ⟨rfl, rfl, ek⟩, if_pos ek]
      · rw [if_neg (fun z => ek z.2.2), if_neg ek]; exact a3 k (by omega)
theorem y_p22 {j : Nat} {y b c' : Int32} (hj : j < 4) (a : yTx t n h) (c : okS (sgn x j)) (hn : n + one (sgn x j) ≤ 3000) : ∃ h' z, mj_R mg (d + 2) mq_201 (101, [(4, vI (nI (8 * j))), (5, vI y), (3, vI b), (2, vI c'), (0, vR 15 0), (1, vI x)], [], h) = mj_R mg (d + 2) mq_201 (101, [(4, vI (nI (8 * (j + 1)))), (5, vI z), (3, vI b), (2, vI c'), (0, vR 15 0), (1, vI x)], [], h') ∧ yTx (tx1 (t, n) (sgn x j)).1 (tx1 (t, n) (sgn x j)).2 h' ∧ (∀ g i k, ¬ ((g = 72 ∧ i = 0) ∨ (g = 15 ∧ i = 0 ∧ k = 2)) → h'.1 g i k = h.1 g i k) ∧ h'.2 = h.2 := by
  obtain ⟨e1, e2⟩ := sgn_e x j
  have e8 : nI (8 * j) + 8 = nI (8 * (j + 1)) := by
    show nI (8 * j) + nI 8 = _
    rw [nI_add, show 8 * j + 8 = 8 * (j + 1) by omega]
  obtain ⟨a1, a2, a3⟩ := a
  rw [q_201_101_2, if_neg (show ¬ (32 : Int32) ≤ nI (8 * j) from nI_ge (a := 8 * j) (b := 32) (by omega) (by omega)), e1, a2]
  unfold tx1
  by_cases c0 : sgn x j = 0
  · rw [if_pos (show nI (sgn x j) = 0 by rw [c0]; rfl), q_201_144, e8, if_pos c0]
    exact ⟨h, _, rfl, ⟨a1, a2, a3⟩, fun _ _ _ _ => rfl, rfl⟩
  · have on : one (sgn x j) = 1 := if_neg c0
    have cm : sgn x j = 10 ∨ (32 ≤ sgn x j ∧ sgn x j ≤ 126) := by
      rcases c with z | z | z
      · exact (c0 z).elim
      · exact Or.inl z
      · exact Or.inr z
    rw [if_neg (nI_ne0 (by omega) (by omega)), if_pos (in_n (by omega) (by omega)), nI_clamp (by omega), q_201_144, e8, if_neg c0]
    refine ⟨_, _, rfl, ⟨⟨by show n + 1 ≤ 3000; omega, fun k hk => ?_⟩, by rw [mI_same, nI_succ], fun k hk => ?_⟩, fun g i k z => by rw [mI_1, if_neg (by omega), mI_1, if_neg (by omega)], rfl⟩
    · have hk : k < n + 1 := hk
      show (if k = n then _ else _) = 10 ∨ (32 ≤ (if k = n then _ else _) ∧ (if k = n then _ else _) ≤ 126)
      by_cases ek : k = n
      · rw [if_pos ek]; exact cm
      · rw [if_neg ek]; exact a1.2 k (by omega)
    · have hk : k < n + 1 := hk
      show _ = nI (if k = n then _ else _)
      rw [mI_1, if_neg (by omega), mI_1]
      by_cases ek : k = n
      · rw [if_pos ⟨rfl, rfl, ek⟩, if_pos ek]
      · rw [if_neg (fun z => ek z.2.2), if_neg ek]; exact a3 k (by omega)
def cdP (e : Nat) : Nat := if e = 1 then 1 else 2
theorem yTx.th (a : yTx t n h) (v : Int32) : yTx t n (mj_sI h 15 0 0 v) := ⟨a.1, by rw [mI_1, if_neg (by omega)]; exact a.2.1, fun j hj => by rw [mI_1, if_neg (by omega)]; exact a.2.2 j hj⟩
theorem y_put (a : yTx t n h) : ∃ h' v k, mj_R mg (d + 2) mq_201 (0, [(0, vR 15 0), (1, vI x)], [], h) = some (.inl (some (vI v), h')) ∧ h'.1 15 0 0 = nI k ∧ (aPut n x = .inl v ∧ k = 0 ∨ ∃ e, aPut n x = .inr e ∧ k = cdP e) ∧ yTx (tPut t n x).1 (tPut t n x).2 h' ∧ (∀ g i k, ¬ ((g = 72 ∧ i = 0) ∨ (g = 15 ∧ i = 0 ∧ (k = 2 ∨ k = 0))) → h'.1 g i k = h.1 g i k) ∧ h'.2 = h.2 := by
  unfold aPut tPut
  obtain ⟨z1, q1⟩ := y_p11 (d := d) (h := h) (x := x) (j := 0) (a := 0) (bd := false) (y := 0) (by omega)
  have q1 : mj_R mg (d + 2) mq_201 (7, [(4, vI 0), (3, vI 0), (2, vI 0), (0, vR 15 0), (1, vI x)], [], h) = _ := q1
  obtain ⟨z2, q2⟩ := y_p12 (d := d) (h := h) (x := x) (j := 1) (a := 0 + one (sgn x 0)) (bd := false || !decide (okS (sgn x 0))) (y := z1) (by omega)
  obtain ⟨z3, q3⟩ := y_p12 (d := d) (h := h) (x := x) (j := 2) (a := 0 + one (sgn x 0) + one (sgn x 1)) (bd := (false || !decide (okS (sgn x 0))) || !decide (okS (sgn x 1))) (y := z2) (by omega)
  obtain ⟨z4, q4⟩ := y_p12 (d := d) (h := h) (x := x) (j := 3) (a := 0 + one (sgn x 0) + one (sgn x 1) + one (sgn x 2)) (bd := ((false || !decide (okS (sgn x 0))) || !decide (okS (sgn x 1))) || !decide (okS (sgn x 2))) (y := z3) (by omega)
  have ec : 0 + one (sgn x 0) + one (sgn x 1) + one (sgn x 2) + one (sgn x 3) = cnt4 x := by unfold cnt4; omega
  have hn3 := a.1.1
  have o4 : cnt4 x ≤ 4 := by
    unfold cnt4 one
    split <;> split <;> split <;> split <;> omega
  rw [q_201_0, q1, q2, q3, q4, ec]
  generalize hbd : ((((false || !decide (okS (sgn x 0))) || !decide (okS (sgn x 1))) || !decide (okS (sgn x 2))) || !decide (okS (sgn x 3))) = bd
  have eb : bd = true ↔ ¬ (okS (sgn x 0) ∧ okS (sgn x 1) ∧ okS (sgn x 2) ∧ okS (sgn x 3)) := by
    rw [← hbd]
    by_cases c0 : okS (sgn x 0)
    · by_cases c1 : okS (sgn x 1)
      · by_cases c2 : okS (sgn x 2)
        · by_cases c3 : okS (sgn x 3)
          · rw [decide_eq_true c0, decide_eq_true c1, decide_eq_true c2, decide_eq_true c3]; exact ⟨(fun z => by cases z), fun z => (z ⟨c0, c1, c2, c3⟩).elim⟩
          · rw [decide_eq_false c3]; exact ⟨fun _ z => c3 z.2.2.2, fun _ => by simp⟩
        · rw [decide_eq_false c2]; exact ⟨fun _ z => c2 z.2.2.1, fun _ => by simp⟩
      · rw [decide_eq_false c1]; exact ⟨fun _ z => c1 z.2.1, fun _ => by simp⟩
    · rw [decide_eq_false c0]; exact ⟨fun _ z => c0 z.1, fun _ => by simp⟩
  rw [q_201_7_2, if_pos (show (32 : Int32) ≤ nI (8 * (3 + 1)) by decide)]
  cases bd with
  | true =>
    have nc := eb.mp rfl
    rw [if_pos (show ¬ bI true = 0 by decide), q_201_88_2, q_201_89_2, show bI true = 1 from rfl, y_rf1, mj_xi_ret, if_neg (by decide), if_neg nc, if_neg (fun z => nc z.1)]
    exact ⟨_, _, 1, rfl, mI_same, Or.inr ⟨1, rfl, rfl⟩, a.th _, fun g i k z => by rw [mI_1, if_neg (by omega)], rfl⟩
  | false =>
    have cc : okS (sgn x 0) ∧ okS (sgn x 1) ∧ okS (sgn x 2) ∧ okS (sgn x 3) := by
      by_cases z : okS (sgn x 0) ∧ okS (sgn x 1) ∧ okS (sgn x 2) ∧ okS (sgn x 3)
      · exact z
      · have := eb.mpr z; cases this
    obtain ⟨c0, c1, c2, c3⟩ := cc
    rw [if_neg (show ¬ ¬ bI false = 0 from fun z => z rfl), a.2.1, nI_add, if_pos (show okS (sgn x 0) ∧ okS (sgn x 1) ∧ okS (sgn x 2) ∧ okS (sgn x 3) from ⟨c0, c1, c2, c3⟩)]
    by_cases cn : n + cnt4 x ≤ 3000
    · rw [if_pos (show nI (n + cnt4 x) ≤ 3000 from nI_le (b := 3000) cn (by omega)), if_pos cn, if_pos ⟨⟨c0, c1, c2, c3⟩, cn⟩, q_201_88_2, q_201_89_2, show bI false = 0 from rfl, y_rf0, mj_xi_ret, if_pos rfl]
      have n0 := tx1_n (t, n) (sgn x 0)
      have n0 : (tx1 (t, n) (sgn x 0)).2 = n + one (sgn x 0) := n0
      obtain ⟨h1, y1, r1, b1, f1, g1⟩ := y_p23 (d := d) (x := x) (j := 0) (y := z4) (b := nI (cnt4 x)) (c' := 0) (by omega) (a.th 0) c0 (by unfold cnt4 at cn; omega)
      have r1 : mj_R mg (d + 2) mq_201 (101, [(4, vI 0), (3, vI (nI (cnt4 x))), (2, vI 0), (5, vI z4), (0, vR 15 0), (1, vI x)], [], mj_sI h 15 0 0 0) = _ := r1
      have n1 := tx1_n (tx1 (t, n) (sgn x 0)) (sgn x 1)
      obtain ⟨h2, y2, r2, b2, f2, g2⟩ := y_p22 (d := d) (x := x) (j := 1) (y := y1) (b := nI (cnt4 x)) (c' := 0) (by omega) b1 c1 (by unfold cnt4 at cn; omega)
      have n2 := tx1_n (tx1 (tx1 (t, n) (sgn x 0)) (sgn x 1)) (sgn x 2)
      obtain ⟨h3, y3, r3, b3, f3, g3⟩ := y_p22 (d := d) (x := x) (j := 2) (y := y2) (b := nI (cnt4 x)) (c' := 0) (by omega) b2 c2 (by unfold cnt4 at cn; show (tx1 (tx1 (t, n) (sgn x 0)) (sgn x 1)).2 + _ ≤ _; omega)
      obtain ⟨h4, y4, r4, b4, f4, g4⟩ := y_p22 (d := d) (x := x) (j := 3) (y := y3) (b := nI (cnt4 x)) (c' := 0) (by omega) b3 c3 (by unfold cnt4 at cn; show (tx1 (tx1 (tx1 (t, n) (sgn x 0)) (sgn x 1)) (sgn x 2)).2 + _ ≤ _; omega)
      have b4 : yTx (tx4 (t, n) x).1 (tx4 (t, n) x).2 h4 := b4
      have ff : ∀ g i k, ¬ ((g = 72 ∧ i = 0) ∨ (g = 15 ∧ i = 0 ∧ k = 2)) → h4.1 g i k = (mj_sI h 15 0 0 0).1 g i k := fun g i k z => (f4 g i k z).trans ((f3 g i k z).trans ((f2 g i k z).trans (f1 g i k z)))
      refine ⟨h4, nI (n + cnt4 x), 0, ?_, (ff 15 0 0 (by omega)).trans mI_same, Or.inl ⟨rfl, rfl⟩, b4, fun g i k z => (ff g i k (by omega)).trans (by rw [mI_1, if_neg (by omega)]), g4.trans (g3.trans (g2.trans g1))⟩
      rw [r1, r2, r3, r4, q_201_101_2, if_pos (show (32 : Int32) ≤ nI (8 * (3 + 1)) by decide), b4.2.1, tx4_n]
    · rw [if_neg (show ¬ nI (n + cnt4 x) ≤ 3000 from nI_ge (a := 3000) (by omega) (by omega)), if_neg cn, if_neg (fun z => cn z.2), q_201_89_2, show bI false = 0 from rfl, y_rf2, mj_xi_ret, if_neg (by decide)]
      exact ⟨_, _, 2, rfl, mI_same, Or.inr ⟨5, rfl, rfl⟩, a.th _, fun g i k z => by rw [mI_1, if_neg (by omega)], rfl⟩
end
