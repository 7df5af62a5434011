/-! what is told: run, beat, rounds, outcome, keys, with what is refused (both) -/
section
variable {G : PgS} {B : Bg} {S S' : Sy} {h0 h h' : mj_H} {d : Nat}
/-- what is answered: the state, the answer -/
def cEnd (G : PgS) (S : Sy) (v : Int32) (h0 : mj_H) (R : Option mj_O) : Prop := ∃ h', R = some (.inl (some (vI v), h')) ∧ RSy G S h' ∧ fSy h0 h'
def yEnd (G : PgS) (S : Sy) (v : Int32) (h0 : mj_H) (R : Option mj_O) : Prop := ∃ h', R = some (.inl (some (vI v), h')) ∧ YT G S h' ∧ yFA h0 h' ∧ h'.1 15 0 0 = 0
theorem lt_n {x : Int32} {n : Nat} (c : 0 ≤ x ∧ x ≤ nI n) (hn : n < 2 ^ 31) : x = nI x.toNatClampNeg ∧ x.toNatClampNeg ≤ n := by
  have c1 : 0 ≤ x.toInt := Int32.le_iff_toInt_le.mp c.1
  have c2 := Int32.le_iff_toInt_le.mp c.2
  rw [nI_toInt hn] at c2
  have e3 : x.toNatClampNeg = x.toInt.toNat := rfl
  refine ⟨(n_cl (fun z => by
    have : x.toInt < 0 := Int32.lt_iff_toInt_lt.mp z
    omega)).1, by omega⟩
theorem k_aRun {p n m : Int32} (a : RSy G S h) (g : RG G h) (st : sStl G S) (c : isQ G p) (c2 : 0 ≤ n ∧ n ≤ nI 5000) (e : sRun G p.toNatClampNeg n.toNatClampNeg S 0 = some (m, S')) : cEnd G S' m h (mj_R mg (d + 8) mq_21 (0, [(0, vR 2 0), (1, vI p), (2, vI n)], [], h)) := by
  have hp := (q_ix c.1).2
  obtain ⟨n1, n2⟩ := lt_n c2 (by omega)
  have e5 : mj_R mg (d + 7) mq_0 (0, [(0, vL ((n : Int32).toInt64)), (2, vL 0), (4, vL 5000)], [], h) = _ := k_is (d := d + 7) (h := h) (x := n) (c := 5000) (by omega)
  obtain ⟨h1, q1, a1, f1⟩ := k_runs (d := d) (x1 := p) hp c.2 n.toNatClampNeg 0 S S' h 0 m (by omega) rfl a g st e
  rw [Nat.zero_add, ← n1] at q1
  rw [q_21_0, k_coreOf g c, mj_xr_r, e5, mj_xi_ret, k_need, if_pos (decide_eq_true c2), mj_xv_ret, q1]
  exact ⟨_, rfl, a1, f1⟩
theorem k_xRun {p n : Int32} (g : RG G h) (c : ¬ (isQ G p ∧ 0 ≤ n ∧ n ≤ nI 5000)) : mj_R mg (d + 2) mq_21 (0, [(0, vR 2 0), (1, vI p), (2, vI n)], [], h) = rsl (.inr (if isQ G p then 1 else 4)) h := by
  by_cases c1 : isQ G p
  · have e5 : mj_R mg (d + 1) mq_0 (0, [(0, vL ((n : Int32).toInt64)), (2, vL 0), (4, vL 5000)], [], h) = _ := k_is (d := d + 1) (h := h) (x := n) (c := 5000) (by omega)
    have c2 : ¬ (0 ≤ n ∧ n ≤ nI 5000) := fun z => c ⟨c1, z⟩
    rw [if_pos c1, q_21_0, k_coreOf g c1, mj_xr_r, e5, mj_xi_ret, k_need, if_neg (by rw [decide_eq_false c2]; decide)]; rfl
  · rw [if_neg c1, q_21_0, k_coreN g c1]; rfl
theorem y_aRun {p n m : Int32} (a : YT G S h) (g : YG G h) (c : isQ G p) (c2 : 0 ≤ n ∧ n ≤ nI 5000) (e : sRun G p.toNatClampNeg n.toNatClampNeg S 0 = some (m, S')) : yEnd G S' m h (mj_R mg (d + 7) mq_352 (0, [(0, vR 15 0), (1, vI p), (2, vI n)], [], h)) := by
  obtain ⟨p1, hp⟩ := q_ix c.1
  obtain ⟨n1, n2⟩ := lt_n c2 (by omega)
  have F : yFA h (mj_sI h 15 0 0 0) := yFA.th 0
  obtain ⟨h1, q1, a1, f1⟩ := y_runs (d := d) hp c.2 n.toNatClampNeg 0 S S' (mj_sI h 15 0 0 0) 0 m (by omega) rfl (a.th 0) (g.ma F) e
  rw [Nat.zero_add, ← n1, ← p1] at q1
  rw [y_g352 (d := d + 5) g, if_pos c, if_pos c2, q_352_64, y_rf0, mj_xi_ret, if_pos rfl, q1]
  exact ⟨_, rfl, a1, F.tr f1.a, (f1.1 15 0 0 (by omega)).trans mI_same⟩
theorem y_xRun {p n : Int32} (g : YG G h) (c : ¬ (isQ G p ∧ 0 ≤ n ∧ n ≤ nI 5000)) : mj_R mg (d + 2) mq_352 (0, [(0, vR 15 0), (1, vI p), (2, vI n)], [], h) = yrs cdA (.inr (if isQ G p then 1 else 4)) h := by
  rw [y_g352 g]
  by_cases c1 : isQ G p
  · rw [if_pos c1, if_pos c1, if_neg (fun z => c ⟨c1, z⟩)]
  · rw [if_neg c1, if_neg c1]
theorem k_aBt {n m : Int32} (a : RSy G S h) (g : RG G h) (c2 : 0 ≤ n ∧ n ≤ nI 1000) (e : sBn G n.toNatClampNeg S 0 = some (m, S')) : cEnd G S' m h (mj_R mg (d + 6) mq_24 (0, [(0, vR 2 0), (1, vI n)], [], h)) := by
  obtain ⟨n1, n2⟩ := lt_n c2 (by omega)
  have e5 : mj_R mg (d + 5) mq_0 (0, [(0, vL ((n : Int32).toInt64)), (2, vL 0), (4, vL 1000)], [], h) = _ := k_is (d := d + 5) (h := h) (x := n) (c := 1000) (by omega)
  obtain ⟨h1, q1, a1, f1⟩ := k_bn (d := d) n.toNatClampNeg 0 S S' h 0 m (by omega) a g e
  rw [Nat.zero_add, ← n1] at q1
  have q1 : mj_R mg (d + 6) mq_24 (20, [(3, vI 0), (2, vI 0), (0, vR 2 0), (1, vI n)], [], h) = _ := q1
  rw [q_24_0, k_must g, mj_xv_ret, e5, mj_xi_ret, k_need, if_pos (decide_eq_true c2), mj_xv_ret, q1]
  exact ⟨_, rfl, a1, f1⟩
theorem k_xBt {n : Int32} (g : RG G h) (c2 : ¬ (0 ≤ n ∧ n ≤ nI 1000)) : mj_R mg (d + 2) mq_24 (0, [(0, vR 2 0), (1, vI n)], [], h) = rsl (.inr 1) h := by
  have e5 : mj_R mg (d + 1) mq_0 (0, [(0, vL ((n : Int32).toInt64)), (2, vL 0), (4, vL 1000)], [], h) = _ := k_is (d := d + 1) (h := h) (x := n) (c := 1000) (by omega)
  rw [q_24_0, k_must g, mj_xv_ret, e5, mj_xi_ret, k_need, if_neg (by rw [decide_eq_false c2]; decide)]; rfl
theorem y_aBt {n m : Int32} (a : YT G S h) (g : YG G h) (st : sStl G S) (c2 : 0 ≤ n ∧ n ≤ nI 1000) (e : sBn G n.toNatClampNeg S 0 = some (m, S')) : yEnd G S' m h (mj_R mg (d + 8) mq_353 (0, [(0, vR 15 0), (1, vI n)], [], h)) := by
  obtain ⟨n1, n2⟩ := lt_n c2 (by omega)
  have eb : (1000 : Int32) = nI 1000 := rfl
  have F : yFA h (mj_sI h 15 0 0 0) := yFA.th 0
  obtain ⟨h1, q1, a1, f1⟩ := y_bn (d := d) n.toNatClampNeg 0 S S' (mj_sI h 15 0 0 0) 0 m (by omega) (a.th 0) (g.ma F) st e
  rw [Nat.zero_add, ← n1] at q1
  have q1 : mj_R mg (d + 8) mq_353 (49, [(3, vI 0), (2, vI 0), (0, vR 15 0), (1, vI n)], [], _) = _ := q1
  rw [q_353_0, if_pos g.2.2.2.2, q_353_13, if_neg g.2.2.2.2, eb, y_199, mj_xi_ret, decide_eq_true c2, if_pos (by decide), q_353_35, q_353_36, y_rf0, mj_xi_ret, if_pos rfl, q1]
  exact ⟨_, rfl, a1, F.tr f1.a, (f1.1 15 0 0 (by omega)).trans mI_same⟩
theorem y_xBt {n : Int32} (g : YG G h) (c2 : ¬ (0 ≤ n ∧ n ≤ nI 1000)) : mj_R mg (d + 1) mq_353 (0, [(0, vR 15 0), (1, vI n)], [], h) = yrs cdB (.inr 1) h := by
  have eb : (1000 : Int32) = nI 1000 := rfl
  rw [q_353_0, if_pos g.2.2.2.2, q_353_13, if_neg g.2.2.2.2, eb, y_199, mj_xi_ret, decide_eq_false c2, if_neg (fun z => z (by decide)), q_353_36, y_rf2, mj_xi_ret, if_neg (by decide)]; rfl
theorem k_aRs {n m : Int32} (a : RSy G S h) (g : RG G h) (st : sStl G S) (c2 : 0 ≤ n ∧ n ≤ nI 5000) (e : sRs G n.toNatClampNeg S 0 = some (m, S')) : cEnd G S' m h (mj_R mg (d + 8) mq_25 (0, [(0, vR 2 0), (1, vI n)], [], h)) := by
  obtain ⟨n1, n2⟩ := lt_n c2 (by omega)
  have e5 : mj_R mg (d + 7) mq_0 (0, [(0, vL ((n : Int32).toInt64)), (2, vL 0), (4, vL 5000)], [], h) = _ := k_is (d := d + 7) (h := h) (x := n) (c := 5000) (by omega)
  obtain ⟨h1, q1, a1, f1⟩ := k_rs1 (d := d) n.toNatClampNeg 0 S S' h 0 m (by omega) rfl a g st e
  rw [Nat.zero_add, ← n1] at q1
  rw [q_25_0, k_must g, mj_xv_ret, e5, mj_xi_ret, k_need, if_pos (decide_eq_true c2), mj_xv_ret, q1]
  exact ⟨_, rfl, a1, f1⟩
theorem k_xRs {n : Int32} (g : RG G h) (c2 : ¬ (0 ≤ n ∧ n ≤ nI 5000)) : mj_R mg (d + 2) mq_25 (0, [(0, vR 2 0), (1, vI n)], [], h) = rsl (.inr 1) h := by
  have e5 : mj_R mg (d + 1) mq_0 (0, [(0, vL ((n : Int32).toInt64)), (2, vL 0), (4, vL 5000)], [], h) = _ := k_is (d := d + 1) (h := h) (x := n) (c := 5000) (by omega)
  rw [q_25_0, k_must g, mj_xv_ret, e5, mj_xi_ret, k_need, if_neg (by rw [decide_eq_false c2]; decide)]; rfl
theorem y_aRs {n m : Int32} (a : YT G S h) (g : YG G h) (st : sStl G S) (c2 : 0 ≤ n ∧ n ≤ nI 5000) (e : sRs G n.toNatClampNeg S 0 = some (m, S')) : yEnd G S' m h (mj_R mg (d + 8) mq_354 (0, [(0, vR 15 0), (1, vI n)], [], h)) := by
  obtain ⟨n1, n2⟩ := lt_n c2 (by omega)
  have eb : (5000 : Int32) = nI 5000 := rfl
  have F : yFA h (mj_sI h 15 0 0 0) := yFA.th 0
  obtain ⟨h1, q1, a1, f1⟩ := y_rs1 (d := d) n.toNatClampNeg 0 S S' (mj_sI h 15 0 0 0) 0 m (by omega) rfl (a.th 0) (g.ma F) st e
  rw [Nat.zero_add, ← n1] at q1
  rw [q_354_0, if_pos g.2.2.2.2, q_354_13, if_neg g.2.2.2.2, eb, y_199, mj_xi_ret, decide_eq_true c2, if_pos (by decide), q_354_35, q_354_36, y_rf0, mj_xi_ret, if_pos rfl, q1]
  exact ⟨_, rfl, a1, F.tr f1.a, (f1.1 15 0 0 (by omega)).trans mI_same⟩
theorem y_xRs {n : Int32} (g : YG G h) (c2 : ¬ (0 ≤ n ∧ n ≤ nI 5000)) : mj_R mg (d + 1) mq_354 (0, [(0, vR 15 0), (1, vI n)], [], h) = yrs cdB (.inr 1) h := by
  have eb : (5000 : Int32) = nI 5000 := rfl
  rw [q_354_0, if_pos g.2.2.2.2, q_354_13, if_neg g.2.2.2.2, eb, y_199, mj_xi_ret, decide_eq_false c2, if_neg (fun z => z (by decide)), q_354_36, y_rf2, mj_xi_ret, if_neg (by decide)]; rfl
theorem y_aOut (a : YT G S h) (g : YG G h) : mj_R mg (d + 1) mq_355 (0, [(0, vR 15 0)], [], h) = yrs cdB (.inl (sOut G S)) h := by
  have F : yFA h (mj_sI h 15 0 0 0) := yFA.th 0
  rw [q_355_0, if_pos g.2.2.2.2, q_355_13, y_rf0, mj_xi_ret, if_pos rfl, y_out (a.th 0) (g.ma F), mj_xi_ret, q_355_29]; rfl
theorem k_xInp {v : Int32} (a : RSy G S h) (g : RG G h) (c : S.2.1.1 1 = 200) : mj_R mg (d + 1) mq_20 (0, [(0, vR 2 0), (1, vI v)], [], h) = rsl (.inr 5) h := by
  rw [q_20_0, k_must g, mj_xv_ret, a.2.1.1 1 (by omega), if_neg (fun z => z c)]; rfl
theorem y_xInp {v : Int32} (a : YT G S h) (g : YG G h) (c : S.2.1.1 1 = 200) : mj_R mg (d + 1) mq_350 (0, [(0, vR 15 0), (1, vI v)], [], h) = yrs cdB (.inr 5) h := by
  rw [q_350_0, if_pos g.2.2.2.2, q_350_13, if_neg g.2.2.2.2, a.2.2.1.1.1, if_neg (fun z => z c), q_350_35, y_rf2, mj_xi_ret, if_neg (by decide)]; rfl
end
