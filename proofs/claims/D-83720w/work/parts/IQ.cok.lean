/-! an instruction: the twin's answer -/
section
variable {G : PgS} {B : Bg} {S S' : Sy} {h0 h h' : mj_H} {d : Nat}
theorem y_dc1 {p n k : Nat} {x3 x4 x5 y : Int32} (hp : p < 6) (hn : n ≤ 6000) (hs : h.1 126 0 p = nI n) (ha : k < n) : mj_R mg (d + 1) mq_359 (108, [(8, vI 2), (7, vI 0), (6, vI 0), (5, vI x5), (4, vI x4), (0, vR 15 0), (1, vI (nI p)), (2, vI (nI k)), (3, vI x3)], [], h) = mj_R mg (d + 1) mq_359 (108, [(7, vI (nI (k - k))), (6, vI 0), (8, vI 2), (9, vI y), (5, vI x5), (4, vI x4), (0, vR 15 0), (1, vI (nI p)), (2, vI (nI k)), (3, vI x3)], [], h) := by
  have ip := yp_in hp
  have e0 : nI (k - k) = 0 := by rw [Nat.sub_self]; rfl
  have ek : nI k + 0 = nI k := Int32.add_zero _
  rw [e0, q_359_108, q_359_108_2, if_pos rfl, if_pos rfl, q_359_121, q_359_121_2, if_pos ip, if_pos ip, nI_clamp (show p < 2 ^ 31 by omega), hs, ek, if_neg (nI_ge ha (by omega)), if_neg (nI_ge ha (by omega))]
theorem y_aIn {p k x : Int32} (g : YG G h) (b : YB G B h) (ok : okBg G B) (cb : ∀ p, p < 6 → G.1 p = true → ∀ x, x < (B p).1 → G.2.2.2.2 p x < 256) (hl : ∀ p, p < 6 → G.1 p = true → ¬ G.2.2.2.2 p ((B p).1 - 1) / 16 = 2 ∧ ¬ G.2.2.2.2 p ((B p).1 - 1) / 16 = 6) : mj_R mg (d + 3) mq_359 (0, [(0, vR 15 0), (1, vI p), (2, vI k), (3, vI x)], [], h) = yrs cdI (aIn G B p k x) h := by
  have e2 : (2 : Int32) = nI 2 := rfl
  unfold aIn
  rw [q_359_0, if_neg g.2.2.2.2, y_isc g, mj_xi_ret]
  by_cases c : isQ G p
  · obtain ⟨i1, i2⟩ := q_ix c.1
    obtain ⟨o1, -⟩ := ok _ i2 c.2
    obtain ⟨b1, -⟩ := b _ i2 c.2
    rw [if_pos c, decide_eq_true c, if_neg (by decide), q_359_20, if_neg (by decide), y_isb g b ok, mj_xi_ret]
    by_cases c2 : 0 ≤ k ∧ k < nI (B p.toNatClampNeg).1
    · have x1 : 0 ≤ k.toInt := Int32.le_iff_toInt_le.mp c2.1
      have x2 := Int32.lt_iff_toInt_lt.mp c2.2
      rw [nI_toInt (by omega)] at x2
      have e3 : k.toNatClampNeg = k.toInt.toNat := rfl
      have ek : k = nI k.toNatClampNeg := (n_cl (fun z => by
        have : k.toInt < 0 := Int32.lt_iff_toInt_lt.mp z
        omega)).1
      have kb : k.toNatClampNeg < (B p.toNatClampNeg).1 := by omega
      have f2 : mj_R mg (d + 2) mq_199 (0, [(0, vI x), (1, vI 0), (2, vI 2)], [], h) = some (.inl (some (vI (bI (decide (0 ≤ x ∧ x ≤ nI 2)))), h)) := y_199
      rw [if_pos c2, decide_eq_true ⟨c, c2⟩, if_neg (by decide), q_359_41, if_pos g.2.2.2.2, if_pos (by decide), if_pos (by decide), f2, mj_xi_ret]
      by_cases c3 : 0 ≤ x ∧ x ≤ nI 2
      · have hs : (mj_sI h 15 0 0 0).1 126 0 p.toNatClampNeg = nI (B p.toNatClampNeg).1 := by rw [i_0 (by omega)]; exact b1
        have hc : ∀ x, x < (B p.toNatClampNeg).1 → G.2.2.2.2 p.toNatClampNeg x < 256 ∧ (mj_sI h 15 0 0 0).1 125 0 (6000 * p.toNatClampNeg + x) = nI (G.2.2.2.2 p.toNatClampNeg x) := fun x hx => ⟨cb _ i2 c.2 x hx, by rw [i_0 (by omega)]; exact g.2.2.2.1 _ i2 c.2 x (by omega) (cb _ i2 c.2 x hx)⟩
        rw [if_pos c3, decide_eq_true c3, if_pos (by decide), q_359_87, if_pos (by decide)]
        have D1 := y_dc1 (d := d + 2) (h := mj_sI h 15 0 0 0) (p := p.toNatClampNeg) (k := k.toNatClampNeg) (x3 := x) (x4 := 1) (x5 := 1) (y := 0) i2 o1 hs kb
        rw [← ek, ← i1] at D1
        have D2 := y_dc (d := d + 2) (h := mj_sI h 15 0 0 0) (p := p.toNatClampNeg) (k := k.toNatClampNeg) (x3 := x) (x4 := 1) (x5 := 1) (cd := G.2.2.2.2 p.toNatClampNeg) i2 hc o1 hs (hl _ i2 c.2) ((B p.toNatClampNeg).1 - 1 - k.toNatClampNeg) k.toNatClampNeg 0 0 2 (by omega) (Nat.le_refl _) kb (Or.inl rfl)
        rw [← ek, ← i1] at D2
        have D1 : mj_R mg (d + 3) mq_359 (108, [(8, vI 2), (7, vI 0), (6, vI 0), (5, vI 1), (4, vI 1), (0, vR 15 0), (1, vI p), (2, vI k), (3, vI x)], [], mj_sI h 15 0 0 0) = _ := D1
        rw [D1, D2]
        rfl
      · rw [if_neg c3, decide_eq_false c3, if_neg (fun z => z (by decide)), q_359_87, if_neg (by decide)]; rfl
    · rw [if_neg c2, decide_eq_false (fun z => c2 z.2), if_pos (by decide), q_359_40, q_359_41, if_pos g.2.2.2.2, if_pos (by decide), if_neg (fun z => z rfl), q_359_87, if_neg (by decide)]; rfl
  · rw [if_neg c, decide_eq_false c, if_pos (by decide), q_359_19, q_359_20, if_pos rfl, q_359_40, q_359_41, if_pos g.2.2.2.2, if_neg (fun z => z rfl), q_359_87, if_neg (by decide)]; rfl
end
