/-! what is asked: the twin's, more -/
section
variable {G : PgS} {B : Bg} {S S' : Sy} {h0 h h' : mj_H} {d p : Nat}
theorem ix_le {x : Int32} {n : Nat} (hn : n < 2 ^ 31) : (0 ≤ x ∧ x ≤ nI n - 1) ↔ (0 ≤ x ∧ x < nI n) := by
  rw [Int32.le_iff_toInt_le, Int32.le_iff_toInt_le, Int32.lt_iff_toInt_lt, nI_toInt hn]
  have e : (nI n - 1).toInt = (n : Int) - 1 := by
    rw [Int32.toInt_sub, nI_toInt hn]
    show Int.bmod ((n : Int) - 1) (2 ^ 32) = _
    rw [Int.bmod_eq_of_le (by omega) (by omega)]
  rw [e]
  show (0 : Int) ≤ x.toInt ∧ _ ↔ (0 : Int) ≤ x.toInt ∧ _
  omega
theorem q_ix {x : Int32} (c : mj_in x 6) : x = nI x.toNatClampNeg ∧ x.toNatClampNeg < 6 := by
  have e3 : x.toNatClampNeg = x.toInt.toNat := rfl
  have := c.1; have := c.2
  refine ⟨(n_cl (fun z => by
    have : x.toInt < 0 := Int32.lt_iff_toInt_lt.mp z
    omega)).1, by omega⟩
theorem y_isb {p x : Int32} (g : YG G h) (b : YB G B h) (ok : okBg G B) : mj_R mg (d + 2) mq_357 (0, [(0, vR 15 0), (1, vI p), (2, vI x)], [], h) = some (.inl (some (vI (bI (decide (isQ G p ∧ 0 ≤ x ∧ x < nI (B p.toNatClampNeg).1)))), h)) := by
  have e5 : (5 : Int32) = nI 5 := rfl
  rw [q_357_0, y_isc g, mj_xi_ret]
  by_cases c : isQ G p
  · obtain ⟨i1, i2⟩ := q_ix c.1
    obtain ⟨e1, -⟩ := b _ i2 c.2
    obtain ⟨o1, -⟩ := ok _ i2 c.2
    rw [decide_eq_true c, if_neg (by decide), e5, y_199, mj_xi_ret, decide_eq_true (in_6.mp c.1), if_neg (by decide), q_357_28, if_pos c.1, e1, y_199, mj_xi_ret]
    by_cases c2 : 0 ≤ x ∧ x < nI (B p.toNatClampNeg).1
    · rw [decide_eq_true ((ix_le (by omega)).mpr c2), if_neg (by decide), q_357_42, if_pos (Or.inr rfl), decide_eq_true ⟨c, c2⟩]; rfl
    · rw [decide_eq_false (fun z => c2 ((ix_le (by omega)).mp z)), if_pos (by decide), q_357_41, q_357_42, if_pos (Or.inl rfl), decide_eq_false (fun z => c2 z.2)]; rfl
  · rw [decide_eq_false c, if_pos (by decide), q_357_41, q_357_42, if_pos (Or.inl rfl), decide_eq_false (fun z => c z.1)]; rfl
theorem y_aCd {p x : Int32} (g : YG G h) (b : YB G B h) (ok : okBg G B) (cb : ∀ p, p < 6 → G.1 p = true → ∀ x, x < (B p).1 → G.2.2.2.2 p x < 256) : mj_R mg (d + 3) mq_358 (0, [(0, vR 15 0), (1, vI p), (2, vI x)], [], h) = yrs cdA (aCd G B p x) h := by
  unfold aCd
  rw [q_358_0, if_pos g.2.2.2.2, q_358_13, if_neg g.2.2.2.2, y_isc g, mj_xi_ret]
  by_cases c : isQ G p
  · obtain ⟨i1, i2⟩ := q_ix c.1
    obtain ⟨o1, -⟩ := ok _ i2 c.2
    rw [if_pos c, decide_eq_true c, if_pos (by decide), q_358_32, q_358_33, if_neg g.2.2.2.2, y_isc g, mj_xi_ret, decide_eq_true c, if_neg (by decide), y_isb g b ok, mj_xi_ret]
    by_cases c2 : 0 ≤ x ∧ x < nI (B p.toNatClampNeg).1
    · have x1 : 0 ≤ x.toInt := Int32.le_iff_toInt_le.mp c2.1
      have x2 := Int32.lt_iff_toInt_lt.mp c2.2
      rw [nI_toInt (by omega)] at x2
      have e3 : x.toNatClampNeg = x.toInt.toNat := rfl
      have ex : x = nI x.toNatClampNeg := (n_cl (fun z => by
        have : x.toInt < 0 := Int32.lt_iff_toInt_lt.mp z
        omega)).1
      have ea : (6000 : Int32) * p + x = nI (6000 * p.toNatClampNeg + x.toNatClampNeg) := by
        rw [i1, ex, nI_clamp (by omega), nI_clamp (by omega)]
        show nI 6000 * nI _ + _ = _
        rw [nI_mul, nI_add]
      rw [if_pos c2, decide_eq_true ⟨c, c2⟩, if_pos (by decide), q_358_61, q_358_62, y_rf0, mj_xi_ret, if_pos rfl, ea, if_pos (in_n (by omega) (by omega)), nI_clamp (by omega), i_0 (by omega), g.2.2.2.1 _ i2 c.2 _ (by omega) (cb _ i2 c.2 _ (by omega))]; rfl
    · rw [if_neg c2, decide_eq_false (fun z => c2 z.2), if_neg (fun z => z (by decide)), q_358_62, y_rf3, mj_xi_ret, if_neg (by decide)]; rfl
  · rw [if_neg c, decide_eq_false c, if_neg (fun z => z (by decide)), q_358_33, if_neg g.2.2.2.2, y_isc g, mj_xi_ret, decide_eq_false c, if_pos (by decide), q_358_61, q_358_62, y_rf2, mj_xi_ret, if_neg (by decide)]; rfl
theorem y_aLk {l x : Int32} (a : YT G S h) (g : YG G h) : mj_R mg (d + 1) mq_360 (0, [(0, vR 15 0), (1, vI l), (2, vI x)], [], h) = yrs cdL (aLk G S l x) h := by
  have hn := g.2.2.1.2
  have e5 : (5 : Int32) = nI 5 := rfl
  unfold aLk
  rw [q_360_0, g.2.2.1.1, y_199, mj_xi_ret, if_pos g.2.2.2.2, q_360_25, if_neg g.2.2.2.2]
  by_cases c2 : 0 ≤ l ∧ l ≤ nI G.2.2.2.1 - 1
  · obtain ⟨i1, i2⟩ := ix_lt c2 (by omega)
    obtain ⟨f1, f2, f3, f4⟩ := g.2.1 _ i2
    have il : mj_in l 12 := by rw [i1]; exact in_n (by omega) (by omega)
    have il3 : mj_in l 13 := by rw [i1]; exact in_n (by omega) (by omega)
    obtain ⟨l1, l2, l3, l4, l5, l6⟩ := a.2.2.1.2.1 l.toNatClampNeg (by omega)
    rw [if_pos c2, decide_eq_true c2, if_pos (by decide), q_360_40, q_360_41, if_neg g.2.2.2.2, if_neg (by decide), y_199, mj_xi_ret]
    by_cases cx : 0 ≤ x ∧ x ≤ 5
    · rw [decide_eq_true cx, if_pos (by decide), q_360_65, q_360_66, y_rf0, mj_xi_ret, if_pos rfl, i_0 (by omega), i_0 (by omega), i_0 (by omega), i_0 (by omega), i_0 (by omega), i_0 (by omega), f1, f3, l4, l5, l1]
      by_cases x0 : x = 0
      · rw [if_pos x0, if_pos x0, if_pos il3]; rfl
      · rw [if_neg x0, if_neg x0]
        by_cases x1 : x = 1
        · rw [if_pos x1, if_pos x1, if_pos il3]; rfl
        · rw [if_neg x1, if_neg x1]
          by_cases x2 : x = 2
          · rw [if_pos x2, if_pos x2, if_pos il]; rfl
          · rw [if_neg x2, if_neg x2]
            by_cases x3 : x = 3
            · rw [if_pos x3, if_pos x3, if_pos il]
              by_cases z : S.2.1.2.1 l.toNatClampNeg 5 = 0
              · rw [if_pos z, q_360_143, if_pos z]; rfl
              · rw [if_neg z, q_360_143, if_neg z]; rfl
            · rw [if_neg x3, if_neg x3]
              by_cases x4 : x = 4
              · rw [if_pos x4, if_pos x4, if_pos il]
                by_cases z : S.2.1.2.1 l.toNatClampNeg 0 = 0
                · rw [if_pos z, q_360_158, if_pos z]; rfl
                · rw [if_neg z, q_360_158, if_neg z]; rfl
              · have x5 : x = 5 := by
                  have c3 : 0 ≤ x.toInt := Int32.le_iff_toInt_le.mp cx.1
                  have c4 : x.toInt ≤ 5 := Int32.le_iff_toInt_le.mp cx.2
                  have n0 : x.toInt ≠ 0 := fun z => x0 (Int32.toInt_inj.mp z)
                  have n1 : x.toInt ≠ 1 := fun z => x1 (Int32.toInt_inj.mp z)
                  have n2 : x.toInt ≠ 2 := fun z => x2 (Int32.toInt_inj.mp z)
                  have n3 : x.toInt ≠ 3 := fun z => x3 (Int32.toInt_inj.mp z)
                  have n4 : x.toInt ≠ 4 := fun z => x4 (Int32.toInt_inj.mp z)
                  exact Int32.toInt_inj.mp (show x.toInt = 5 by omega)
                rw [if_neg x4, if_neg x4, if_pos x5, if_pos il]
                by_cases z : S.2.1.2.1 l.toNatClampNeg 0 = 0
                · rw [if_pos z, q_360_178, if_pos z]; rfl
                · rw [if_neg z, if_pos il, l2 (Or.inl z), q_360_178, if_neg z]; rfl
    · have nx : ∀ v : Int32, 0 ≤ v ∧ v ≤ 5 → ¬ x = v := fun v hv z => cx (by rw [z]; exact hv)
      rw [decide_eq_false cx, if_neg (fun z => z (by decide)), q_360_66, y_rf3, mj_xi_ret, if_neg (by decide), if_neg (nx 0 (by decide)), if_neg (nx 1 (by decide)), if_neg (nx 2 (by decide)), if_neg (nx 3 (by decide)), if_neg (nx 4 (by decide)), if_neg (nx 5 (by decide))]; rfl
  · rw [if_neg c2, decide_eq_false c2, if_neg (fun z => z (by decide)), q_360_41, if_neg g.2.2.2.2, if_pos (by decide), q_360_65, q_360_66, y_rf2, mj_xi_ret, if_neg (by decide)]; rfl
theorem y_aRd {p x : Int32} (a : YT G S h) (g : YG G h) : mj_R mg (d + 2) mq_362 (0, [(0, vR 15 0), (1, vI p), (2, vI x)], [], h) = yrs cdA (aRd G S p x) h := by
  unfold aRd
  rw [q_362_0, if_neg g.2.2.2.2, y_isc g, mj_xi_ret]
  by_cases c : isQ G p
  · obtain ⟨i1, i2⟩ := q_ix c.1
    have C := (a.1 _ i2 c.2).1
    rw [if_pos c, decide_eq_true c, if_neg (by decide), q_362_20, if_neg (by decide)]
    have e2 : (2 : Int32) * p = nI (2 * p.toNatClampNeg) := by
      rw [i1, nI_clamp (by omega)]
      exact nI_mul 2 _
    have e22 : (2200 : Int32) * p = nI (2200 * p.toNatClampNeg) := by
      rw [i1, nI_clamp (by omega)]
      exact nI_mul 2200 _
    generalize p.toNatClampNeg = q at i2 C e2 e22 ⊢
    have e11 : (1100 : Int32) * nI (2 * q + 1) = nI (1100 * (2 * q + 1)) := nI_mul 1100 _
    have j1 := in_n (show 2 * q < 12 by omega) (show 12 < 2 ^ 31 by omega)
    have j2 := in_n (show 2 * q + 1 < 12 by omega) (show 12 < 2 ^ 31 by omega)
    obtain ⟨l1, b1, r1⟩ := C.2.2.2.2.1
    obtain ⟨l2, b2, r2⟩ := C.2.2.2.2.2
    rw [e2, if_pos j1, nI_clamp (by omega), l1, q_362_37, if_neg (by decide), e2, ← nI_succ, if_pos j2, nI_clamp (by omega), l2, nI_add, q_362_60, if_pos g.2.2.2.2, q_362_75, if_neg g.2.2.2.2, if_pos (by decide), q_362_90, q_362_91, if_neg (by decide), y_199, mj_xi_ret]
    by_cases c2 : 0 ≤ x ∧ x ≤ nI ((S.1 q).2.2.1.length + (S.1 q).2.2.2.length) - 1
    · obtain ⟨i1, i2⟩ := ix_lt c2 (by omega)
      rw [if_pos c2, decide_eq_true c2, if_pos (by decide), q_362_111, q_362_112, y_rf0, mj_xi_ret, if_pos rfl]
      unfold cRdy
      generalize x.toNatClampNeg = i at i1 i2
      subst i1
      by_cases z : i < (S.1 q).2.2.1.length
      · have gi : (S.1 q).2.2.1[i]? = some ((S.1 q).2.2.1.getD i 0) := by rw [List.getD_eq_getElem?_getD, List.getElem?_eq_getElem z]; rfl
        have k1 := (r1 i _ gi).2
        rw [if_neg (nI_ge z (by omega)), e22, nI_add, if_pos (in_n (by omega) (by omega)), nI_clamp (by omega), i_0 (by omega), show 2200 * q + i = 1100 * (2 * q) + i by omega, k1, q_362_160, if_pos z]; rfl
      · have gi : (S.1 q).2.2.2[i - (S.1 q).2.2.1.length]? = some ((S.1 q).2.2.2.getD (i - (S.1 q).2.2.1.length) 0) := by rw [List.getD_eq_getElem?_getD, List.getElem?_eq_getElem (by omega)]; rfl
        have k1 := (r2 _ _ gi).2
        rw [if_pos (nI_le (by omega) (by omega)), e2, ← nI_succ, e11, nI_add, nI_sub (by omega), if_pos (in_n (by omega) (by omega)), nI_clamp (by omega), i_0 (by omega), show 1100 * (2 * q + 1) + i - (S.1 q).2.2.1.length = 1100 * (2 * q + 1) + (i - (S.1 q).2.2.1.length) by omega, k1, q_362_160, if_neg z]; rfl
    · rw [if_neg c2, decide_eq_false c2, if_neg (fun z => z (by decide)), q_362_112, y_rf3, mj_xi_ret, if_neg (by decide)]; rfl
  · rw [if_neg c, decide_eq_false c, if_pos (by decide), q_362_19, q_362_20, if_pos rfl, q_362_37, if_pos rfl, q_362_60, if_pos g.2.2.2.2, q_362_75, if_neg g.2.2.2.2, if_neg (fun z => z rfl), q_362_91, if_pos rfl, q_362_111, q_362_112, y_rf2, mj_xi_ret, if_neg (by decide)]; rfl
theorem y_aWd {p x : Int32} (a : YT G S h) (g : YG G h) (b : YB G B h) (ok : okBg G B) (hM : ∀ p, p < 6 → G.1 p = true → (S.1 p).1 5 = nI (16 + (B p).2.1)) : mj_R mg (d + 2) mq_363 (0, [(0, vR 15 0), (1, vI p), (2, vI x)], [], h) = yrs cdA (aWd G B S p x) h := by
  unfold aWd
  rw [q_363_0, if_neg g.2.2.2.2, y_isc g, mj_xi_ret]
  by_cases c : isQ G p
  · obtain ⟨i1, i2⟩ := q_ix c.1
    have C := (a.1 _ i2 c.2).1
    have hm := hM _ i2 c.2
    obtain ⟨o1, o2, -⟩ := ok _ i2 c.2
    obtain ⟨e1, e2, sz, dp, e3, e4, e5, e6⟩ := b _ i2 c.2
    have k1 : (16 + nI sz + nI dp + 2 : Int32) = nI (16 + (B p.toNatClampNeg).2.1) - 1 := by
      show nI 16 + nI sz + nI dp + nI 2 = _ - nI 1
      rw [nI_add, nI_add, nI_add, nI_sub (by omega), ← e5]
      congr 1
      omega
    rw [if_pos c, decide_eq_true c, if_neg (by decide), q_363_20, if_neg (by decide), if_pos c.1, if_pos c.1, e3, e4, k1, y_199, mj_xi_ret]
    by_cases c2 : 0 ≤ x ∧ x ≤ nI (16 + (B p.toNatClampNeg).2.1) - 1
    · obtain ⟨i3, i4⟩ := ix_lt c2 (by omega)
      have ea : (4016 : Int32) * p + x = nI (4016 * p.toNatClampNeg + x.toNatClampNeg) := by
        rw [i1, i3, nI_clamp (by omega), nI_clamp (by omega)]
        exact yp_ad i2 (by omega)
      have mv := C.2.2.2.1 x.toNatClampNeg (by omega) (by rw [hm]; exact nI_lt i4 (by omega))
      rw [if_pos c2, decide_eq_true c2, if_neg (by decide), q_363_56, if_pos g.2.2.2.2, q_363_71, if_neg g.2.2.2.2, if_pos (by decide), q_363_86, q_363_87, if_neg (by decide), if_pos (by decide), q_363_100, q_363_101, y_rf0, mj_xi_ret, if_pos rfl, ea, if_pos (in_n (by omega) (by omega)), nI_clamp (by omega), i_0 (by omega), mv]; rfl
    · rw [if_neg c2, decide_eq_false c2, if_pos (by decide), q_363_55, q_363_56, if_pos g.2.2.2.2, q_363_71, if_neg g.2.2.2.2, if_pos (by decide), q_363_86, q_363_87, if_neg (by decide), if_neg (fun z => z rfl), q_363_101, y_rf3, mj_xi_ret, if_neg (by decide)]; rfl
  · rw [if_neg c, decide_eq_false c, if_pos (by decide), q_363_19, q_363_20, if_pos rfl, q_363_55, q_363_56, if_pos g.2.2.2.2, q_363_71, if_neg g.2.2.2.2, if_neg (fun z => z rfl), q_363_87, if_pos rfl, q_363_100, q_363_101, y_rf2, mj_xi_ret, if_neg (by decide)]; rfl
theorem y_aOu {x : Int32} (a : YT G S h) (g : YG G h) (hc : 0 ≤ S.2.1.1 4) : mj_R mg (d + 1) mq_364 (0, [(0, vR 15 0), (1, vI x)], [], h) = yrs cdB (aOu S x) h := by
  have h4 : h.1 15 0 113 = S.2.1.1 4 := a.2.2.1.1.2.2
  have em : (if 1000 ≤ S.2.1.1 4 then (1000 : Int32) else S.2.1.1 4) = if S.2.1.1 4 ≤ 1000 then S.2.1.1 4 else 1000 := by
    by_cases z1 : 1000 ≤ S.2.1.1 4
    · rw [if_pos z1]
      by_cases z2 : S.2.1.1 4 ≤ 1000
      · rw [if_pos z2]; exact Int32.le_antisymm z1 z2
      · rw [if_neg z2]
    · rw [if_neg z1, if_pos (Int32.le_of_lt (Int32.not_le.mp z1))]
  have go : ∀ v : Int32, v = (if S.2.1.1 4 ≤ 1000 then S.2.1.1 4 else 1000) → mj_R mg (d + 1) mq_364 (42, [(0, vR 15 0), (1, vI x)], [vI v, vI 0, vI x, vI 0, vR 15 0], h) = yrs cdB (aOu S x) h := by
    intro v ev
    unfold aOu
    rw [← ev, q_364_42, y_199, mj_xi_ret]
    by_cases c2 : 0 ≤ x ∧ x ≤ v - 1
    · have x1 : 0 ≤ x.toInt := Int32.le_iff_toInt_le.mp c2.1
      have x3 : x.toInt < 1000 := by
        have c3 := c2.2
        rw [ev] at c3
        by_cases z : S.2.1.1 4 ≤ 1000
        · rw [if_pos z] at c3
          have z1 : (S.2.1.1 4).toInt ≤ 1000 := Int32.le_iff_toInt_le.mp z
          have c4 := Int32.le_iff_toInt_le.mp c3
          rw [Int32.toInt_sub] at c4
          have e1 : (1 : Int32).toInt = 1 := by decide
          rw [e1] at c4
          have y : 0 ≤ (S.2.1.1 4).toInt := Int32.le_iff_toInt_le.mp hc
          rw [Int.bmod_eq_of_le (by omega) (by omega)] at c4
          omega
        · rw [if_neg z] at c3
          have c4 := Int32.le_iff_toInt_le.mp c3
          have e1 : ((1000 : Int32) - 1).toInt = 999 := by decide
          omega
      have e3 : x.toNatClampNeg = x.toInt.toNat := rfl
      have xi : mj_in x 1000 := ⟨x1, x3⟩
      rw [if_pos c2, decide_eq_true c2, if_pos (by decide), q_364_54, q_364_55, y_rf0, mj_xi_ret, if_pos rfl, if_pos xi, i_0 (by omega), a.2.2.1.2.2.2 _ (by omega)]; rfl
    · rw [if_neg c2, decide_eq_false c2, if_neg (fun z => z (by decide)), q_364_55, y_rf2, mj_xi_ret, if_neg (by decide)]; rfl
  rw [q_364_0, if_pos g.2.2.2.2, q_364_13, if_neg g.2.2.2.2, h4]
  by_cases z1 : 1000 ≤ S.2.1.1 4
  · rw [if_pos z1] at em ⊢
    exact go _ em
  · rw [if_neg z1] at em ⊢
    exact go _ em
theorem y_aAb {x : Int32} {N : Int32 × Int32} (a : YT G S h) (g : YG G h) (n : h.1 15 0 28 = N.1 ∧ h.1 15 0 46 = N.2) : mj_R mg (d + 1) mq_365 (0, [(0, vR 15 0), (1, vI x)], [], h) = yrs cdB (aAb G S N x) h := by
  unfold aAb
  rw [q_365_0, if_pos g.2.2.2.2, q_365_13, if_neg g.2.2.2.2, y_199, mj_xi_ret]
  by_cases cx : 0 ≤ x ∧ x ≤ 6
  · rw [decide_eq_true cx, if_pos (by decide), q_365_34, q_365_35, y_rf0, mj_xi_ret, if_pos rfl, i_0 (by omega), i_0 (by omega), i_0 (by omega), i_0 (by omega), i_0 (by omega), i_0 (by omega), i_0 (by omega), g.2.2.1.1, a.2.2.1.1.2.1, a.2.2.1.1.2.2, n.1, n.2, a.2.2.2.1, a.2.2.2.2]
    by_cases x0 : x = 0
    · rw [if_pos x0, if_pos x0]; rfl
    · rw [if_neg x0, if_neg x0]
      by_cases x1 : x = 1
      · rw [if_pos x1, if_pos x1]; rfl
      · rw [if_neg x1, if_neg x1]
        by_cases x2 : x = 2
        · rw [if_pos x2, if_pos x2]; rfl
        · rw [if_neg x2, if_neg x2]
          by_cases x3 : x = 3
          · rw [if_pos x3, if_pos x3]; rfl
          · rw [if_neg x3, if_neg x3]
            by_cases x4 : x = 4
            · rw [if_pos x4, if_pos x4]; rfl
            · rw [if_neg x4, if_neg x4]
              by_cases x5 : x = 5
              · rw [if_pos x5, if_pos x5]; rfl
              · have x6 : x = 6 := by
                  have c3 : 0 ≤ x.toInt := Int32.le_iff_toInt_le.mp cx.1
                  have c4 : x.toInt ≤ 6 := Int32.le_iff_toInt_le.mp cx.2
                  have n0 : x.toInt ≠ 0 := fun z => x0 (Int32.toInt_inj.mp z)
                  have n1 : x.toInt ≠ 1 := fun z => x1 (Int32.toInt_inj.mp z)
                  have n2 : x.toInt ≠ 2 := fun z => x2 (Int32.toInt_inj.mp z)
                  have n3 : x.toInt ≠ 3 := fun z => x3 (Int32.toInt_inj.mp z)
                  have n4 : x.toInt ≠ 4 := fun z => x4 (Int32.toInt_inj.mp z)
                  have n5 : x.toInt ≠ 5 := fun z => x5 (Int32.toInt_inj.mp z)
                  exact Int32.toInt_inj.mp (show x.toInt = 6 by omega)
                rw [if_neg x5, if_neg x5, if_pos x6]; rfl
  · have nx : ∀ v : Int32, 0 ≤ v ∧ v ≤ 6 → ¬ x = v := fun v hv z => cx (by rw [z]; exact hv)
    rw [decide_eq_false cx, if_neg (fun z => z (by decide)), q_365_35, y_rf2, mj_xi_ret, if_neg (by decide), if_neg (nx 0 (by decide)), if_neg (nx 1 (by decide)), if_neg (nx 2 (by decide)), if_neg (nx 3 (by decide)), if_neg (nx 4 (by decide)), if_neg (nx 5 (by decide)), if_neg (nx 6 (by decide))]; rfl
end
