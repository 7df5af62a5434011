/-! what is asked: answers, the component's -/
/-- which processor -/
abbrev isQ (G : PgS) (x : Int32) : Prop := mj_in x 6 ∧ G.1 x.toNatClampNeg = true
def aPr (G : PgS) (B : Bg) (p x : Int32) : An := if isQ G p then if 0 ≤ x ∧ x ≤ nI 3 then .inl (if x = 0 then nI (B p.toNatClampNeg).1 else if x = 1 then nI (B p.toNatClampNeg).2.1 else if x = 2 then nI (B p.toNatClampNeg).2.2.1 else nI (B p.toNatClampNeg).2.2.2) else .inr 1 else .inr 4
def aCd (G : PgS) (B : Bg) (p x : Int32) : An := if isQ G p then if 0 ≤ x ∧ x < nI (B p.toNatClampNeg).1 then .inl (nI (G.2.2.2.2 p.toNatClampNeg x.toNatClampNeg)) else .inr 2 else .inr 4
def aLk (G : PgS) (S : Sy) (l x : Int32) : An := if 0 ≤ l ∧ l ≤ nI G.2.2.2.1 - 1 then (if x = 0 then .inl (nI (G.2.1 l.toNatClampNeg)) else if x = 1 then .inl (nI (G.2.2.1 l.toNatClampNeg)) else if x = 2 then .inl (S.2.1.2.1 l.toNatClampNeg 4) else if x = 3 then .inl (if S.2.1.2.1 l.toNatClampNeg 5 = 0 then 0 else 1) else if x = 4 then .inl (if S.2.1.2.1 l.toNatClampNeg 0 = 0 then 0 else 1) else if x = 5 then .inl (if S.2.1.2.1 l.toNatClampNeg 0 = 0 then 0 else S.2.1.2.1 l.toNatClampNeg 1) else .inr 1) else .inr 2
def cAsk (s : Cr) (x : Int32) : Int32 := if x = 6 then (if s.1 14 = 0 then -1 else cSelf s) else if x = 7 then (if s.1 18 = 0 then 0 else 1) else if x = 8 then (if s.1 19 = 0 then 0 else 1) else if x = 9 then nI s.2.2.1.length else if x = 10 then nI s.2.2.2.length else if x = 11 then s.1 17 else
  if s.1 14 = 0 then 0 else if x = 0 then s.1 8 else if x = 1 then s.1 9 else if x = 2 then s.1 10 else if x = 3 then s.1 11 else if x = 4 then s.1 12 else if x = 5 then s.1 13 else s.1 16
def aCo (G : PgS) (S : Sy) (p x : Int32) : An := if isQ G p then if 0 ≤ x ∧ x ≤ nI 12 then .inl (cAsk (S.1 p.toNatClampNeg) x) else .inr 1 else .inr 4
def cRdy (s : Cr) (i : Nat) : Int32 := if i < s.2.2.1.length then nI (2 * s.2.2.1.getD i 0) else nI (2 * s.2.2.2.getD (i - s.2.2.1.length) 0 + 1)
def aRd (G : PgS) (S : Sy) (p x : Int32) : An := if isQ G p then if 0 ≤ x ∧ x ≤ nI ((S.1 p.toNatClampNeg).2.2.1.length + (S.1 p.toNatClampNeg).2.2.2.length) - 1 then .inl (cRdy (S.1 p.toNatClampNeg) x.toNatClampNeg) else .inr 2 else .inr 4
def aWd (G : PgS) (B : Bg) (S : Sy) (p x : Int32) : An := if isQ G p then if 0 ≤ x ∧ x ≤ nI (16 + (B p.toNatClampNeg).2.1) - 1 then .inl ((S.1 p.toNatClampNeg).2.1 x.toNatClampNeg) else .inr 2 else .inr 4
def aOu (S : Sy) (x : Int32) : An := if 0 ≤ x ∧ x ≤ (if S.2.1.1 4 ≤ 1000 then S.2.1.1 4 else 1000) - 1 then .inl (S.2.1.2.2.2 x.toNatClampNeg) else .inr 2
def aAb (G : PgS) (S : Sy) (N : Int32 × Int32) (x : Int32) : An := if x = 0 then .inl (nI G.2.2.2.1) else if x = 1 then .inl (S.2.1.1 2) else if x = 2 then .inl (S.2.1.1 4) else if x = 3 then .inl N.1 else if x = 4 then .inl N.2 else if x = 5 then .inl S.2.2.1 else if x = 6 then .inl S.2.2.2 else .inr 1
section
variable {G : PgS} {B : Bg} {S S' : Sy} {h0 h h' : mj_H} {d : Nat}
theorem k_isI {x y : Int32} : mj_R mg d mq_0 (0, [(0, vL ((x : Int32).toInt64)), (2, vL 0), (4, vL ((y : Int32).toInt64))], [], h) = some (.inl (some (vI (bI (decide (0 ≤ x ∧ x ≤ y)))), h)) := by
  have e1 : lg_cmp x.toInt64 0 < 0 ↔ x < 0 := by
    rw [lg_cmp_lt, Int64.lt_iff_toInt_lt, Int32.toInt_toInt64, Int32.lt_iff_toInt_lt]
    exact Iff.rfl
  have e2 : 0 < lg_cmp x.toInt64 y.toInt64 ↔ ¬ x ≤ y := by
    rw [lg_cmp_gt, Int64.lt_iff_toInt_lt, Int32.toInt_toInt64, Int32.toInt_toInt64, Int32.le_iff_toInt_le]
    omega
  rw [q_0_0]
  by_cases c1 : x < 0
  · have : ¬ (0 ≤ x ∧ x ≤ y) := fun z => absurd c1 (Int32.not_lt.mpr z.1)
    rw [if_pos (e1.mpr c1), q_0_17, q_0_18, if_pos (Or.inl rfl), decide_eq_false this]
    rfl
  · rw [if_neg (fun z => c1 (e1.mp z))]
    by_cases c2 : x ≤ y
    · rw [if_neg (fun z => (e2.mp z) c2), q_0_18, if_pos (Or.inr rfl), decide_eq_true ⟨Int32.not_lt.mp c1, c2⟩]
      rfl
    · have : ¬ (0 ≤ x ∧ x ≤ y) := fun z => c2 z.2
      rw [if_pos (e2.mpr c2), q_0_17, q_0_18, if_pos (Or.inl rfl), decide_eq_false this]
      rfl
/-- an index below n -/
theorem ix_lt {x : Int32} {n : Nat} (c : 0 ≤ x ∧ x ≤ nI n - 1) (hn : n < 2 ^ 31) : x = nI x.toNatClampNeg ∧ x.toNatClampNeg < n := by
  have c1 : 0 ≤ x.toInt := Int32.le_iff_toInt_le.mp c.1
  have c2 := Int32.le_iff_toInt_le.mp c.2
  have e : (nI n - 1).toInt = (n : Int) - 1 := by
    rw [Int32.toInt_sub, nI_toInt hn]
    show Int.bmod ((n : Int) - 1) (2 ^ 32) = _
    rw [Int.bmod_eq_of_le (by omega) (by omega)]
  have e3 : x.toNatClampNeg = x.toInt.toNat := rfl
  have e4 : x.toNatClampNeg < n := by omega
  refine ⟨Int32.toInt_inj.mp ?_, e4⟩
  rw [nI_toInt (by omega)]
  omega
theorem k_aPr {p x : Int32} (g : RG G h) (b : RB G B h) : mj_R mg (d + 2) mq_15 (0, [(0, vR 2 0), (1, vI p), (2, vI x)], [], h) = rsl (aPr G B p x) h := by
  unfold aPr
  by_cases c : isQ G p
  · have hp : p.toNatClampNeg < 6 := by
      have e3 : p.toNatClampNeg = p.toInt.toNat := rfl
      have := c.1.1; have := c.1.2; omega
    obtain ⟨b1, b2, b3, b4⟩ := b _ hp c.2
    have e : mj_R mg (d + 1) mq_0 (0, [(0, vL ((x : Int32).toInt64)), (2, vL 0), (4, vL 3)], [], h) = _ := k_is (d := d + 1) (h := h) (x := x) (c := 3) (by omega)
    rw [if_pos c, q_15_0, k_coreOf (d := d) g c, mj_xr_r, e, mj_xi_ret, k_need]
    by_cases c2 : 0 ≤ x ∧ x ≤ nI 3
    · rw [if_pos c2, if_pos (decide_eq_true c2), mj_xv_ret, b1, b2, b3, b4]
      by_cases x0 : x = 0
      · rw [if_neg (fun z => z x0), q_15_57, if_pos x0]; rfl
      · rw [if_pos x0, if_neg x0]
        by_cases x1 : x = 1
        · rw [if_neg (fun z => z x1), q_15_57, if_pos x1]; rfl
        · rw [if_pos x1, if_neg x1]
          by_cases x2 : x = 2
          · rw [if_neg (fun z => z x2), q_15_57, if_pos x2]; rfl
          · rw [if_pos x2, if_neg x2, q_15_57]; rfl
    · rw [if_neg c2, if_neg (by rw [decide_eq_false c2]; decide)]; rfl
  · rw [if_neg c, q_15_0, k_coreN (d := d) g c]; rfl
theorem k_aCd {p x : Int32} (g : RG G h) (b : RB G B h) (ok : okBg G B) (cb : ∀ p, p < 6 → G.1 p = true → ∀ x, x < (B p).1 → G.2.2.2.2 p x < 256) : mj_R mg (d + 2) mq_16 (0, [(0, vR 2 0), (1, vI p), (2, vI x)], [], h) = rsl (aCd G B p x) h := by
  unfold aCd
  by_cases c : isQ G p
  · have hp : p.toNatClampNeg < 6 := by
      have e3 : p.toNatClampNeg = p.toInt.toNat := rfl
      have := c.1.1; have := c.1.2; omega
    obtain ⟨b1, b2, b3, b4⟩ := b _ hp c.2
    obtain ⟨o1, -⟩ := ok _ hp c.2
    rw [if_pos c, q_16_0, k_coreOf (d := d) g c, mj_xr_r, b1, k_rng, mj_xi_ret, k_inn]
    by_cases c2 : 0 ≤ x ∧ x < nI (B p.toNatClampNeg).1
    · have x1 : 0 ≤ x.toInt := Int32.le_iff_toInt_le.mp c2.1
      have x2 := Int32.lt_iff_toInt_lt.mp c2.2
      rw [nI_toInt (by omega)] at x2
      have e3 : x.toNatClampNeg = x.toInt.toNat := rfl
      have xi : mj_in x 6000 := ⟨x1, by omega⟩
      rw [if_pos c2, if_pos (decide_eq_true c2), mj_xv_ret, if_pos xi, g.2.2.2.1 _ hp c.2 _ (by omega) (cb _ hp c.2 _ (by omega))]; rfl
    · rw [if_neg c2, if_neg (by rw [decide_eq_false c2]; decide)]; rfl
  · rw [if_neg c, q_16_0, k_coreN (d := d) g c]; rfl
theorem k_aLk {l x : Int32} (a : RSy G S h) (g : RG G h) : mj_R mg (d + 1) mq_18 (0, [(0, vR 2 0), (1, vI l), (2, vI x)], [], h) = rsl (aLk G S l x) h := by
  have hn := g.2.2.1.2
  unfold aLk
  rw [q_18_0, k_must g, mj_xv_ret, g.2.2.1.1, k_isI, mj_xi_ret, k_inn]
  by_cases c2 : 0 ≤ l ∧ l ≤ nI G.2.2.2.1 - 1
  · obtain ⟨i1, i2⟩ := ix_lt c2 (by omega)
    obtain ⟨f1, f2, f3, f4⟩ := g.2.1 _ i2
    have il : mj_in l 12 := by rw [i1]; exact in_n (by omega) (by omega)
    have lf : ∀ t, t ≤ 5 → h.1 12 l.toNatClampNeg t = S.2.1.2.1 l.toNatClampNeg t := fun t ht => a.2.1.2.1 _ t (by omega) ht
    rw [if_pos c2, if_pos (decide_eq_true c2), mj_xv_ret, if_pos il, f1, f3, lf 4 (by omega), lf 5 (by omega), lf 0 (by omega), lf 1 (by omega)]
    by_cases x0 : x = 0
    · rw [if_pos x0, if_pos x0, if_pos il]; rfl
    · rw [if_neg x0, if_neg x0]
      by_cases x1 : x = 1
      · rw [if_pos x1, if_pos x1, if_pos il]; rfl
      · rw [if_neg x1, if_neg x1]
        by_cases x2 : x = 2
        · rw [if_pos x2, if_pos x2]; rfl
        · rw [if_neg x2, if_neg x2]
          by_cases x3 : x = 3
          · rw [if_pos x3, if_pos x3]
            by_cases z : S.2.1.2.1 l.toNatClampNeg 5 = 0
            · rw [if_pos z, q_18_105, if_pos z]; rfl
            · rw [if_neg z, q_18_105, if_neg z]; rfl
          · rw [if_neg x3, if_neg x3]
            by_cases x4 : x = 4
            · rw [if_pos x4, if_pos x4]
              by_cases z : S.2.1.2.1 l.toNatClampNeg 0 = 0
              · rw [if_pos z, q_18_118, if_pos z]; rfl
              · rw [if_neg z, q_18_118, if_neg z]; rfl
            · rw [if_neg x4, if_neg x4]
              by_cases x5 : x = 5
              · rw [if_pos x5, if_pos x5]
                by_cases z : S.2.1.2.1 l.toNatClampNeg 0 = 0
                · rw [if_pos z, q_18_134, if_pos z]; rfl
                · rw [if_neg z, q_18_134, if_neg z]; rfl
              · rw [if_neg x5, if_neg x5]; rfl
  · rw [if_neg c2, if_neg (by rw [decide_eq_false c2]; decide)]; rfl
theorem k_aCo {p x : Int32} (a : RSy G S h) (g : RG G h) (st : sStl G S) : mj_R mg (d + 2) mq_27 (0, [(0, vR 2 0), (1, vI p), (2, vI x)], [], h) = rsl (aCo G S p x) h := by
  unfold aCo
  by_cases c : isQ G p
  · have hp : p.toNatClampNeg < 6 := by
      have e3 : p.toNatClampNeg = p.toInt.toNat := rfl
      have := c.1.1; have := c.1.2; omega
    have F := a.rf hp c.2
    have e : mj_R mg (d + 1) mq_0 (0, [(0, vL ((x : Int32).toInt64)), (2, vL 0), (4, vL 12)], [], h) = _ := k_is (d := d + 1) (h := h) (x := x) (c := 12) (by omega)
    rw [if_pos c, q_27_0, k_coreOf (d := d) g c, mj_xr_r, e, mj_xi_ret, k_need]
    have sl := (st _ hp c.2).1
    generalize p.toNatClampNeg = q at hp F sl ⊢
    have l1 : h.1 14 (2 * q) 2 = nI (S.1 q).2.2.1.length := by obtain ⟨f, -, -, z, -⟩ := F.1.2.2.1; exact z
    have l2 : h.1 14 (2 * q + 1) 2 = nI (S.1 q).2.2.2.length := by obtain ⟨f, -, -, z, -⟩ := F.1.2.2.2; exact z
    by_cases c2 : 0 ≤ x ∧ x ≤ nI 12
    · rw [if_pos c2, if_pos (decide_eq_true c2), mj_xv_ret, F.g 14 (by omega) (by omega), F.g 18 (by omega) (by omega), F.g 19 (by omega) (by omega), F.g 17 (by omega) (by omega), l1, l2]
      unfold cAsk
      by_cases x6 : x = 6
      · rw [if_pos x6, if_pos x6]
        by_cases z : (S.1 q).1 14 = 0
        · rw [if_pos z, q_27_71, if_pos z]; rfl
        · rw [if_neg z, k_self F sl, mj_xi_ret, q_27_71, if_neg z]; rfl
      · rw [if_neg x6, if_neg x6]
        by_cases x7 : x = 7
        · rw [if_pos x7, if_pos x7]
          by_cases z : (S.1 q).1 18 = 0
          · rw [if_pos z, q_27_84, if_pos z]; rfl
          · rw [if_neg z, q_27_84, if_neg z]; rfl
        · rw [if_neg x7, if_neg x7]
          by_cases x8 : x = 8
          · rw [if_pos x8, if_pos x8]
            by_cases z : (S.1 q).1 19 = 0
            · rw [if_pos z, q_27_97, if_pos z]; rfl
            · rw [if_neg z, q_27_97, if_neg z]; rfl
          · rw [if_neg x8, if_neg x8]
            by_cases x9 : x = 9
            · rw [if_pos x9, if_pos x9]; rfl
            · rw [if_neg x9, if_neg x9]
              by_cases x10 : x = 10
              · rw [if_pos x10, if_pos x10]; rfl
              · rw [if_neg x10, if_neg x10]
                by_cases x11 : x = 11
                · rw [if_pos x11, if_pos x11]; rfl
                · rw [if_neg x11, if_neg x11]
                  by_cases z : (S.1 q).1 14 = 0
                  · rw [if_pos z, q_27_135, if_pos z]; rfl
                  · rw [if_neg z, q_28_0, F.g 8 (by omega) (by omega), F.g 9 (by omega) (by omega), F.g 10 (by omega) (by omega), F.g 11 (by omega) (by omega), F.g 12 (by omega) (by omega), F.g 13 (by omega) (by omega), F.g 16 (by omega) (by omega), if_neg z]
                    by_cases x0 : x = 0
                    · rw [if_pos x0, if_pos x0, mj_xi_ret, q_27_135]; rfl
                    · rw [if_neg x0, if_neg x0]
                      by_cases x1 : x = 1
                      · rw [if_pos x1, if_pos x1, mj_xi_ret, q_27_135]; rfl
                      · rw [if_neg x1, if_neg x1]
                        by_cases x2 : x = 2
                        · rw [if_pos x2, if_pos x2, mj_xi_ret, q_27_135]; rfl
                        · rw [if_neg x2, if_neg x2]
                          by_cases x3 : x = 3
                          · rw [if_pos x3, if_pos x3, mj_xi_ret, q_27_135]; rfl
                          · rw [if_neg x3, if_neg x3]
                            by_cases x4 : x = 4
                            · rw [if_pos x4, if_pos x4, mj_xi_ret, q_27_135]; rfl
                            · rw [if_neg x4, if_neg x4]
                              by_cases x5 : x = 5
                              · rw [if_pos x5, if_pos x5, mj_xi_ret, q_27_135]; rfl
                              · rw [if_neg x5, if_neg x5, mj_xi_ret, q_27_135]; rfl
    · rw [if_neg c2, if_neg (by rw [decide_eq_false c2]; decide)]; rfl
  · rw [if_neg c, q_27_0, k_coreN (d := d) g c]; rfl
theorem lq_get {k i n : Nat} {L : List Nat} (a : RQ k L h) (hi : L[i]? = some n) : mj_R mg d mq_193 (0, [(0, vR 14 k), (1, vI (nI i))], [], h) = some (.inl (some (vI (nI n)), h)) := by
  obtain ⟨f, a1, a2, a3, a4, a5⟩ := a
  have := gt_lt hi
  have e : (h.1 14 k 1 + nI i) - (h.1 14 k 1 + nI i) / 2048 * 2048 = nI ((f + i) % 2048) := by
    rw [a2, nI_add]
    exact nI_md (m := 2048) (by omega) (by omega)
  rw [q_193_0, e, if_pos (in_n (by omega) (by omega)), nI_clamp (by omega), a5 i n hi]
theorem k_aRd {p x : Int32} (a : RSy G S h) (g : RG G h) : mj_R mg (d + 2) mq_29 (0, [(0, vR 2 0), (1, vI p), (2, vI x)], [], h) = rsl (aRd G S p x) h := by
  unfold aRd
  by_cases c : isQ G p
  · have hp : p.toNatClampNeg < 6 := by
      have e3 : p.toNatClampNeg = p.toInt.toNat := rfl
      have := c.1.1; have := c.1.2; omega
    have F := a.rf hp c.2
    rw [if_pos c, q_29_0, k_coreOf (d := d) g c, mj_xr_r]
    generalize p.toNatClampNeg = q at hp F ⊢
    have r1 := F.1.2.2.1
    have r2 := F.1.2.2.2
    have l1 : h.1 14 (2 * q) 2 = nI (S.1 q).2.2.1.length := by obtain ⟨f, -, -, z, -⟩ := r1; exact z
    have l2 : h.1 14 (2 * q + 1) 2 = nI (S.1 q).2.2.2.length := by obtain ⟨f, -, -, z, -⟩ := r2; exact z
    have b1 : (S.1 q).2.2.1.length ≤ 1100 := by obtain ⟨f, -, -, -, z, -⟩ := r1; exact z
    have b2 : (S.1 q).2.2.2.length ≤ 1100 := by obtain ⟨f, -, -, -, z, -⟩ := r2; exact z
    rw [l1, l2, nI_add, k_isI, mj_xi_ret, k_inn]
    by_cases c2 : 0 ≤ x ∧ x ≤ nI ((S.1 q).2.2.1.length + (S.1 q).2.2.2.length) - 1
    · obtain ⟨i1, i2⟩ := ix_lt c2 (by omega)
      rw [if_pos c2, if_pos (decide_eq_true c2), mj_xv_ret, l1]
      unfold cRdy
      generalize x.toNatClampNeg = i at i1 i2
      subst i1
      by_cases z : i < (S.1 q).2.2.1.length
      · have gi : (S.1 q).2.2.1[i]? = some ((S.1 q).2.2.1.getD i 0) := by rw [List.getD_eq_getElem?_getD, List.getElem?_eq_getElem z]; rfl
        have e2 : (2 : Int32) * nI ((S.1 q).2.2.1.getD i 0) = nI (2 * (S.1 q).2.2.1.getD i 0) := nI_mul 2 _
        rw [if_neg (nI_ge z (by omega)), lq_get r1 gi, mj_xi_ret, q_29_77, e2, if_pos z]; rfl
      · have gi : (S.1 q).2.2.2[i - (S.1 q).2.2.1.length]? = some ((S.1 q).2.2.2.getD (i - (S.1 q).2.2.1.length) 0) := by rw [List.getD_eq_getElem?_getD, List.getElem?_eq_getElem (by omega)]; rfl
        have e2 : (2 : Int32) * nI ((S.1 q).2.2.2.getD (i - (S.1 q).2.2.1.length) 0) + 1 = nI (2 * (S.1 q).2.2.2.getD (i - (S.1 q).2.2.1.length) 0 + 1) := by
          rw [nI_succ]
          exact congrArg (· + 1) (nI_mul 2 _)
        rw [if_pos (nI_le (by omega) (by omega)), nI_sub (by omega), lq_get r2 gi, mj_xi_ret, q_29_77, e2, if_neg z]; rfl
    · rw [if_neg c2, if_neg (by rw [decide_eq_false c2]; decide)]; rfl
  · rw [if_neg c, q_29_0, k_coreN (d := d) g c]; rfl
theorem k_aWd {p x : Int32} (a : RSy G S h) (g : RG G h) (b : RB G B h) (ok : okBg G B) : mj_R mg (d + 2) mq_30 (0, [(0, vR 2 0), (1, vI p), (2, vI x)], [], h) = rsl (aWd G B S p x) h := by
  unfold aWd
  by_cases c : isQ G p
  · have hp : p.toNatClampNeg < 6 := by
      have e3 : p.toNatClampNeg = p.toInt.toNat := rfl
      have := c.1.1; have := c.1.2; omega
    have F := a.rf hp c.2
    obtain ⟨b1, b2, b3, b4⟩ := b _ hp c.2
    obtain ⟨o1, o2, -⟩ := ok _ hp c.2
    have e16 : (16 : Int32) + nI (B p.toNatClampNeg).2.1 = nI (16 + (B p.toNatClampNeg).2.1) := nI_add 16 _
    rw [if_pos c, q_30_0, k_coreOf (d := d) g c, mj_xr_r, b2, e16, k_isI, mj_xi_ret, k_inn]
    by_cases c2 : 0 ≤ x ∧ x ≤ nI (16 + (B p.toNatClampNeg).2.1) - 1
    · obtain ⟨i1, i2⟩ := ix_lt c2 (by omega)
      have ii : mj_in x 4016 := by rw [i1]; exact in_n (by omega) (by omega)
      rw [if_pos c2, if_pos (decide_eq_true c2), mj_xv_ret, if_pos ii, F.y _ (by omega)]; rfl
    · rw [if_neg c2, if_neg (by rw [decide_eq_false c2]; decide)]; rfl
  · rw [if_neg c, q_30_0, k_coreN (d := d) g c]; rfl
theorem k_aOu {x : Int32} (a : RSy G S h) (g : RG G h) (hc : 0 ≤ S.2.1.1 4) : mj_R mg (d + 1) mq_31 (0, [(0, vR 2 0), (1, vI x)], [], h) = rsl (aOu S x) h := by
  have h4 : h.1 11 0 4 = S.2.1.1 4 := a.2.1.1 4 (by omega)
  unfold aOu
  rw [q_31_0, k_must g, mj_xv_ret, h4, m_min, mj_xi_ret, k_isI, mj_xi_ret, k_inn]
  by_cases c2 : 0 ≤ x ∧ x ≤ (if S.2.1.1 4 ≤ 1000 then S.2.1.1 4 else 1000) - 1
  · have x1 : 0 ≤ x.toInt := Int32.le_iff_toInt_le.mp c2.1
    have x3 : x.toInt < 1000 := by
      have c3 := c2.2
      by_cases z : S.2.1.1 4 ≤ 1000
      · rw [if_pos z] at c3
        have z1 : (S.2.1.1 4).toInt ≤ 1000 := Int32.le_iff_toInt_le.mp z
        have c4 := Int32.le_iff_toInt_le.mp c3
        rw [Int32.toInt_sub] at c4
        have l1 := Int32.le_toInt (S.2.1.1 4)
        have e1 : (1 : Int32).toInt = 1 := by decide
        rw [e1] at c4
        have y : 0 ≤ (S.2.1.1 4).toInt := Int32.le_iff_toInt_le.mp hc
        rw [Int.bmod_eq_of_le (by omega) (by omega)] at c4
        omega
      · rw [if_neg z] at c3
        have c4 := Int32.le_iff_toInt_le.mp c3
        have e1 : ((1000 : Int32) - 1).toInt = 999 := by decide
        omega
    have e3 : x.toNatClampNeg = x.toInt.toNat := rfl
    have xi : mj_in x 1000 := ⟨x1, x3⟩
    rw [if_pos c2, if_pos (decide_eq_true c2), mj_xv_ret, if_pos xi, a.2.1.2.2.2 _ (by omega)]; rfl
  · rw [if_neg c2, if_neg (by rw [decide_eq_false c2]; decide)]; rfl
theorem k_aAb {x : Int32} {N : Int32 × Int32} (a : RSy G S h) (g : RG G h) (n : h.1 4 0 14 = N.1 ∧ h.1 4 0 17 = N.2) : mj_R mg (d + 1) mq_32 (0, [(0, vR 2 0), (1, vI x)], [], h) = rsl (aAb G S N x) h := by
  unfold aAb
  rw [q_32_0, k_must g, mj_xv_ret, g.2.2.1.1, a.2.1.1 2 (by omega), a.2.1.1 4 (by omega), n.1, n.2, a.2.2.1, a.2.2.2]
  by_cases x0 : x = 0
  · rw [if_pos x0, if_pos x0]; rfl
  · rw [if_neg x0, if_neg x0]
    by_cases x1 : x = 1
    · rw [if_pos x1, if_pos x1]; rfl
    · rw [if_neg x1, if_neg x1]
      by_cases x2 : x = 2
      · rw [if_pos x2, if_pos x2]; rfl
      · rw [if_neg x2, if_neg x2]
        by_cases x3 : x = 3
        · rw [if_pos x3, if_pos x3]; rfl
        · rw [if_neg x3, if_neg x3]
          by_cases x4 : x = 4
          · rw [if_pos x4, if_pos x4]; rfl
          · rw [if_neg x4, if_neg x4]
            by_cases x5 : x = 5
            · rw [if_pos x5, if_pos x5]; rfl
            · rw [if_neg x5, if_neg x5]
              by_cases x6 : x = 6
              · rw [if_pos x6, if_pos x6]; rfl
              · rw [if_neg x6, if_neg x6]; rfl
end
