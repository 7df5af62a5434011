/-! texts: put, end, fault -/
/-- a text stands in the component, in the twin -/
def cTx (t : Nat → Nat) (n : Nat) (h : mj_H) : Prop := txOK t n ∧ h.1 3 0 1 = nI n ∧ ∀ j, j < n → h.1 21 0 j = nI (t j)
def yTx (t : Nat → Nat) (n : Nat) (h : mj_H) : Prop := txOK t n ∧ h.1 15 0 2 = nI n ∧ ∀ j, j < n → h.1 72 0 j = nI (t j)
/-- the j-th sign of four -/
def sgn (x : Int32) (j : Nat) : Nat := ((x >>> (nI (8 * j) &&& 31)) &&& 255).toNatClampNeg
abbrev okS (m : Nat) : Prop := m = 0 ∨ m = 10 ∨ (32 ≤ m ∧ m ≤ 126)
def one (m : Nat) : Nat := if m = 0 then 0 else 1
def cnt4 (x : Int32) : Nat := one (sgn x 0) + one (sgn x 1) + one (sgn x 2) + one (sgn x 3)
def ok4 (x : Int32) : Prop := okS (sgn x 0) ∧ okS (sgn x 1) ∧ okS (sgn x 2) ∧ okS (sgn x 3)
def tx1 (s : (Nat → Nat) × Nat) (m : Nat) : (Nat → Nat) × Nat := if m = 0 then s else ((fun j => if j = s.2 then m else s.1 j), s.2 + 1)
def tx4 (s : (Nat → Nat) × Nat) (x : Int32) : (Nat → Nat) × Nat := tx1 (tx1 (tx1 (tx1 s (sgn x 0)) (sgn x 1)) (sgn x 2)) (sgn x 3)
section
variable {h : mj_H} {d n : Nat} {t : Nat → Nat} {x : Int32}
theorem and_255 (y : Int32) : y &&& 255 = nI (y &&& 255).toNatClampNeg ∧ (y &&& 255).toNatClampNeg < 256 := by
  have e : (y &&& 255).toBitVec.toNat ≤ 255 := by
    show (y.toBitVec &&& (255 : Int32).toBitVec).toNat ≤ 255
    rw [BitVec.toNat_and]
    exact Nat.and_le_right
  have e2 : y &&& 255 = nI (y &&& 255).toBitVec.toNat := by
    apply Int32.toBitVec_inj.mp
    show _ = BitVec.ofNat 32 _
    rw [BitVec.ofNat_toNat, BitVec.setWidth_eq]
  rw [e2, nI_clamp (by omega)]
  exact ⟨rfl, by omega⟩
theorem sgn_e (x : Int32) (j : Nat) : (x >>> (nI (8 * j) &&& 31)) &&& 255 = nI (sgn x j) ∧ sgn x j < 256 := and_255 _
theorem i8_s {m : Nat} (h : m < 128) : ((nI m).toInt8.toInt32).toInt8.toInt32 = nI m := by
  apply Int32.toInt_inj.mp
  have e : (m : Int).bmod (2 ^ 8) = m := Int.bmod_eq_of_le (by omega) (by omega)
  rw [Int8.toInt_toInt32, Int32.toInt_toInt8, Int8.toInt_toInt32, Int32.toInt_toInt8, nI_toInt (by omega), e, e]
theorem okS_d {m : Nat} (c0 : ¬ m = 0) (c1 : ¬ m = 10) (hm : m < 256) : (32 ≤ nI m ∧ nI m ≤ 126) ↔ okS m := by
  rw [show (32 : Int32) = nI 32 from rfl, show (126 : Int32) = nI 126 from rfl, Int32.le_iff_toInt_le, Int32.le_iff_toInt_le, nI_toInt (by omega), nI_toInt (by omega), nI_toInt (by omega)]
  unfold okS
  omega
theorem k_is2 {y : Int32} {a b : Nat} (ha : a < 2 ^ 31) (hb : b < 2 ^ 31) : mj_R mg d mq_0 (0, [(0, vL ((y : Int32).toInt64)), (2, vL (Int64.ofNat a)), (4, vL (Int64.ofNat b))], [], h) = some (.inl (some (vI (bI (decide (nI a ≤ y ∧ y ≤ nI b)))), h)) := by
  have ea : (Int64.ofNat a).toInt = (a : Int) := Int64.toInt_ofNat_of_lt (by omega)
  have eb : (Int64.ofNat b).toInt = (b : Int) := Int64.toInt_ofNat_of_lt (by omega)
  have na : (nI a).toInt = (a : Int) := nI_toInt ha
  have nb : (nI b).toInt = (b : Int) := nI_toInt hb
  have e1 : lg_cmp y.toInt64 (Int64.ofNat a) < 0 ↔ ¬ nI a ≤ y := by
    rw [lg_cmp_lt, Int64.lt_iff_toInt_lt, Int32.toInt_toInt64, Int32.le_iff_toInt_le, ea, na]
    omega
  have e2 : 0 < lg_cmp y.toInt64 (Int64.ofNat b) ↔ ¬ y ≤ nI b := by
    rw [lg_cmp_gt, Int64.lt_iff_toInt_lt, eb, Int32.toInt_toInt64, Int32.le_iff_toInt_le, nb]
    omega
  rw [q_0_0]
  by_cases c1 : nI a ≤ y
  · rw [if_neg (fun z => (e1.mp z) c1)]
    by_cases c2 : y ≤ nI b
    · rw [if_neg (fun z => (e2.mp z) c2), q_0_18, if_pos (Or.inr rfl), decide_eq_true ⟨c1, c2⟩]
      rfl
    · rw [if_pos (e2.mpr c2), q_0_17, q_0_18, if_pos (Or.inl rfl), decide_eq_false (fun z => c2 z.2)]
      rfl
  · rw [if_pos (e1.mpr c1), q_0_17, q_0_18, if_pos (Or.inl rfl), decide_eq_false (fun z => c1 z.1)]
    rfl
theorem cnt_nI (a m : Nat) : nI a + (if m = 0 then (0 : Int32) else 1) = nI (a + one m) := by
  unfold one
  by_cases c : m = 0
  · rw [if_pos c, if_pos c]; exact Int32.add_zero _
  · rw [if_neg c, if_neg c, nI_succ]
theorem k_p11 {j a : Nat} {y : Int32} (hj : j < 4) : ∃ z, mj_R mg (d + 2) mq_9 (4, [(3, vI (nI (8 * j))), (2, vI (nI a)), (0, vR 2 0), (1, vI x)], [], h) = if okS (sgn x j) then mj_R mg (d + 2) mq_9 (4, [(3, vI (nI (8 * (j + 1)))), (2, vI (nI (a + one (sgn x j)))), (4, vI z), (0, vR 2 0), (1, vI x)], [], h) else some (.inr (1, h)) := by
  obtain ⟨e1, e2⟩ := sgn_e x j
  refine ⟨nI (sgn x j), ?_⟩
  have e8 : nI (8 * j) + 8 = nI (8 * (j + 1)) := by
    show nI (8 * j) + nI 8 = _
    rw [nI_add, show 8 * j + 8 = 8 * (j + 1) by omega]
  have i2 : ∀ y : Int32, mj_R mg (d + 1) mq_0 (0, [(0, vL ((y : Int32).toInt64)), (2, vL 32), (4, vL 126)], [], h) = some (.inl (some (vI (bI (decide (32 ≤ y ∧ y ≤ 126)))), h)) := fun y => k_is2 (a := 32) (b := 126) (by omega) (by omega)
  rw [q_9_4, if_neg (show ¬ (32 : Int32) ≤ nI (8 * j) from nI_ge (a := 8 * j) (b := 32) (by omega) (by omega)), e1]
  have good : okS (sgn x j) → mj_R mg (d + 2) mq_9 (46, [(4, vI (nI (sgn x j))), (3, vI (nI (8 * j))), (2, vI (nI a)), (0, vR 2 0), (1, vI x)], [], h) = mj_R mg (d + 2) mq_9 (4, [(3, vI (nI (8 * (j + 1)))), (2, vI (nI (a + one (sgn x j)))), (4, vI (nI (sgn x j))), (0, vR 2 0), (1, vI x)], [], h) := by
    intro _
    have kn : mj_R mg (d + 1) mq_5 (0, [(0, vI 1)], [], h) = _ := k_need (d := d + 1) (h := h) true
    rw [q_9_46, q_9_51, kn, if_pos rfl, mj_xv_ret, ← cnt_nI]
    by_cases c : sgn x j = 0
    · rw [if_neg (fun z => z (by rw [c]; rfl)), q_9_65, e8, if_pos c]
    · rw [if_pos (nI_ne0 (by omega) (by omega)), q_9_65, e8, if_neg c]
  by_cases c0 : sgn x j = 0
  · rw [if_pos (show nI (sgn x j) = 0 by rw [c0]; rfl), good (Or.inl c0), if_pos (Or.inl c0)]
  · rw [if_neg (nI_ne0 (by omega) (by omega))]
    by_cases c1 : sgn x j = 10
    · rw [if_pos (show nI (sgn x j) = 10 by rw [c1]; rfl), good (Or.inr (Or.inl c1)), if_pos (Or.inr (Or.inl c1))]
    · rw [if_neg (show ¬ nI (sgn x j) = 10 from fun z => c1 ((nI_eq (b := 10) (by omega) (by omega)).mp z)), i2, mj_xi_ret]
      by_cases c2 : okS (sgn x j)
      · rw [decide_eq_true ((okS_d c0 c1 e2).mpr c2), if_neg (by decide), good c2, if_pos c2]
      · have kn : mj_R mg (d + 1) mq_5 (0, [(0, vI 0)], [], h) = _ := k_need (d := d + 1) (h := h) false
        rw [decide_eq_false (fun z => c2 ((okS_d c0 c1 e2).mp z)), if_pos (by decide), q_9_51, kn, if_neg c2]; rfl
theorem k_p12 {j a : Nat} {y : Int32} (hj : j < 4) : ∃ z, mj_R mg (d + 2) mq_9 (4, [(3, vI (nI (8 * j))), (2, vI (nI a)), (4, vI y), (0, vR 2 0), (1, vI x)], [], h) = if okS (sgn x j) then mj_R mg (d + 2) mq_9 (4, [(3, vI (nI (8 * (j + 1)))), (2, vI (nI (a + one (sgn x j)))), (4, vI z), (0, vR 2 0), (1, vI x)], [], h) else some (.inr (1, h)) := by
  obtain ⟨e1, e2⟩ := sgn_e x j
  refine ⟨nI (sgn x j), ?_⟩
  have e8 : nI (8 * j) + 8 = nI (8 * (j + 1)) := by
    show nI (8 * j) + nI 8 = _
    rw [nI_add, show 8 * j + 8 = 8 * (j + 1) by omega]
  have i2 : ∀ y : Int32, mj_R mg (d + 1) mq_0 (0, [(0, vL ((y : Int32).toInt64)), (2, vL 32), (4, vL 126)], [], h) = some (.inl (some (vI (bI (decide (32 ≤ y ∧ y ≤ 126)))), h)) := fun y => k_is2 (a := 32) (b := 126) (by omega) (by omega)
  rw [q_9_4_2, if_neg (show ¬ (32 : Int32) ≤ nI (8 * j) from nI_ge (a := 8 * j) (b := 32) (by omega) (by omega)), e1]
  have good : okS (sgn x j) → mj_R mg (d + 2) mq_9 (46, [(4, vI (nI (sgn x j))), (3, vI (nI (8 * j))), (2, vI (nI a)), (0, vR 2 0), (1, vI x)], [], h) = mj_R mg (d + 2) mq_9 (4, [(3, vI (nI (8 * (j + 1)))), (2, vI (nI (a + one (sgn x j)))), (4, vI (nI (sgn x j))), (0, vR 2 0), (1, vI x)], [], h) := by
    intro _
    have kn : mj_R mg (d + 1) mq_5 (0, [(0, vI 1)], [], h) = _ := k_need (d := d + 1) (h := h) true
    rw [q_9_46, q_9_51, kn, if_pos rfl, mj_xv_ret, ← cnt_nI]
    by_cases c : sgn x j = 0
    · rw [if_neg (fun z => z (by rw [c]; rfl)), q_9_65, e8, if_pos c]
    · rw [if_pos (nI_ne0 (by omega) (by omega)), q_9_65, e8, if_neg c]
  by_cases c0 : sgn x j = 0
  · rw [if_pos (show nI (sgn x j) = 0 by rw [c0]; rfl), good (Or.inl c0), if_pos (Or.inl c0)]
  · rw [if_neg (nI_ne0 (by omega) (by omega))]
    by_cases c1 : sgn x j = 10
    · rw [if_pos (show nI (sgn x j) = 10 by rw [c1]; rfl), good (Or.inr (Or.inl c1)), if_pos (Or.inr (Or.inl c1))]
    · rw [if_neg (show ¬ nI (sgn x j) = 10 from fun z => c1 ((nI_eq (b := 10) (by omega) (by omega)).mp z)), i2, mj_xi_ret]
      by_cases c2 : okS (sgn x j)
      · rw [decide_eq_true ((okS_d c0 c1 e2).mpr c2), if_neg (by decide), good c2, if_pos c2]
      · have kn : mj_R mg (d + 1) mq_5 (0, [(0, vI 0)], [], h) = _ := k_need (d := d + 1) (h := h) false
        rw [decide_eq_false (fun z => c2 ((okS_d c0 c1 e2).mp z)), if_pos (by decide), q_9_51, kn, if_neg c2]; rfl
theorem k_p23 {j : Nat} {y b : Int32} (hj : j < 4) (a : cTx t n h) (c : okS (sgn x j)) (hn : n + one (sgn x j) ≤ 3000) : ∃ h' z, mj_R mg (d + 2) mq_9 (98, [(3, vI (nI (8 * j))), (2, vI b), (4, vI y), (0, vR 2 0), (1, vI x)], [], h) = mj_R mg (d + 2) mq_9 (98, [(3, vI (nI (8 * (j + 1)))), (4, vI z), (2, vI b), (0, vR 2 0), (1, vI x)], [], h') ∧ cTx (tx1 (t, n) (sgn x j)).1 (tx1 (t, n) (sgn x j)).2 h' ∧ (∀ g i k, ¬ ((g = 21 ∧ i = 0) ∨ (g = 3 ∧ i = 0 ∧ k = 1)) → h'.1 g i k = h.1 g i k) ∧ h'.2 = h.2 := by
  obtain ⟨e1, e2⟩ := sgn_e x j
  have e8 : nI (8 * j) + 8 = nI (8 * (j + 1)) := by
    show nI (8 * j) + nI 8 = _
    rw [nI_add, show 8 * j + 8 = 8 * (j + 1) by omega]
  obtain ⟨a1, a2, a3⟩ := a
  rw [q_9_98_3, if_neg (show ¬ (32 : Int32) ≤ nI (8 * j) from nI_ge (a := 8 * j) (b := 32) (by omega) (by omega)), e1, a2]
  unfold tx1
  by_cases c0 : sgn x j = 0
  · rw [if_pos (show nI (sgn x j) = 0 by rw [c0]; rfl), q_9_149, e8, if_pos c0]
    exact ⟨h, _, rfl, ⟨a1, a2, a3⟩, fun _ _ _ _ => rfl, rfl⟩
  · have on : one (sgn x j) = 1 := if_neg c0
    have cm : sgn x j = 10 ∨ (32 ≤ sgn x j ∧ sgn x j ≤ 126) := by
      rcases c with z | z | z
      · exact (c0 z).elim
      · exact Or.inl z
      · exact Or.inr z
    rw [if_neg (nI_ne0 (by omega) (by omega)), if_pos (in_n (by omega) (by omega)), nI_clamp (by omega), q_9_149, e8, if_neg c0, i8_s (by omega)]
    refine ⟨_, _, rfl, ⟨⟨by show n + 1 ≤ 3000; omega, fun k hk => ?_⟩, by rw [mI_same, nI_succ], fun k hk => ?_⟩, fun g i k z => by rw [mI_1, if_neg (by omega), mI_1, if_neg (by omega)], rfl⟩
    · have hk : k < n + 1 := hk
      show (if k = n then _ else _) = 10 ∨ (32 ≤ (if k = n then _ else _) ∧ (if k = n then _ else _) ≤ 126)
      by_cases ek : k = n
      · rw [if_pos ek]; exact cm
      · rw [if_neg ek]; exact a1.2 k (by omega)
    · have hk : k < n + 1 := hk
      show _ = nI (if k = n then _ else _)
      rw [mI_1, if_neg (by omega), mI_1]
      by_cases ek : k = n
      · rw [if_pos ⟨rfl, rfl, ek⟩, if_pos ek]
      · rw [if_neg (fun z => ek z.2.2), if_neg ek]; exact a3 k (by omega)
theorem k_p22 {j : Nat} {y b : Int32} (hj : j < 4) (a : cTx t n h) (c : okS (sgn x j)) (hn : n + one (sgn x j) ≤ 3000) : ∃ h' z, mj_R mg (d + 2) mq_9 (98, [(3, vI (nI (8 * j))), (4, vI y), (2, vI b), (0, vR 2 0), (1, vI x)], [], h) = mj_R mg (d + 2) mq_9 (98, [(3, vI (nI (8 * (j + 1)))), (4, vI z), (2, vI b), (0, vR 2 0), (1, vI x)], [], h') ∧ cTx (tx1 (t, n) (sgn x j)).1 (tx1 (t, n) (sgn x j)).2 h' ∧ (∀ g i k, ¬ ((g = 21 ∧ i = 0) ∨ (g = 3 ∧ i = 0 ∧ k = 1)) → h'.1 g i k = h.1 g i k) ∧ h'.2 = h.2 := by
  obtain ⟨e1, e2⟩ := sgn_e x j
  have e8 : nI (8 * j) + 8 = nI (8 * (j + 1)) := by
    show nI (8 * j) + nI 8 = _
    rw [nI_add, show 8 * j + 8 = 8 * (j + 1) by omega]
  obtain ⟨a1, a2, a3⟩ := a
  rw [q_9_98_2, if_neg (show ¬ (32 : Int32) ≤ nI (8 * j) from nI_ge (a := 8 * j) (b := 32) (by omega) (by omega)), e1, a2]
  unfold tx1
  by_cases c0 : sgn x j = 0
  · rw [if_pos (show nI (sgn x j) = 0 by rw [c0]; rfl), q_9_149, e8, if_pos c0]
    exact ⟨h, _, rfl, ⟨a1, a2, a3⟩, fun _ _ _ _ => rfl, rfl⟩
  · have on : one (sgn x j) = 1 := if_neg c0
    have cm : sgn x j = 10 ∨ (32 ≤ sgn x j ∧ sgn x j ≤ 126) := by
      rcases c with z | z | z
      · exact (c0 z).elim
      · exact Or.inl z
      · exact Or.inr z
    rw [if_neg (nI_ne0 (by omega) (by omega)), if_pos (in_n (by omega) (by omega)), nI_clamp (by omega), q_9_149, e8, if_neg c0, i8_s (by omega)]
    refine ⟨_, _, rfl, ⟨⟨by show n + 1 ≤ 3000; omega, fun k hk => ?_⟩, by rw [mI_same, nI_succ], fun k hk => ?_⟩, fun g i k z => by rw [mI_1, if_neg (by omega), mI_1, if_neg (by omega)], rfl⟩
    · have hk : k < n + 1 := hk
      show (if k = n then _ else _) = 10 ∨ (32 ≤ (if k = n then _ else _) ∧ (if k = n then _ else _) ≤ 126)
      by_cases ek : k = n
      · rw [if_pos ek]; exact cm
      · rw [if_neg ek]; exact a1.2 k (by omega)
    · have hk : k < n + 1 := hk
      show _ = nI (if k = n then _ else _)
      rw [mI_1, if_neg (by omega), mI_1]
      by_cases ek : k = n
      · rw [if_pos ⟨rfl, rfl, ek⟩, if_pos ek]
      · rw [if_neg (fun z => ek z.2.2), if_neg ek]; exact a3 k (by omega)
theorem tx1_n (s : (Nat → Nat) × Nat) (m : Nat) : (tx1 s m).2 = s.2 + one m := by
  unfold tx1 one
  by_cases c : m = 0
  · rw [if_pos c, if_pos c]; rfl
  · rw [if_neg c, if_neg c]
def aPut (n : Nat) (x : Int32) : An := if okS (sgn x 0) ∧ okS (sgn x 1) ∧ okS (sgn x 2) ∧ okS (sgn x 3) then if n + cnt4 x ≤ 3000 then .inl (nI (n + cnt4 x)) else .inr 5 else .inr 1
/-- the text after put -/
def tPut (t : Nat → Nat) (n : Nat) (x : Int32) : (Nat → Nat) × Nat := if (okS (sgn x 0) ∧ okS (sgn x 1) ∧ okS (sgn x 2) ∧ okS (sgn x 3)) ∧ n + cnt4 x ≤ 3000 then tx4 (t, n) x else (t, n)
theorem tx4_n : (tx4 (t, n) x).2 = n + cnt4 x := by
  unfold tx4 cnt4
  rw [tx1_n, tx1_n, tx1_n, tx1_n]
  show n + one _ + one _ + one _ + one _ = _
  omega
theorem k_put (a : cTx t n h) : ∃ h', mj_R mg (d + 2) mq_9 (0, [(0, vR 2 0), (1, vI x)], [], h) = rsl (aPut n x) h' ∧ cTx (tPut t n x).1 (tPut t n x).2 h' ∧ (∀ g i k, ¬ ((g = 21 ∧ i = 0) ∨ (g = 3 ∧ i = 0 ∧ k = 1)) → h'.1 g i k = h.1 g i k) ∧ h'.2 = h.2 := by
  unfold aPut tPut
  obtain ⟨z1, q1⟩ := k_p11 (d := d) (h := h) (x := x) (j := 0) (a := 0) (y := 0) (by omega)
  have q1 : mj_R mg (d + 2) mq_9 (4, [(3, vI 0), (2, vI 0), (0, vR 2 0), (1, vI x)], [], h) = _ := q1
  rw [q_9_0, q1]
  by_cases c0 : okS (sgn x 0)
  · rw [if_pos c0]
    obtain ⟨z2, q2⟩ := k_p12 (d := d) (h := h) (x := x) (j := 1) (a := 0 + one (sgn x 0)) (y := z1) (by omega)
    rw [q2]
    by_cases c1 : okS (sgn x 1)
    · rw [if_pos c1]
      obtain ⟨z3, q3⟩ := k_p12 (d := d) (h := h) (x := x) (j := 2) (a := 0 + one (sgn x 0) + one (sgn x 1)) (y := z2) (by omega)
      rw [q3]
      by_cases c2 : okS (sgn x 2)
      · rw [if_pos c2]
        obtain ⟨z4, q4⟩ := k_p12 (d := d) (h := h) (x := x) (j := 3) (a := 0 + one (sgn x 0) + one (sgn x 1) + one (sgn x 2)) (y := z3) (by omega)
        rw [q4]
        by_cases c3 : okS (sgn x 3)
        · have ec : 0 + one (sgn x 0) + one (sgn x 1) + one (sgn x 2) + one (sgn x 3) = cnt4 x := by unfold cnt4; omega
          have hn3 := a.1.1
          have o4 : cnt4 x ≤ 4 := by
            unfold cnt4 one
            split <;> split <;> split <;> split <;> omega
          rw [if_pos c3, ec, if_pos ⟨c0, c1, c2, c3⟩, q_9_4_2, if_pos (show (32 : Int32) ≤ nI (8 * (3 + 1)) by decide), a.2.1, nI_add]
          by_cases cn : n + cnt4 x ≤ 3000
          · rw [if_pos (show nI (n + cnt4 x) ≤ 3000 from nI_le (b := 3000) cn (by omega)), if_pos cn, if_pos ⟨⟨c0, c1, c2, c3⟩, cn⟩]
            have n0 := tx1_n (t, n) (sgn x 0)
            have n0 : (tx1 (t, n) (sgn x 0)).2 = n + one (sgn x 0) := n0
            obtain ⟨h1, y1, r1, b1, f1, g1⟩ := k_p23 (d := d) (x := x) (j := 0) (y := z4) (b := nI (cnt4 x)) (by omega) a c0 (by unfold cnt4 at cn; omega)
            have r1 : mj_R mg (d + 2) mq_9 (98, [(3, vI 0), (2, vI (nI (cnt4 x))), (4, vI z4), (0, vR 2 0), (1, vI x)], [], h) = _ := r1
            have n1 := tx1_n (tx1 (t, n) (sgn x 0)) (sgn x 1)
            obtain ⟨h2, y2, r2, b2, f2, g2⟩ := k_p22 (d := d) (x := x) (j := 1) (y := y1) (b := nI (cnt4 x)) (by omega) b1 c1 (by unfold cnt4 at cn; omega)
            have n2 := tx1_n (tx1 (tx1 (t, n) (sgn x 0)) (sgn x 1)) (sgn x 2)
            obtain ⟨h3, y3, r3, b3, f3, g3⟩ := k_p22 (d := d) (x := x) (j := 2) (y := y2) (b := nI (cnt4 x)) (by omega) b2 c2 (by unfold cnt4 at cn; show (tx1 (tx1 (t, n) (sgn x 0)) (sgn x 1)).2 + _ ≤ _; omega)
            obtain ⟨h4, y4, r4, b4, f4, g4⟩ := k_p22 (d := d) (x := x) (j := 3) (y := y3) (b := nI (cnt4 x)) (by omega) b3 c3 (by unfold cnt4 at cn; show (tx1 (tx1 (tx1 (t, n) (sgn x 0)) (sgn x 1)) (sgn x 2)).2 + _ ≤ _; omega)
            have b4 : cTx (tx4 (t, n) x).1 (tx4 (t, n) x).2 h4 := b4
            refine ⟨h4, ?_, b4, fun g i k z => (f4 g i k z).trans ((f3 g i k z).trans ((f2 g i k z).trans (f1 g i k z))), g4.trans (g3.trans (g2.trans g1))⟩
            rw [r1, r2, r3, r4, q_9_98_2, if_pos (show (32 : Int32) ≤ nI (8 * (3 + 1)) by decide), b4.2.1, tx4_n]; rfl
          · rw [if_neg (show ¬ nI (n + cnt4 x) ≤ 3000 from nI_ge (a := 3000) (by omega) (by omega)), if_neg cn, if_neg (fun z => cn z.2)]
            exact ⟨h, rfl, a, fun _ _ _ _ => rfl, rfl⟩
        · rw [if_neg c3, if_neg (fun z => c3 z.2.2.2), if_neg (fun z => c3 z.1.2.2.2)]
          exact ⟨h, rfl, a, fun _ _ _ _ => rfl, rfl⟩
      · rw [if_neg c2, if_neg (fun z => c2 z.2.2.1), if_neg (fun z => c2 z.1.2.2.1)]
        exact ⟨h, rfl, a, fun _ _ _ _ => rfl, rfl⟩
    · rw [if_neg c1, if_neg (fun z => c1 z.2.1), if_neg (fun z => c1 z.1.2.1)]
      exact ⟨h, rfl, a, fun _ _ _ _ => rfl, rfl⟩
  · rw [if_neg c0, if_neg (fun z => c0 z.1), if_neg (fun z => c0 z.1.1)]
    exact ⟨h, rfl, a, fun _ _ _ _ => rfl, rfl⟩
/-- the text is cut -/
def aEnd (n : Nat) (x : Int32) : Prop := 0 ≤ x ∧ x ≤ nI n
theorem k_end (a : cTx t n h) (c : 0 ≤ x ∧ x ≤ nI n) : ∃ h', mj_R mg (d + 1) mq_10 (0, [(0, vR 2 0), (1, vI x)], [], h) = some (.inl (none, h')) ∧ cTx t x.toNatClampNeg h' ∧ (∀ g i k, ¬ (g = 3 ∧ i = 0 ∧ k = 1) → h'.1 g i k = h.1 g i k) ∧ h'.2 = h.2 := by
  have hn3 := a.1.1
  obtain ⟨x1, x2⟩ := lt_n c (by omega)
  rw [q_10_0, a.2.1, k_isI, mj_xi_ret, k_need, if_pos (decide_eq_true c), mj_xv_ret]
  exact ⟨_, rfl, ⟨⟨by omega, fun j hj => a.1.2 j (by omega)⟩, by rw [mI_same]; exact x1, fun j hj => by rw [mI_1, if_neg (by omega)]; exact a.2.2 j (by omega)⟩, fun g i k z => by rw [mI_1, if_neg z], rfl⟩
theorem k_xEnd (a : cTx t n h) (c : ¬ (0 ≤ x ∧ x ≤ nI n)) : mj_R mg (d + 1) mq_10 (0, [(0, vR 2 0), (1, vI x)], [], h) = some (.inr (1, h)) := by
  rw [q_10_0, a.2.1, k_isI, mj_xi_ret, k_need, if_neg (by rw [decide_eq_false c]; decide)]; rfl
def aFt (F : Int32 × Int32 × Int32) (x : Int32) : An := if 0 ≤ x ∧ x ≤ nI 2 then .inl (if x = 0 then F.1 else if x = 1 then F.2.1 else F.2.2) else .inr 1
theorem k_aFt : mj_R mg (d + 1) mq_14 (0, [(0, vR 2 0), (1, vI x)], [], h) = rsl (aFt (h.1 2 0 11, h.1 2 0 12, h.1 2 0 13) x) h := by
  have e : mj_R mg d mq_0 (0, [(0, vL ((x : Int32).toInt64)), (2, vL 0), (4, vL 2)], [], h) = _ := k_is (d := d) (h := h) (x := x) (c := 2) (by omega)
  unfold aFt
  rw [q_14_0, e, mj_xi_ret, k_need]
  by_cases c : 0 ≤ x ∧ x ≤ nI 2
  · rw [if_pos c, if_pos (decide_eq_true c), mj_xv_ret]
    by_cases x0 : x = 0
    · rw [if_neg (fun z => z x0), q_14_39, if_pos x0]; rfl
    · rw [if_pos x0, if_neg x0]
      by_cases x1 : x = 1
      · rw [if_neg (fun z => z x1), q_14_39, if_pos x1]; rfl
      · rw [if_pos x1, q_14_39, if_neg x1]; rfl
  · rw [if_neg c, if_neg (by rw [decide_eq_false c]; decide)]; rfl
theorem y_aFt : mj_R mg (d + 1) mq_320 (0, [(0, vR 15 0), (1, vI x)], [], h) = yrs (fun _ => 1) (aFt (h.1 15 0 16, h.1 15 0 17, h.1 15 0 18) x) h := by
  have e : mj_R mg d mq_199 (0, [(0, vI x), (1, vI 0), (2, vI 2)], [], h) = some (.inl (some (vI (bI (decide (0 ≤ x ∧ x ≤ nI 2)))), h)) := y_199
  unfold aFt
  rw [q_320_0, e, mj_xi_ret]
  by_cases c : 0 ≤ x ∧ x ≤ nI 2
  · rw [if_pos c, decide_eq_true c, if_pos (by decide), q_320_15, y_rf0, mj_xi_ret, if_pos rfl, i_0 (by omega), i_0 (by omega), i_0 (by omega)]
    by_cases x0 : x = 0
    · rw [if_neg (fun z => z x0), q_320_52, if_pos x0]; rfl
    · rw [if_pos x0, if_neg x0]
      by_cases x1 : x = 1
      · rw [if_neg (fun z => z x1), q_320_52, if_pos x1]; rfl
      · rw [if_pos x1, q_320_52, if_neg x1]; rfl
  · rw [if_neg c, decide_eq_false c, if_neg (fun z => z (by decide)), q_320_15, y_rf1, mj_xi_ret, if_neg (by decide)]; rfl
theorem y_end (a : yTx t n h) (c : 0 ≤ x ∧ x ≤ nI n) : ∃ h', mj_R mg (d + 1) mq_202 (0, [(0, vR 15 0), (1, vI x)], [], h) = some (.inl (none, h')) ∧ yTx t x.toNatClampNeg h' ∧ (∀ g i k, ¬ (g = 15 ∧ i = 0 ∧ (k = 2 ∨ k = 0)) → h'.1 g i k = h.1 g i k) ∧ h'.2 = h.2 ∧ h'.1 15 0 0 = 0 := by
  have hn3 := a.1.1
  obtain ⟨x1, x2⟩ := lt_n c (by omega)
  rw [q_202_0, a.2.1, y_199, mj_xi_ret, decide_eq_true c, if_pos (by decide), q_202_18, y_rf0, mj_xi_ret, if_neg (fun z => z rfl), q_202_31]
  exact ⟨_, rfl, ⟨⟨by omega, fun j hj => a.1.2 j (by omega)⟩, by rw [mI_same]; exact x1, fun j hj => by rw [mI_1, if_neg (by omega), mI_1, if_neg (by omega)]; exact a.2.2 j (by omega)⟩, fun g i k z => by rw [mI_1, if_neg (by omega), mI_1, if_neg (by omega)], rfl, by rw [mI_1, if_neg (by omega), mI_same]⟩
theorem y_xEnd (a : yTx t n h) (c : ¬ (0 ≤ x ∧ x ≤ nI n)) : mj_R mg (d + 1) mq_202 (0, [(0, vR 15 0), (1, vI x)], [], h) = some (.inl (none, mj_sI h 15 0 0 (nI 1))) := by
  rw [q_202_0, a.2.1, y_199, mj_xi_ret, decide_eq_false c, if_neg (fun z => z (by decide)), q_202_18, y_rf1, mj_xi_ret, if_pos (by decide), q_202_31]
end
