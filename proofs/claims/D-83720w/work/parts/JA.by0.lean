/-! the bytes of an instruction -/
def bN (f : Nat) (v : Int32) (k : Nat) : Nat := if k = 0 then 16 * f + (v &&& 15).toNatClampNeg else 16 * (if v < 0 ∧ k = 1 then 6 else 2) + uV v / 16 ^ k % 16
/-- what o holds ahead of the byte that lies j ahead of the last -/
def opv (v : Int32) (j : Nat) : Int32 := if j + 1 = lnV v then 0 else if v < 0 ∧ j = 0 then (nI (uV v / 16) ^^^ (-1)) <<< ((4 : Int32) &&& 31) else nI (uV v / 16 ^ (j + 1)) <<< ((4 : Int32) &&& 31)
theorem sl_4 (a : Nat) : nI a <<< ((4 : Int32) &&& 31) = nI (16 * a) := by
  have e : ((4 : Int32) &&& 31) = 4 := by decide
  rw [e]
  apply Int32.toBitVec_inj.mp
  rw [Int32.toBitVec_shiftLeft]
  have e2 : (BitVec.smod (Int32.toBitVec 4) 32) = 4#32 := by decide
  show (BitVec.ofNat 32 a) <<< (BitVec.smod (Int32.toBitVec 4) 32) = BitVec.ofNat 32 (16 * a)
  rw [e2]
  apply BitVec.eq_of_toNat_eq
  rw [BitVec.shiftLeft_eq', BitVec.toNat_shiftLeft]
  show (a % 2 ^ 32) <<< 4 % 2 ^ 32 = (16 * a) % 2 ^ 32
  rw [Nat.shiftLeft_eq]
  omega
theorem or_16 {a b : Nat} (h : b < 16) : nI (16 * a) ||| nI b = nI (16 * a + b) := by
  apply Int32.toBitVec_inj.mp
  show BitVec.ofNat 32 (16 * a) ||| BitVec.ofNat 32 b = BitVec.ofNat 32 (16 * a + b)
  rw [← BitVec.ofNat_or]
  congr 1
  have := Nat.shiftLeft_add_eq_or_of_lt (i := 4) (b := b) (show b < 2 ^ 4 from h) a
  rw [Nat.shiftLeft_eq] at this
  rw [show 16 * a = a * 2 ^ 4 by omega]
  exact this.symm
theorem dgN_p (x : Nat) : 1 ≤ dgN x := by
  rw [dgN]
  split <;> omega
theorem dgN_lt : ∀ x, x < 16 ^ dgN x := by
  intro x
  induction x using dgN.induct with
  | case1 x hx => rw [dgN, if_pos hx]; omega
  | case2 x hx ih =>
    rw [dgN.eq_def x, if_neg hx, Nat.pow_succ]
    omega
theorem uV_lt (v : Int32) : uV v < 2 ^ 31 := by
  unfold uV
  have := Int32.le_toInt v
  have := Int32.toInt_lt v
  split
  · omega
  · have e3 : v.toNatClampNeg = v.toInt.toNat := rfl
    omega
/-- so many digits -/
theorem lnV_u (v : Int32) : uV v / 16 ^ lnV v = 0 ∧ 1 ≤ lnV v ∧ (v < 0 → 2 ≤ lnV v) := by
  unfold uV lnV
  by_cases c : v < 0
  · rw [if_pos c, if_pos c]
    have d1 := dgN_p ((-(v.toInt) - 1).toNat / 16)
    have := dgN_lt ((-(v.toInt) - 1).toNat / 16)
    refine ⟨?_, by omega, fun _ => by omega⟩
    rw [Nat.pow_succ, Nat.mul_comm, ← Nat.div_div_eq_div_mul]
    exact Nat.div_eq_of_lt this
  · rw [if_neg c, if_neg c]
    have d1 := dgN_p v.toNatClampNeg
    exact ⟨Nat.div_eq_of_lt (dgN_lt _), d1, fun z => (c z).elim⟩
theorem by_pre {f : Nat} {v : Int32} {j : Nat} (hj : 1 ≤ j) (hj2 : j < lnV v) : (bN f v j / 16 = 2 ∧ (opv v j ||| nI (bN f v j % 16)) <<< ((4 : Int32) &&& 31) = opv v (j - 1)) ∨ (bN f v j / 16 = 6 ∧ ((opv v j ||| nI (bN f v j % 16)) ^^^ (-1)) <<< ((4 : Int32) &&& 31) = opv v (j - 1)) := by
  obtain ⟨i, rfl⟩ : ∃ i, j = i + 1 := ⟨j - 1, by omega⟩
  have hu := uV_lt v
  have hm : uV v / 16 ^ (i + 1) % 16 < 16 := Nat.mod_lt _ (by omega)
  have b1 : bN f v (i + 1) / 16 = if v < 0 ∧ i + 1 = 1 then 6 else 2 := by
    unfold bN
    rw [if_neg (by omega)]
    omega
  have b2 : bN f v (i + 1) % 16 = uV v / 16 ^ (i + 1) % 16 := by
    unfold bN
    rw [if_neg (by omega)]
    omega
  have o1 : opv v (i + 1) ||| nI (bN f v (i + 1) % 16) = nI (uV v / 16 ^ (i + 1)) := by
    rw [b2]
    unfold opv
    by_cases c : i + 1 + 1 = lnV v
    · rw [if_pos c]
      have z := (lnV_u v).1
      rw [← c, Nat.pow_succ, ← Nat.div_div_eq_div_mul] at z
      have z2 : uV v / 16 ^ (i + 1) < 16 := by
        have := Nat.div_add_mod (uV v / 16 ^ (i + 1)) 16
        omega
      rw [Nat.mod_eq_of_lt z2, Int32.zero_or]
    · rw [if_neg c, if_neg (by omega), sl_4, or_16 hm, Nat.pow_succ 16 (i + 1), ← Nat.div_div_eq_div_mul, Nat.div_add_mod]
  rw [o1, b1, Nat.add_sub_cancel]
  have o0 : opv v i = if v < 0 ∧ i = 0 then (nI (uV v / 16) ^^^ (-1)) <<< ((4 : Int32) &&& 31) else nI (uV v / 16 ^ (i + 1)) <<< ((4 : Int32) &&& 31) := by
    unfold opv
    rw [if_neg (by omega)]
  rw [o0]
  by_cases c : v < 0 ∧ i = 0
  · refine Or.inr ⟨by rw [if_pos ⟨c.1, by omega⟩], ?_⟩
    rw [if_pos c, c.2, Nat.zero_add, Nat.pow_one]
  · exact Or.inl ⟨by rw [if_neg (fun z => c ⟨z.1, by omega⟩)], by rw [if_neg c]⟩
theorem bv_fix (V : BitVec 32) : (((~~~V) >>> 4) ^^^ BitVec.allOnes 32) <<< 4 ||| (V &&& 15#32) = V := by
  apply BitVec.eq_of_getLsbD_eq
  intro i hi
  rw [BitVec.xor_allOnes, BitVec.getLsbD_or, BitVec.getLsbD_and, BitVec.getLsbD_shiftLeft, BitVec.getLsbD_not, BitVec.getLsbD_ushiftRight, BitVec.getLsbD_not]
  by_cases c : i < 4
  · have e : (15#32).getLsbD i = true := by
      have : i = 0 ∨ i = 1 ∨ i = 2 ∨ i = 3 := by omega
      rcases this with rfl | rfl | rfl | rfl <;> decide
    rw [e]
    simp [c]
  · have e : (15#32).getLsbD i = false := by
      rw [BitVec.getLsbD_ofNat]
      have : (15 : Nat).testBit i = false := Nat.testBit_lt_two_pow (Nat.lt_of_lt_of_le (show 15 < 2 ^ 4 by omega) (Nat.pow_le_pow_right (by omega) (by omega)))
      rw [this, Bool.and_false]
    rw [e]
    have h4 : 4 + (i - 4) = i := by omega
    simp [c, hi, h4]
    omega
theorem by_last {f : Nat} {v : Int32} (hf : f < 16) : bN f v 0 / 16 = f ∧ opv v 0 ||| nI (bN f v 0 % 16) = v := by
  have n15 : (v &&& 15).toNatClampNeg < 16 ∧ v &&& 15 = nI (v &&& 15).toNatClampNeg := by
    have e : (v &&& 15).toBitVec.toNat ≤ 15 := by
      show (v.toBitVec &&& (15 : Int32).toBitVec).toNat ≤ 15
      rw [BitVec.toNat_and]
      exact Nat.and_le_right
    have e2 : v &&& 15 = nI (v &&& 15).toBitVec.toNat := by
      apply Int32.toBitVec_inj.mp
      show _ = BitVec.ofNat 32 _
      rw [BitVec.ofNat_toNat, BitVec.setWidth_eq]
    rw [e2, nI_clamp (by omega)]
    exact ⟨by omega, rfl⟩
  have b1 : bN f v 0 / 16 = f := by
    unfold bN
    rw [if_pos rfl]
    have := n15.1
    omega
  have b2 : bN f v 0 % 16 = (v &&& 15).toNatClampNeg := by
    unfold bN
    rw [if_pos rfl]
    have := n15.1
    omega
  refine ⟨b1, ?_⟩
  rw [b2, ← n15.2]
  obtain ⟨l1, l2, l3⟩ := lnV_u v
  unfold opv
  by_cases c : v < 0
  · have := l3 c
    rw [if_neg (by omega), if_pos ⟨c, rfl⟩]
    have v1 := Int32.le_toInt v
    have v2 : v.toInt < 0 := Int32.lt_iff_toInt_lt.mp c
    have hu : uV v = (-(v.toInt) - 1).toNat := by unfold uV; rw [if_pos c]
    have eV : BitVec.ofNat 32 (uV v / 16) = (~~~v.toBitVec) >>> 4 := by
      apply BitVec.eq_of_toNat_eq
      rw [BitVec.toNat_ofNat, BitVec.toNat_ushiftRight, BitVec.toNat_not, hu]
      have et : v.toInt = v.toBitVec.toInt := rfl
      have eb := BitVec.toInt_eq_toNat_cond v.toBitVec
      have lt := v.toBitVec.isLt
      rw [Nat.shiftRight_eq_div_pow]
      rw [et, eb] at v2 ⊢
      split at v2
      · omega
      · rename_i h2
        rw [if_neg h2]
        omega
    apply Int32.toBitVec_inj.mp
    have e4 : ((4 : Int32) &&& 31) = 4 := by decide
    rw [e4, Int32.toBitVec_or, Int32.toBitVec_shiftLeft, Int32.toBitVec_xor, Int32.toBitVec_and]
    have e5 : (BitVec.smod (Int32.toBitVec 4) 32) = 4#32 := by decide
    have e6 : (-1 : Int32).toBitVec = BitVec.allOnes 32 := by decide
    show (BitVec.ofNat 32 (uV v / 16) ^^^ (-1 : Int32).toBitVec) <<< (BitVec.smod (Int32.toBitVec 4) 32) ||| (v.toBitVec &&& 15#32) = v.toBitVec
    rw [e5, e6, eV, BitVec.shiftLeft_eq']
    exact bv_fix v.toBitVec
  · obtain ⟨n1, n2⟩ := n_cl c
    have hu : uV v = v.toNatClampNeg := by unfold uV; rw [if_neg c]
    have e15 : v &&& 15 = nI (v.toNatClampNeg % 16) := by
      conv => lhs; rw [n1]
      exact nI_and15 _
    rw [e15]
    by_cases c1 : 0 + 1 = lnV v
    · rw [if_pos c1]
      rw [← c1, Nat.zero_add, Nat.pow_one, hu] at l1
      have : v.toNatClampNeg < 16 := by
        have := Nat.div_add_mod v.toNatClampNeg 16
        omega
      rw [Nat.mod_eq_of_lt this, Int32.zero_or]
      exact n1.symm
    · rw [if_neg c1, if_neg (fun z => c z.1), hu, Nat.zero_add, Nat.pow_one, sl_4, or_16 (Nat.mod_lt _ (by omega)), Nat.div_add_mod]
      exact n1.symm
/-- the byte that is typed -/
theorem bE_N {f : Nat} {v : Int32} (hf : f < 16) : ∀ k, bE f v k = nI (bN f v k) ∧ bN f v k < 256 := by
  intro k
  have n15 : (v &&& 15).toNatClampNeg < 16 ∧ v &&& 15 = nI (v &&& 15).toNatClampNeg := by
    have e : (v &&& 15).toBitVec.toNat ≤ 15 := by
      show (v.toBitVec &&& (15 : Int32).toBitVec).toNat ≤ 15
      rw [BitVec.toNat_and]
      exact Nat.and_le_right
    have e2 : v &&& 15 = nI (v &&& 15).toBitVec.toNat := by
      apply Int32.toBitVec_inj.mp
      show _ = BitVec.ofNat 32 _
      rw [BitVec.ofNat_toNat, BitVec.setWidth_eq]
    rw [e2, nI_clamp (by omega)]
    exact ⟨by omega, rfl⟩
  cases k with
  | zero =>
    unfold bN bE
    rw [if_pos rfl, sl_4, ← or_16 n15.1, ← n15.2]
    exact ⟨rfl, by have := n15.1; omega⟩
  | succ k =>
    have hm : uV v / 16 ^ (k + 1) % 16 < 16 := Nat.mod_lt _ (by omega)
    unfold bN
    rw [if_neg (by omega)]
    show ((if v < 0 ∧ k = 0 then (6 : Int32) else 2) <<< ((4 : Int32) &&& 31)) ||| (nI (uV v / 16 ^ (k + 1)) &&& 15) = _ ∧ _
    rw [nI_and15]
    by_cases c : v < 0 ∧ k = 0
    · rw [if_pos c, if_pos ⟨c.1, by omega⟩, ← or_16 hm]
      exact ⟨congrArg (· ||| _) (sl_4 6), by omega⟩
    · rw [if_neg c, if_neg (fun z => c ⟨z.1, by omega⟩), ← or_16 hm]
      exact ⟨congrArg (· ||| _) (sl_4 2), by omega⟩
