/-! the component's core, against the plain one -/
theorem nI_dv {x m : Nat} (hx : x < 2 ^ 31) (hm : m < 2 ^ 31) : nI x / nI m = nI (x / m) := by
  apply Int32.toInt_inj.mp
  have h1 : x / m ≤ x := Nat.div_le_self _ _
  rw [Int32.toInt_div, nI_toInt hx, nI_toInt hm, nI_toInt (by omega), ← Int.ofNat_tdiv]
  generalize x / m = q at h1
  rw [Int.bmod_eq_of_le (by omega) (by omega)]
theorem nI_md {x m : Nat} (hx : x < 2 ^ 31) (hm : m < 2 ^ 31) : nI x - nI x / nI m * nI m = nI (x % m) := by
  rw [nI_dv hx hm, nI_mul, nI_sub (Nat.div_mul_le_self _ _)]
  congr 1
  have := Nat.div_add_mod x m
  rw [Nat.mul_comm] at this
  omega
theorem adM_s {s : Cr} {x : Int32} {n : Nat} (h : adM s x = some n) : mj_in x 4016 ∧ x.toNatClampNeg = n ∧ n < 4016 ∧ x = nI n := by
  unfold adM at h
  by_cases e : mj_in x 4016 ∧ x < s.1 5
  · rw [if_pos e] at h
    have e2 := Option.some.inj h
    have e3 : x.toNatClampNeg = x.toInt.toNat := rfl
    have e4 := e.1.1
    have e5 := e.1.2
    have e6 : n < 4016 := by omega
    refine ⟨e.1, e2, e6, Int32.toInt_inj.mp ?_⟩
    rw [nI_toInt (by omega)]
    omega
  · rw [if_neg e] at h; cases h
theorem adM_b {s : Cr} {x : Int32} {n : Nat} (h : adM s x = some n) : nI n < s.1 5 := by
  obtain ⟨-, -, -, i4⟩ := adM_s h
  unfold adM at h
  by_cases e : mj_in x 4016 ∧ x < s.1 5
  · rw [← i4]; exact e.2
  · rw [if_neg e] at h; cases h
theorem in_4016 {d : Int32} (h : mj_in d 4016) : d = nI d.toNatClampNeg ∧ d.toNatClampNeg < 4016 := by
  have e3 : d.toNatClampNeg = d.toInt.toNat := rfl
  have e4 := h.1
  have e5 := h.2
  have e6 : d.toNatClampNeg < 4016 := by omega
  refine ⟨Int32.toInt_inj.mp ?_, e6⟩
  rw [nI_toInt (by omega)]
  omega
theorem in_8032 {d : Int32} (h : mj_in d 8032) : d = nI d.toNatClampNeg ∧ d.toNatClampNeg < 8032 := by
  have e3 : d.toNatClampNeg = d.toInt.toNat := rfl
  have e4 := h.1
  have e5 := h.2
  have e6 : d.toNatClampNeg < 8032 := by omega
  refine ⟨Int32.toInt_inj.mp ?_, e6⟩
  rw [nI_toInt (by omega)]
  omega
def RQ (k : Nat) (L : List Nat) (h : mj_H) : Prop := ∃ f, f < 2048 ∧ h.1 14 k 1 = nI f ∧ h.1 14 k 2 = nI L.length ∧ L.length ≤ 1100 ∧ ∀ i n, L[i]? = some n → h.1 71 k ((f + i) % 2048) = nI n
def RC (k : Nat) (s : Cr) (h : mj_H) : Prop := (∀ j, 8 ≤ j → j ≤ 27 → h.1 13 k j = s.1 j) ∧ (∀ x, x < 4016 → h.1 70 k x = s.2.1 x) ∧ RQ (2 * k) s.2.2.1 h ∧ RQ (2 * k + 1) s.2.2.2 h
def fC (k : Nat) (h h' : mj_H) : Prop := (∀ g i j, ¬ ((g = 13 ∧ i = k ∧ 8 ≤ j ∧ j ≤ 27) ∨ (g = 70 ∧ i = k) ∨ ((g = 14 ∨ g = 71) ∧ (i = 2 * k ∨ i = 2 * k + 1))) → h'.1 g i j = h.1 g i j) ∧ h'.2 = h.2
theorem fC.rf (k : Nat) (h : mj_H) : fC k h h := ⟨fun _ _ _ _ => rfl, rfl⟩
theorem fC.tr {k : Nat} {h h1 h2 : mj_H} (a : fC k h h1) (b : fC k h1 h2) : fC k h h2 := ⟨fun g i j c => (b.1 g i j c).trans (a.1 g i j c), b.2.trans a.2⟩
theorem RQ.mv {k : Nat} {L : List Nat} {h h' : mj_H} (a : RQ k L h) (f : ∀ g j, g = 14 ∨ g = 71 → h'.1 g k j = h.1 g k j) : RQ k L h' := by
  obtain ⟨f0, a1, a2, a3, a4, a5⟩ := a
  exact ⟨f0, a1, (f 14 1 (Or.inl rfl)).trans a2, (f 14 2 (Or.inl rfl)).trans a3, a4, fun i n hi => (f 71 _ (Or.inr rfl)).trans (a5 i n hi)⟩
/-- the core k stands as s, all else as in h0 -/
def RF (k : Nat) (h0 : mj_H) (s : Cr) (h : mj_H) : Prop := RC k s h ∧ fC k h0 h
section
variable {k d : Nat} {h0 h : mj_H} {s s' : Cr}
theorem RF.r (a : RF k h0 s h) (j : Nat) (v : Int32) (h1 : 8 ≤ j) (h2 : j ≤ 27) : RF k h0 (sR s j v) (mj_sI h 13 k j v) := by
  obtain ⟨⟨a1, a2, a3, a4⟩, f⟩ := a
  refine ⟨⟨fun t t1 t2 => ?_, fun x hx => by rw [mI_1, if_neg (by omega)]; exact a2 x hx, a3.mv (fun g j hg => by rw [mI_1, if_neg (by omega)]), a4.mv (fun g j hg => by rw [mI_1, if_neg (by omega)])⟩, f.tr ⟨fun g i t c => by rw [mI_1, if_neg (by omega)], rfl⟩⟩
  show _ = if t = j then v else s.1 t
  rw [mI_1]
  by_cases e : t = j
  · rw [if_pos ⟨rfl, rfl, e⟩, if_pos e]
  · rw [if_neg (fun z => e z.2.2), if_neg e]; exact a1 t t1 t2
theorem RF.m (a : RF k h0 s h) (x : Nat) (v : Int32) : RF k h0 (sM s x v) (mj_sI h 70 k x v) := by
  obtain ⟨⟨a1, a2, a3, a4⟩, f⟩ := a
  refine ⟨⟨fun t t1 t2 => by rw [mI_1, if_neg (by omega)]; exact a1 t t1 t2, fun y hy => ?_, a3.mv (fun g j hg => by rw [mI_1, if_neg (by omega)]), a4.mv (fun g j hg => by rw [mI_1, if_neg (by omega)])⟩, f.tr ⟨fun g i t c => by rw [mI_1, if_neg (by omega)], rfl⟩⟩
  show _ = if y = x then v else s.2.1 y
  rw [mI_1]
  by_cases e : y = x
  · rw [if_pos ⟨rfl, rfl, e⟩, if_pos e]
  · rw [if_neg (fun z => e z.2.2), if_neg e]; exact a2 y hy
theorem RF.g (a : RF k h0 s h) (j : Nat) (h1 : 8 ≤ j) (h2 : j ≤ 27) : h.1 13 k j = s.1 j := a.1.1 j h1 h2
theorem RF.y (a : RF k h0 s h) (x : Nat) (hx : x < 4016) : h.1 70 k x = s.2.1 x := a.1.2.1 x hx
/-- lines -/
theorem l_add {k n d : Nat} {L : List Nat} {h : mj_H} (a : RQ k L h) (hl : L.length < 1100) (hn : n < 2 ^ 31) : ∃ h', mj_R mg d mq_194 (0, [(0, vR 14 k), (1, vI (nI n))], [], h) = some (.inl (none, h')) ∧ RQ k (L ++ [n]) h' ∧ (∀ g i j, ¬ ((g = 14 ∨ g = 71) ∧ i = k) → h'.1 g i j = h.1 g i j) ∧ h'.2 = h.2 := by
  obtain ⟨f, a1, a2, a3, a4, a5⟩ := a
  have e : (h.1 14 k 1 + h.1 14 k 2) - (h.1 14 k 1 + h.1 14 k 2) / 2048 * 2048 = nI ((f + L.length) % 2048) := by
    rw [a2, a3, nI_add]
    exact nI_md (m := 2048) (by omega) (by omega)
  rw [q_194_0, e, if_pos (in_n (by omega) (by omega)), nI_clamp (by omega)]
  refine ⟨_, rfl, ⟨f, a1, ?_, ?_, by rw [List.length_append]; show L.length + 1 ≤ 1100; omega, fun i m hi => ?_⟩, fun g i j c => by rw [mI_1, if_neg (by omega), mI_1, if_neg (by omega)], rfl⟩
  · rw [mI_1, if_neg (by omega), mI_1, if_neg (by omega)]; exact a2
  · rw [mI_same, a3, List.length_append, ← nI_succ]; rfl
  · rw [mI_1, if_neg (by omega), mI_1]
    by_cases ei : i < L.length
    · rw [if_neg (by rintro ⟨-, -, z⟩; omega)]
      rw [List.getElem?_append_left ei] at hi
      exact a5 i m hi
    · rw [List.getElem?_append_right (by omega)] at hi
      have e0 : i - L.length = 0 := by
        have := gt_lt hi
        simp at this
        omega
      rw [e0] at hi
      have em : n = m := Option.some.inj hi
      rw [if_pos ⟨rfl, rfl, by rw [show i = L.length by omega]⟩, em]
theorem l_ahead {k n d : Nat} {L : List Nat} {h : mj_H} (a : RQ k L h) (hl : L.length < 1100) (hn : n < 2 ^ 31) : ∃ h', mj_R mg d mq_195 (0, [(0, vR 14 k), (1, vI (nI n))], [], h) = some (.inl (none, h')) ∧ RQ k (n :: L) h' ∧ (∀ g i j, ¬ ((g = 14 ∨ g = 71) ∧ i = k) → h'.1 g i j = h.1 g i j) ∧ h'.2 = h.2 := by
  obtain ⟨f, a1, a2, a3, a4, a5⟩ := a
  have e : ((h.1 14 k 1 + 2048) - 1) - ((h.1 14 k 1 + 2048) - 1) / 2048 * 2048 = nI ((f + 2047) % 2048) := by
    have e0 : (h.1 14 k 1 + 2048) - 1 = nI (f + 2047) := by
      rw [a2]
      have : nI f + 2048 = nI (f + 2047 + 1) := nI_add f 2048
      rw [this, nI_succ]
      exact Int32.add_sub_cancel _ _
    rw [e0]
    exact nI_md (m := 2048) (by omega) (by omega)
  have e1 : ∀ v, (mj_sI h 14 k 1 v).1 14 k 1 = v := fun v => by rw [mI_same]
  have e2 : ∀ v, (mj_sI h 14 k 1 v).1 14 k 2 = h.1 14 k 2 := fun v => by rw [mI_1, if_neg (by omega)]
  rw [q_195_0, e, e1, e2, if_pos (in_n (by omega) (by omega)), nI_clamp (by omega)]
  refine ⟨_, rfl, ⟨(f + 2047) % 2048, Nat.mod_lt _ (by omega), ?_, ?_, by rw [List.length_cons]; omega, fun i m hi => ?_⟩, fun g i j c => by rw [mI_1, if_neg (by omega), mI_1, if_neg (by omega), mI_1, if_neg (by omega)], rfl⟩
  · rw [mI_1, if_neg (by omega), mI_1, if_neg (by omega), mI_same]
  · rw [mI_same, a3, List.length_cons, ← nI_succ]
  · rw [mI_1, if_neg (by omega), mI_1]
    cases i with
    | zero =>
      have em : n = m := Option.some.inj hi
      rw [if_pos ⟨rfl, rfl, by omega⟩, em]
    | succ i =>
      have hi : L[i]? = some m := hi
      have := gt_lt hi
      rw [if_neg (by rintro ⟨-, -, z⟩; omega), mI_1, if_neg (by omega), show ((f + 2047) % 2048 + (i + 1)) % 2048 = (f + i) % 2048 by omega]
      exact a5 i m hi
theorem l_take {k n d : Nat} {L : List Nat} {h : mj_H} (a : RQ k (n :: L) h) : ∃ h', mj_R mg d mq_196 (0, [(0, vR 14 k)], [], h) = some (.inl (some (vI (nI n)), h')) ∧ RQ k L h' ∧ (∀ g i j, ¬ ((g = 14 ∨ g = 71) ∧ i = k) → h'.1 g i j = h.1 g i j) ∧ h'.2 = h.2 := by
  obtain ⟨f, a1, a2, a3, a4, a5⟩ := a
  rw [List.length_cons] at a3 a4
  have e : (h.1 14 k 1 + 1) - (h.1 14 k 1 + 1) / 2048 * 2048 = nI ((f + 1) % 2048) := by
    rw [a2, ← nI_succ]
    exact nI_md (m := 2048) (by omega) (by omega)
  have e2 : ∀ v, (mj_sI h 14 k 1 v).1 14 k 2 = h.1 14 k 2 := fun v => by rw [mI_1, if_neg (by omega)]
  have e0 := a5 0 n rfl
  rw [Nat.add_zero, Nat.mod_eq_of_lt a1] at e0
  rw [q_196_0, e, e2, a2, if_pos (in_n (by omega) (by omega)), nI_clamp (by omega), e0]
  refine ⟨_, rfl, ⟨(f + 1) % 2048, Nat.mod_lt _ (by omega), ?_, ?_, by omega, fun i m hi => ?_⟩, fun g i j c => by rw [mI_1, if_neg (by omega), mI_1, if_neg (by omega)], rfl⟩
  · rw [mI_1, if_neg (by omega), mI_same]
  · rw [mI_same, a3, nI_succ]; exact Int32.add_sub_cancel _ _
  · have := gt_lt hi
    rw [mI_1, if_neg (by omega), mI_1, if_neg (by omega), show ((f + 1) % 2048 + i) % 2048 = (f + (i + 1)) % 2048 by omega]
    exact a5 (i + 1) m hi
end
