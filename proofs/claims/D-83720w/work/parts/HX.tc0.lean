/-! the twin's cores, against the plain one -/
theorem sh_1 {x : Nat} (hx : x < 2 ^ 31) : (nI x) >>> ((1 : Int32) &&& 31) = nI (x / 2) := by
  have e : ((1 : Int32) &&& 31) = 1 := by decide
  rw [e]
  apply Int32.toInt_inj.mp
  rw [Int32.toInt, Int32.toBitVec_shiftRight]
  show ((nI x).toBitVec.sshiftRight (BitVec.smod (Int32.toBitVec 1) 32).toNat).toInt = _
  rw [BitVec.toInt_sshiftRight]
  have e2 : (BitVec.smod (Int32.toBitVec 1) 32).toNat = 1 := by decide
  rw [e2]
  have e3 : (nI x).toBitVec.toInt = (x : Int) := by
    show (Int32.ofNat x).toInt = _
    exact Int32.toInt_ofNat_of_lt hx
  have e4 : (nI (x / 2)).toInt = ((x / 2 : Nat) : Int) := by
    show (Int32.ofNat (x / 2)).toInt = _
    exact Int32.toInt_ofNat_of_lt (by omega)
  rw [e3, e4, Int.shiftRight_eq_div_pow]
  rfl
theorem nI_and1 (x : Nat) : nI x &&& 1 = nI (x % 2) := by
  rw [← Nat.and_one_is_mod]
  apply Int32.toBitVec_inj.mp
  show BitVec.ofNat 32 x &&& BitVec.ofNat 32 1 = BitVec.ofNat 32 (x &&& 1)
  rw [BitVec.ofNat_and]
theorem mI_cm {h : mj_H} {g i j g' i' j' : Nat} {v v' : Int32} (c : ¬ (g' = g ∧ i' = i ∧ j' = j)) : mj_sI (mj_sI h g i j v) g' i' j' v' = mj_sI (mj_sI h g' i' j' v') g i j v := by
  refine Prod.ext (funext fun a => funext fun b => funext fun t => ?_) rfl
  rw [mI_1, mI_1, mI_1, mI_1]
  by_cases e : a = g' ∧ b = i' ∧ t = j'
  · rw [if_pos e, if_neg (fun z => c ⟨e.1.symm.trans z.1, e.2.1.symm.trans z.2.1, e.2.2.symm.trans z.2.2⟩), if_pos e]
  · rw [if_neg e, if_neg e]
/-- a row of ready ones -/
def yQ (r b : Nat) (L : List Nat) (h : mj_H) : Prop := h.1 144 0 r = nI L.length ∧ L.length ≤ 1095 ∧ ∀ i n, L[i]? = some n → n ≤ 4016 ∧ h.1 143 0 (1100 * r + i) = nI (2 * n + b)
/-- all but the registers -/
def yD (p : Nat) (s : Cr) (h : mj_H) : Prop := (h.1 141 0 p = s.1 17 ∧ h.1 139 0 p = s.1 18 ∧ h.1 140 0 p = s.1 19 ∧ h.1 145 0 p = s.1 22 ∧ (¬ s.1 22 = 0 → ∀ j, 24 ≤ j → j ≤ 27 → h.1 (122 + j) 0 p = s.1 j)) ∧
  (∀ x, x < 4016 → nI x < s.1 5 → h.1 131 0 (4016 * p + x) = s.2.1 x) ∧ yQ (2 * p) 0 s.2.2.1 h ∧ yQ (2 * p + 1) 1 s.2.2.2 h
/-- the registers -/
def yG (p : Nat) (s : Cr) (h : mj_H) : Prop := (∀ j, 8 ≤ j → j ≤ 13 → h.1 (124 + j) 0 p = s.1 j) ∧ h.1 142 0 p = s.1 16 ∧ ∃ n b, n ≤ 4016 ∧ b ≤ 1 ∧ s.1 12 = nI n ∧ s.1 15 = nI b
def yC (p : Nat) (s : Cr) (h : mj_H) : Prop := (¬ s.1 14 = 0 → yG p s h) ∧ h.1 138 0 p = (if s.1 14 = 0 then -1 else cSelf s) ∧ yD p s h
def yF (p : Nat) (h h' : mj_H) : Prop := (∀ g i j, ¬ (i = 0 ∧ ((132 ≤ g ∧ g ≤ 142 ∧ j = p) ∨ (145 ≤ g ∧ g ≤ 149 ∧ j = p) ∨ (g = 131 ∧ 4016 * p ≤ j ∧ j < 4016 * (p + 1)) ∨ (g = 143 ∧ 2200 * p ≤ j ∧ j < 2200 * (p + 1)) ∨ (g = 144 ∧ (j = 2 * p ∨ j = 2 * p + 1)))) → h'.1 g i j = h.1 g i j) ∧ h'.2 = h.2
theorem yF.rf (p : Nat) (h : mj_H) : yF p h h := ⟨fun _ _ _ _ => rfl, rfl⟩
theorem yF.tr {p : Nat} {h h1 h2 : mj_H} (a : yF p h h1) (b : yF p h1 h2) : yF p h h2 := ⟨fun g i j c => (b.1 g i j c).trans (a.1 g i j c), b.2.trans a.2⟩
/-- core p stands as s, all else as in h0 -/
def yR (p : Nat) (h0 : mj_H) (s : Cr) (h : mj_H) : Prop := yC p s h ∧ yF p h0 h
theorem yQ.mv {r b : Nat} {L : List Nat} {h h' : mj_H} (a : yQ r b L h) (f : h'.1 144 0 r = h.1 144 0 r) (f2 : ∀ j, 1100 * r ≤ j → j < 1100 * r + 1100 → h'.1 143 0 j = h.1 143 0 j) : yQ r b L h' := by
  obtain ⟨a1, a2, a3⟩ := a
  refine ⟨f.trans a1, a2, fun i n hi => ⟨(a3 i n hi).1, ?_⟩⟩
  have := gt_lt hi
  rw [f2 _ (by omega) (by omega)]
  exact (a3 i n hi).2
section
variable {p d : Nat} {h0 h : mj_H} {s s' : Cr}
theorem yR.f (a : yR p h0 s h) : yR p h s h := ⟨a.1, yF.rf _ _⟩
theorem yR.u {h' : mj_H} (a : yR p h0 s h) (b : yR p h s' h') : yR p h0 s' h' := ⟨b.1, a.2.tr b.2⟩
theorem yR.r (a : yR p h0 s h) (j g : Nat) (v : Int32) (hj : (8 ≤ j ∧ j ≤ 13 ∧ j ≠ 12 ∧ g = 124 + j) ∨ (j = 16 ∧ g = 142) ∨ (j = 17 ∧ g = 141) ∨ (j = 18 ∧ g = 139) ∨ (j = 19 ∧ g = 140)) : yR p h0 (sR s j v) (mj_sI h g 0 p v) := by
  obtain ⟨⟨a1, a2, ⟨d1, d2, d3, d4, d5⟩, a4, a5, a6⟩, f⟩ := a
  have q : ∀ t, t ≠ j → (sR s j v).1 t = s.1 t := fun t ht => if_neg ht
  have qj : (sR s j v).1 j = v := if_pos rfl
  have c : ∀ g' j', ¬ (g' = g ∧ j' = p) → (mj_sI h g 0 p v).1 g' 0 j' = h.1 g' 0 j' := fun g' j' z => by rw [mI_1, if_neg (fun y => z ⟨y.1, y.2.2⟩)]
  have two : ∀ t g', (t = j ↔ g' = g) → h.1 g' 0 p = s.1 t → (mj_sI h g 0 p v).1 g' 0 p = (sR s j v).1 t := by
    intro t g' e1 e2
    by_cases e : t = j
    · have e3 := e1.mp e
      subst e; subst e3
      rw [mI_same, qj]
    · rw [c _ _ (fun z => e (e1.mpr z.1)), q t e]; exact e2
  refine ⟨⟨fun hr => ?_, ?_, ⟨two 17 141 (by omega) d1, two 18 139 (by omega) d2, two 19 140 (by omega) d3, two 22 145 (by omega) d4, fun hk t t1 t2 => ?_⟩, fun x hx hb => ?_, a5.mv (c _ _ (by omega)) (fun t _ _ => c _ _ (by omega)), a6.mv (c _ _ (by omega)) (fun t _ _ => c _ _ (by omega))⟩, f.tr ⟨fun g' i t z => by rw [mI_1, if_neg (by omega)], rfl⟩⟩
  · rw [q 14 (by omega)] at hr
    obtain ⟨b1, b2, n, b, b3, b4, b5, b6⟩ := a1 hr
    exact ⟨fun t t1 t2 => two t (124 + t) (by omega) (b1 t t1 t2), two 16 142 (by omega) b2, n, b, b3, b4, (q 12 (by omega)).trans b5, (q 15 (by omega)).trans b6⟩
  · have e : cSelf (sR s j v) = cSelf s := by unfold cSelf; rw [q 12 (by omega), q 15 (by omega)]
    rw [c _ _ (by omega), a2, e, q 14 (by omega)]
  · rw [q 22 (by omega)] at hk
    rw [c _ _ (by omega), q t (by omega)]
    exact d5 hk t t1 t2
  · rw [q 5 (by omega)] at hb
    rw [c _ _ (by omega)]
    exact a4 x hx hb
theorem yR.w (a : yR p h0 s h) (hr : ¬ s.1 14 = 0) {n : Nat} (hn : n ≤ 4016) : yR p h0 (sR s 12 (nI n)) (mj_sI (mj_sI h 136 0 p (nI n)) 138 0 p (2 * nI n + s.1 15)) := by
  obtain ⟨⟨a1, a2, ⟨d1, d2, d3, d4, d5⟩, a4, a5, a6⟩, f⟩ := a
  have q : ∀ t, t ≠ 12 → (sR s 12 (nI n)).1 t = s.1 t := fun t ht => if_neg ht
  have qj : (sR s 12 (nI n)).1 12 = nI n := rfl
  have c : ∀ g' j', ¬ (g' = 136 ∧ j' = p) → ¬ (g' = 138 ∧ j' = p) → (mj_sI (mj_sI h 136 0 p (nI n)) 138 0 p (2 * nI n + s.1 15)).1 g' 0 j' = h.1 g' 0 j' := fun g' j' z z2 => by rw [mI_1, if_neg (fun y => z2 ⟨y.1, y.2.2⟩), mI_1, if_neg (fun y => z ⟨y.1, y.2.2⟩)]
  obtain ⟨b1, b2, m, b, b3, b4, b5, b6⟩ := a1 hr
  refine ⟨⟨fun _ => ⟨fun t t1 t2 => ?_, (c _ _ (by omega) (by omega)).trans b2, n, b, hn, b4, qj, (q 15 (by omega)).trans b6⟩, ?_, ⟨(c _ _ (by omega) (by omega)).trans d1, (c _ _ (by omega) (by omega)).trans d2, (c _ _ (by omega) (by omega)).trans d3, (c _ _ (by omega) (by omega)).trans d4, fun hk t t1 t2 => ?_⟩, fun x hx hb => ?_, a5.mv (c _ _ (by omega) (by omega)) (fun t _ _ => c _ _ (by omega) (by omega)), a6.mv (c _ _ (by omega) (by omega)) (fun t _ _ => c _ _ (by omega) (by omega))⟩, f.tr ⟨fun g' i t z => by rw [mI_1, if_neg (by omega), mI_1, if_neg (by omega)], rfl⟩⟩
  · by_cases e : t = 12
    · subst e
      rw [mI_1, if_neg (by omega), mI_same, qj]
    · rw [c _ _ (by omega) (by omega), q t e]; exact b1 t t1 t2
  · rw [mI_same, q 14 (by omega), if_neg hr]
    show _ = 2 * (sR s 12 (nI n)).1 12 + (sR s 12 (nI n)).1 15
    rw [qj, q 15 (by omega)]
  · rw [c _ _ (by omega) (by omega)]
    exact d5 hk t t1 t2 |>.trans (q t (by omega)).symm
  · rw [c _ _ (by omega) (by omega)]
    exact a4 x hx hb
theorem yR.off (a : yR p h0 s h) : yR p h0 (sR s 14 0) (mj_sI h 138 0 p (-1)) := by
  obtain ⟨⟨a1, a2, ⟨d1, d2, d3, d4, d5⟩, a4, a5, a6⟩, f⟩ := a
  have q : ∀ t, t ≠ 14 → (sR s 14 0).1 t = s.1 t := fun t ht => if_neg ht
  have c : ∀ g' j', ¬ (g' = 138 ∧ j' = p) → (mj_sI h 138 0 p (-1)).1 g' 0 j' = h.1 g' 0 j' := fun g' j' z => by rw [mI_1, if_neg (fun y => z ⟨y.1, y.2.2⟩)]
  refine ⟨⟨fun hr => (hr rfl).elim, ?_, ⟨(c _ _ (by omega)).trans d1, (c _ _ (by omega)).trans d2, (c _ _ (by omega)).trans d3, (c _ _ (by omega)).trans d4, fun hk t t1 t2 => ?_⟩, fun x hx hb => ?_, a5.mv (c _ _ (by omega)) (fun t _ _ => c _ _ (by omega)), a6.mv (c _ _ (by omega)) (fun t _ _ => c _ _ (by omega))⟩, f.tr ⟨fun g' i t z => by rw [mI_1, if_neg (by omega)], rfl⟩⟩
  · rw [mI_same]; rfl
  · rw [c _ _ (by omega)]
    exact d5 hk t t1 t2 |>.trans (q t (by omega)).symm
  · rw [c _ _ (by omega)]
    exact a4 x hx hb
theorem yR.m (a : yR p h0 s h) {x : Nat} (v : Int32) (hx : x < 4016) : yR p h0 (sM s x v) (mj_sI h 131 0 (4016 * p + x) v) := by
  obtain ⟨⟨a1, a2, ⟨d1, d2, d3, d4, d5⟩, a4, a5, a6⟩, f⟩ := a
  have c : ∀ g' j', ¬ (g' = 131 ∧ j' = 4016 * p + x) → (mj_sI h 131 0 (4016 * p + x) v).1 g' 0 j' = h.1 g' 0 j' := fun g' j' z => by rw [mI_1, if_neg (fun y => z ⟨y.1, y.2.2⟩)]
  refine ⟨⟨fun hr => ?_, (c _ _ (by omega)).trans a2, ⟨(c _ _ (by omega)).trans d1, (c _ _ (by omega)).trans d2, (c _ _ (by omega)).trans d3, (c _ _ (by omega)).trans d4, fun hk t t1 t2 => (c _ _ (by omega)).trans (d5 hk t t1 t2)⟩, fun y hy hb => ?_, a5.mv (c _ _ (by omega)) (fun t _ _ => c _ _ (by omega)), a6.mv (c _ _ (by omega)) (fun t _ _ => c _ _ (by omega))⟩, f.tr ⟨fun g' i t z => by rw [mI_1, if_neg (by omega)], rfl⟩⟩
  · obtain ⟨b1, b2, b3⟩ := a1 hr
    exact ⟨fun t t1 t2 => (c _ _ (by omega)).trans (b1 t t1 t2), (c _ _ (by omega)).trans b2, b3⟩
  · show _ = if y = x then v else s.2.1 y
    by_cases e : y = x
    · rw [if_pos e, e, mI_same]
    · rw [if_neg e, c _ _ (by omega)]; exact a4 y hy hb
theorem yR.g (a : yR p h0 s h) (hr : ¬ s.1 14 = 0) (j : Nat) (h1 : 8 ≤ j) (h2 : j ≤ 13) : h.1 (124 + j) 0 p = s.1 j := (a.1.1 hr).1 j h1 h2
theorem yR.y (a : yR p h0 s h) (x : Nat) (hx : x < 4016) (hb : nI x < s.1 5) : h.1 131 0 (4016 * p + x) = s.2.1 x := a.1.2.2.2.1 x hx hb
theorem yR.n (a : yR p h0 s h) (hr : ¬ s.1 14 = 0) : h.1 138 0 p = cSelf s := by rw [a.1.2.1, if_neg hr]
theorem yR.n1 (a : yR p h0 s h) (hr : ¬ s.1 14 = 0) : h.1 138 0 p &&& 1 = s.1 15 ∧ ¬ h.1 138 0 p = -1 := by
  obtain ⟨-, -, n, b, b3, b4, b5, b6⟩ := a.1.1 hr
  have e : cSelf s = nI (2 * n + b) := by
    unfold cSelf
    rw [b5, b6]
    show nI 2 * nI n + nI b = _
    rw [nI_mul, nI_add]
  rw [a.n hr, e]
  refine ⟨?_, fun z => ?_⟩
  · rw [nI_and1, b6, show (2 * n + b) % 2 = b by omega]
  · have := congrArg Int32.toInt z
    rw [nI_toInt (by omega)] at this
    have e1 : (-1 : Int32).toInt = -1 := by decide
    omega
theorem yp_in (hp : p < 6) : mj_in (nI p) 6 := in_n hp (by omega)
theorem yp_ad (hp : p < 6) {x : Nat} (hx : x < 4016) : (4016 * nI p + nI x : Int32) = nI (4016 * p + x) := by
  show nI 4016 * nI p + nI x = _
  rw [nI_mul, nI_add]
theorem y_load {x : Nat} (hp : p < 6) (hx : x < 4016) : mj_R mg (d + 1) mq_322 (0, [(0, vR 15 0), (1, vI (nI p)), (2, vI (nI x))], [], h) = some (.inl (some (vI (h.1 131 0 (4016 * p + x))), h)) := by
  have e := t_in (d := d) (v := x) (lo := 0) (hi := 4015) (h := h) (by omega) (by omega) (by omega)
  have e : mj_R mg d mq_199 (0, [(0, vI (nI x)), (1, vI 0), (2, vI 4015)], [], h) = _ := e
  rw [q_322_0, e, mj_xi_ret, decide_eq_true (by omega), if_neg (by decide), yp_ad hp hx, if_pos (in_n (by omega) (by omega)), nI_clamp (by omega), q_322_27]
theorem y_store {x : Nat} {v : Int32} (hp : p < 6) (hx : x < 4016) : mj_R mg (d + 1) mq_323 (0, [(0, vR 15 0), (1, vI (nI p)), (2, vI (nI x)), (3, vI v)], [], h) = some (.inl (none, mj_sI h 131 0 (4016 * p + x) v)) := by
  have e := t_in (d := d) (v := x) (lo := 0) (hi := 4015) (h := h) (by omega) (by omega) (by omega)
  have e : mj_R mg d mq_199 (0, [(0, vI (nI x)), (1, vI 0), (2, vI 4015)], [], h) = _ := e
  rw [q_323_0, e, mj_xi_ret, decide_eq_true (by omega), if_neg (by decide), yp_ad hp hx, if_pos (in_n (by omega) (by omega)), nI_clamp (by omega), q_323_24]
/-- what a method of the twin without an answer does -/
def yDo (p : Nat) (h0 : mj_H) (s' : Cr) (R : Option mj_O) : Prop := ∃ h', R = some (.inl (none, h')) ∧ yR p h0 s' h'
theorem y_ld {x : Int32} {n : Nat} (a : yR p h0 s h) (hp : p < 6) (e : adM s x = some n) : mj_R mg (d + 1) mq_322 (0, [(0, vR 15 0), (1, vI (nI p)), (2, vI x)], [], h) = some (.inl (some (vI (s.2.1 n)), h)) := by
  obtain ⟨e1, e2, -, -⟩ := ad_0 e
  rw [e1, y_load hp e2, a.y n e2 (adM_b e)]
theorem y_st {x v : Int32} {n : Nat} (a : yR p h0 s h) (hp : p < 6) (e : adM s x = some n) : mj_R mg (d + 1) mq_323 (0, [(0, vR 15 0), (1, vI (nI p)), (2, vI x), (3, vI v)], [], h) = some (.inl (none, mj_sI h 131 0 (4016 * p + n) v)) ∧ yR p h0 (sM s n v) (mj_sI h 131 0 (4016 * p + n) v) := by
  obtain ⟨e1, e2, -, -⟩ := ad_0 e
  exact ⟨by rw [e1, y_store hp e2], a.m v e2⟩
theorem y_gone (a : yR p h0 s h) (hp : p < 6) : yDo p h0 (sR s 14 0) (mj_R mg d mq_328 (0, [(0, vR 15 0), (1, vI (nI p))], [], h)) := by
  rw [q_328_0, if_pos (yp_in hp), nI_clamp (by omega)]
  exact ⟨_, rfl, a.off⟩
theorem y_take (a : yR p h0 s h) (hp : p < 6) (hr : ¬ s.1 14 = 0) : yDo p h0 (cPop s) (mj_R mg d mq_330 (0, [(0, vR 15 0), (1, vI (nI p))], [], h)) := by
  have g9 : h.1 133 0 p = s.1 9 := a.g hr 9 (by omega) (by omega)
  have g10 : h.1 134 0 p = s.1 10 := a.g hr 10 (by omega) (by omega)
  rw [q_330_0, if_pos (yp_in hp), if_pos (yp_in hp), if_pos (yp_in hp), if_pos (yp_in hp), nI_clamp (by omega), g9, g10]
  exact ⟨_, rfl, (a.r 8 132 _ (by omega)).r 9 133 _ (by omega)⟩
theorem y_come {v : Int32} (a : yR p h0 s h) (hp : p < 6) (hr : ¬ s.1 14 = 0) : yDo p h0 (cPush s v) (mj_R mg d mq_331 (0, [(0, vR 15 0), (1, vI (nI p)), (2, vI v)], [], h)) := by
  have g8 : h.1 132 0 p = s.1 8 := a.g hr 8 (by omega) (by omega)
  have g9 : h.1 133 0 p = s.1 9 := a.g hr 9 (by omega) (by omega)
  rw [q_331_0, if_pos (yp_in hp), if_pos (yp_in hp), if_pos (yp_in hp), if_pos (yp_in hp), if_pos (yp_in hp), nI_clamp (by omega), g9, g8]
  exact ⟨_, rfl, ((a.r 10 134 _ (by omega)).r 9 133 _ (by omega)).r 8 132 _ (by omega)⟩
theorem y_two {v : Int32} (a : yR p h0 s h) (hp : p < 6) (hr : ¬ s.1 14 = 0) : yDo p h0 (cTwo s v) (mj_R mg (d + 1) mq_334 (0, [(0, vR 15 0), (1, vI (nI p)), (2, vI v)], [], h)) := by
  obtain ⟨h1, q1, a1⟩ := y_take (d := d) a hp hr
  obtain ⟨h2, q2, a2⟩ := y_take (d := d) a1 hp hr
  obtain ⟨h3, q3, a3⟩ := y_come (d := d) (v := v) a2 hp hr
  rw [q_334_0, q1, mj_xv_ret, q2, mj_xv_ret, q3, mj_xv_ret]
  have e : cPush (cPop (cPop s)) v = cTwo s v := by
    refine Prod.ext (funext fun t => ?_) rfl
    show (if t = 8 then v else if t = 9 then s.1 10 else if t = 10 then s.1 10 else if t = 9 then s.1 10 else if t = 8 then s.1 10 else if t = 9 then s.1 10 else if t = 8 then s.1 9 else s.1 t) = (if t = 8 then v else if t = 9 then s.1 10 else if t = 8 then s.1 9 else s.1 t)
    by_cases e8 : t = 8
    · rw [if_pos e8, if_pos e8]
    · by_cases e9 : t = 9
      · rw [if_neg e8, if_pos e9, if_neg e8, if_pos e9]
      · by_cases e10 : t = 10
        · rw [if_neg e8, if_neg e9, if_pos e10, if_neg e8, if_neg e9, if_neg e8, e10]
        · rw [if_neg e8, if_neg e9, if_neg e10, if_neg e9, if_neg e8, if_neg e9, if_neg e8, if_neg e8]
  rw [e] at a3
  exact ⟨_, rfl, a3⟩
theorem y_fault (a : yR p h0 s h) (hp : p < 6) : yDo p h0 (cFails s) (mj_R mg (d + 1) mq_329 (0, [(0, vR 15 0), (1, vI (nI p)), (2, vI 1)], [], h)) := by
  obtain ⟨h1, q1, a1⟩ := y_gone (d := d) (a.r 18 139 (1 &&& 1) (by omega)) hp
  rw [q_329_0, if_neg (by decide), if_pos (yp_in hp), nI_clamp (by omega), q1, mj_xv_ret, q_329_16]
  exact ⟨_, rfl, a1⟩
theorem y_nofault : mj_R mg (d + 1) mq_329 (0, [(0, vR 15 0), (1, vI (nI p)), (2, vI 0)], [], h) = some (.inl (none, h)) := by
  rw [q_329_0, if_pos rfl, q_329_16]
theorem y_wait0 (a : yR p h0 s h) (hp : p < 6) (hr : ¬ s.1 14 = 0) (e : cRest s = some s') : yDo p h0 s' (mj_R mg (d + 2) mq_327 (0, [(0, vR 15 0), (1, vI (nI p))], [], h)) := by
  obtain ⟨x, e1, e2⟩ := Option.map_eq_some_iff.mp e
  have g11 : h.1 135 0 p = s.1 11 := a.g hr 11 (by omega) (by omega)
  have g12 : h.1 136 0 p = s.1 12 := a.g hr 12 (by omega) (by omega)
  obtain ⟨q1, a1⟩ := y_st (d := d) (v := s.1 11) a hp e1
  obtain ⟨h2, q2, a2⟩ := y_gone (d := d + 1) a1 hp
  subst e2
  rw [q_327_0, if_pos (yp_in hp), if_pos (yp_in hp), nI_clamp (by omega), g11, g12, q1, mj_xv_ret, q2, mj_xv_ret]
  exact ⟨_, rfl, a2⟩
end
