/-! the twin's cores: dispatch, yield0 -/
section
variable {p d : Nat} {h0 h : mj_H} {s s' : Cr}
theorem cSt_s {n : Nat} {lo : Int32} (e : cStart s n lo = some s') : ∃ x, adM s (nI n - 1) = some x ∧ s' = sR (sR (sR (sR (sR (sR (sR (sR (sR s 14 1) 12 (nI n)) 15 lo) 16 0) 8 0) 9 0) 10 0) 13 0) 11 (s.2.1 x) := by
  obtain ⟨x, e1, e2⟩ := Option.map_eq_some_iff.mp e
  exact ⟨x, e1, e2.symm⟩
/-- a state after dispatch, no registers kept -/
theorem y_on {r b n x : Nat} {H L : List Nat} {h3 : mj_H} (a : yD p s h) (hp : p < 6) (hb : b ≤ 1) (hr : r = 2 * p ∨ r = 2 * p + 1)
    (z : ∀ g, g = 132 ∨ g = 133 ∨ g = 134 ∨ g = 137 ∨ g = 142 → h3.1 g 0 p = 0) (e138 : h3.1 138 0 p = nI (2 * n + b)) (hn : n ≤ 4016) (fr : ∀ g i j, ¬ (i = 0 ∧ (((g = 132 ∨ g = 133 ∨ g = 134 ∨ g = 137 ∨ g = 142 ∨ g = 138) ∧ j = p) ∨ (g = 144 ∧ j = r) ∨ (g = 143 ∧ 1100 * r ≤ j ∧ j < 1100 * r + 1100))) → h3.1 g i j = h.1 g i j) (f2 : h3.2 = h.2)
    (qH : yQ (2 * p) 0 H h3) (qL : yQ (2 * p + 1) 1 L h3) : yR p h (sR (sR (sR (sR (sR (sR (sR (sR (sR (sQ s H L) 14 1) 12 (nI n)) 15 (nI b)) 16 0) 8 0) 9 0) 10 0) 13 0) 11 (s.2.1 x)) (mj_sI (mj_sI h3 136 0 p (nI n)) 135 0 p (s.2.1 x)) := by
  obtain ⟨⟨d1, d2, d3, d4, d5⟩, a4, a5, a6⟩ := a
  have c : ∀ g' j', ¬ (g' = 136 ∧ j' = p) → ¬ (g' = 135 ∧ j' = p) → (mj_sI (mj_sI h3 136 0 p (nI n)) 135 0 p (s.2.1 x)).1 g' 0 j' = h3.1 g' 0 j' := fun g' j' z z2 => by rw [mI_1, if_neg (fun y => z2 ⟨y.1, y.2.2⟩), mI_1, if_neg (fun y => z ⟨y.1, y.2.2⟩)]
  refine ⟨⟨fun _ => ⟨fun t t1 t2 => ?_, ?_, n, b, hn, hb, rfl, rfl⟩, ?_, ⟨?_, ?_, ?_, ?_, fun hk t t1 t2 => ?_⟩, fun y hy hb => ?_, qH.mv (c _ _ (by omega) (by omega)) (fun t _ _ => c _ _ (by omega) (by omega)), qL.mv (c _ _ (by omega) (by omega)) (fun t _ _ => c _ _ (by omega) (by omega))⟩, ⟨fun g' i t z => by rw [mI_1, if_neg (by omega), mI_1, if_neg (by omega)]; exact fr _ _ _ (by omega), f2⟩⟩
  · have ht : t = 8 ∨ t = 9 ∨ t = 10 ∨ t = 11 ∨ t = 12 ∨ t = 13 := by omega
    rcases ht with rfl | rfl | rfl | rfl | rfl | rfl
    · rw [c _ _ (by omega) (by omega)]; exact z 132 (by omega)
    · rw [c _ _ (by omega) (by omega)]; exact z 133 (by omega)
    · rw [c _ _ (by omega) (by omega)]; exact z 134 (by omega)
    · exact mI_same
    · rw [mI_1, if_neg (by omega)]; exact mI_same
    · rw [c _ _ (by omega) (by omega)]; exact z 137 (by omega)
  · rw [c _ _ (by omega) (by omega)]; exact z 142 (by omega)
  · rw [c _ _ (by omega) (by omega), e138]
    show _ = 2 * nI n + nI b
    show _ = nI 2 * nI n + nI b
    rw [nI_mul, nI_add]
  · rw [c _ _ (by omega) (by omega), fr _ _ _ (by omega)]; exact d1
  · rw [c _ _ (by omega) (by omega), fr _ _ _ (by omega)]; exact d2
  · rw [c _ _ (by omega) (by omega), fr _ _ _ (by omega)]; exact d3
  · rw [c _ _ (by omega) (by omega), fr _ _ _ (by omega)]; exact d4
  · rw [c _ _ (by omega) (by omega), fr _ _ _ (by omega)]
    rw [d5 hk t t1 t2]
    have ht : t = 24 ∨ t = 25 ∨ t = 26 ∨ t = 27 := by omega
    rcases ht with rfl | rfl | rfl | rfl <;> rfl
  · rw [c _ _ (by omega) (by omega), fr _ _ _ (by omega)]; exact a4 y hy hb
theorem yR.kept (a : yR p h0 s h) {v : Int32} (hv : v = 0) : yR p h0 (sR s 22 0) (mj_sI h 145 0 p v) := by
  subst hv
  obtain ⟨⟨a1, a2, ⟨d1, d2, d3, d4, d5⟩, a4, a5, a6⟩, f⟩ := a
  have c : ∀ g' j', ¬ (g' = 145 ∧ j' = p) → (mj_sI h 145 0 p 0).1 g' 0 j' = h.1 g' 0 j' := fun g' j' z => by rw [mI_1, if_neg (fun y => z ⟨y.1, y.2.2⟩)]
  refine ⟨⟨fun hr => ?_, (c _ _ (by omega)).trans a2, ⟨(c _ _ (by omega)).trans d1, (c _ _ (by omega)).trans d2, (c _ _ (by omega)).trans d3, mI_same, fun hk => (hk rfl).elim⟩, fun y hy hb => (c _ _ (by omega)).trans (a4 y hy hb), a5.mv (c _ _ (by omega)) (fun t _ _ => c _ _ (by omega)), a6.mv (c _ _ (by omega)) (fun t _ _ => c _ _ (by omega))⟩, f.tr ⟨fun g' i t z => by rw [mI_1, if_neg (by omega)], rfl⟩⟩
  obtain ⟨b1, b2, n, b, b3, b4, b5, b6⟩ := a1 hr
  refine ⟨fun t t1 t2 => (c _ _ (by omega)).trans ((b1 t t1 t2).trans ?_), (c _ _ (by omega)).trans b2, n, b, b3, b4, b5, b6⟩
  show _ = if t = 22 then 0 else s.1 t
  rw [if_neg (by omega)]
/-- the next one comes -/
theorem y_disp (a : yD p s h) (hp : p < 6) (e0 : s.1 14 = 0) (e : cNext s = some s') : yDo p h s' (mj_R mg (d + 2) mq_325 (0, [(0, vR 15 0), (1, vI (nI p))], [], h)) := by
  have ip := yp_in hp
  have e2 : (2 : Int32) * nI p = nI (2 * p) := nI_mul 2 p
  have hq1 := a.2.2.1
  have hq2 := a.2.2.2
  unfold cNext at e
  rw [if_neg (fun z => z e0)] at e
  rw [q_325_0, e2, if_pos (in_n (by omega) (by omega)), nI_clamp (by omega), hq1.1, ← nI_succ]
  obtain ⟨s1, m, H, L⟩ := s
  cases H with
  | cons n H =>
    obtain ⟨x, ex, es⟩ := cSt_s (s := sQ (s1, m, n :: H, L) H L) e
    obtain ⟨h3, w1, w2, w3, w4, w5, w6, w7⟩ := y_first (d := d) (r := 2 * p) (b := 0) (R := n :: H) (T := H) (x := x) a hp (Or.inl ⟨rfl, rfl, rfl⟩) rfl ex
    rw [if_neg (n_le0 (by show 1 ≤ H.length + 1; omega) (by have := hq1.2.1; have : (n :: H).length ≤ 1095 := this; omega)), w1, if_pos (fun z => by rw [e2, ← nI_succ] at z; have := (nI_eq (by omega) (by omega)).mp z; omega), q_325_265]
    refine ⟨_, rfl, ?_⟩
    rw [es]
    exact y_on (b := 0) (r := 2 * p) (H := H) (L := L) a hp (by omega) (Or.inl rfl) w2 w3 w4 w6 w7 w5 (hq2.mv (w6 _ _ _ (by omega)) (fun j _ _ => w6 _ _ _ (by omega)))
  | nil =>
    rw [if_pos (show nI ([] : List Nat).length ≤ 0 by decide)]
    cases L with
    | nil =>
      have e9 := Option.some.inj e
      subst e9
      have h2 : h.1 144 0 (2 * p + 1) = nI 0 := hq2.1
      rw [q_325_22]
      simp only [if_pos ip, if_pos (in_n (show 2 * p + 1 < 12 by omega) (show 12 < 2 ^ 31 by omega)), nI_clamp (show p < 2 ^ 31 by omega), nI_clamp (show 2 * p + 1 < 2 ^ 31 by omega), h2]
      rw [if_neg (fun z => z rfl)]
      refine ⟨_, rfl, ?_⟩
      obtain ⟨⟨d1, d2, d3, d4, d5⟩, a4, a5, a6⟩ := a
      have c : ∀ g j, ¬ ((g = 132 ∨ g = 133 ∨ g = 134 ∨ g = 137 ∨ g = 142 ∨ g = 138 ∨ g = 135 ∨ g = 136) ∧ j = p) → (mj_sI (mj_sI (mj_sI (mj_sI (mj_sI (mj_sI (mj_sI (mj_sI h 132 0 p 0) 133 0 p 0) 134 0 p 0) 137 0 p 0) 142 0 p 0) 138 0 p (-1)) 135 0 p 0) 136 0 p 0).1 g 0 j = h.1 g 0 j := fun g j z => by rw [mI_1, if_neg (by omega), mI_1, if_neg (by omega), mI_1, if_neg (by omega), mI_1, if_neg (by omega), mI_1, if_neg (by omega), mI_1, if_neg (by omega), mI_1, if_neg (by omega), mI_1, if_neg (by omega)]
      refine ⟨⟨fun hr => (hr e0).elim, ?_, ⟨(c _ _ (by omega)).trans d1, (c _ _ (by omega)).trans d2, (c _ _ (by omega)).trans d3, (c _ _ (by omega)).trans d4, fun hk t t1 t2 => (c _ _ (by omega)).trans (d5 hk t t1 t2)⟩, fun y hy hb => (c _ _ (by omega)).trans (a4 y hy hb), a5.mv (c _ _ (by omega)) (fun t _ _ => c _ _ (by omega)), a6.mv (c _ _ (by omega)) (fun t _ _ => c _ _ (by omega))⟩, ⟨fun g i j z => by rw [mI_1, if_neg (by omega), mI_1, if_neg (by omega), mI_1, if_neg (by omega), mI_1, if_neg (by omega), mI_1, if_neg (by omega), mI_1, if_neg (by omega), mI_1, if_neg (by omega), mI_1, if_neg (by omega)], rfl⟩⟩
      rw [mI_1, if_neg (by omega), mI_1, if_neg (by omega), mI_same]
      exact (if_pos e0).symm
    | cons n L =>
      obtain ⟨t, t1, t2⟩ := Option.bind_eq_some_iff.mp e
      obtain ⟨x, ex, es⟩ := cSt_s (s := sQ (s1, m, [], n :: L) [] L) t1
      obtain ⟨h3, w1, w2, w3, w4, w5, w6, w7⟩ := y_first (d := d) (r := 2 * p + 1) (b := 1) (R := n :: L) (T := L) (x := x) a hp (Or.inr ⟨rfl, rfl, rfl⟩) rfl ex
      have B := y_on (b := 1) (r := 2 * p + 1) (H := []) (L := L) (x := x) a hp (by omega) (Or.inr rfl) w2 w3 w4 w6 w7 (hq1.mv (w6 _ _ _ (by omega)) (fun j _ _ => w6 _ _ _ (by omega))) w5
      have B : yR p h t (mj_sI (mj_sI h3 136 0 p (nI n)) 135 0 p (m x)) := by rw [es]; exact B
      have k22 : h3.1 145 0 p = s1 22 := (w6 _ _ _ (by omega)).trans a.1.2.2.2.1
      have t22 : t.1 22 = s1 22 := by rw [es]; rfl
      rw [w1, if_neg (fun z => z (by rw [e2, ← nI_succ])), k22]
      rw [t22] at t2
      by_cases k0 : s1 22 = 0
      · rw [if_pos k0] at t2
        have e9 := Option.some.inj t2
        subst e9
        rw [if_pos k0, q_325_265]
        exact ⟨_, rfl, B⟩
      · rw [if_neg k0] at t2
        by_cases k1 : t.1 23 = nI n
        · rw [if_pos k1] at t2
          have e9 := Option.some.inj t2
          have kk : ∀ j, 24 ≤ j → j ≤ 27 → h3.1 (122 + j) 0 p = t.1 j := by
            intro j j1 j2
            rw [w6 _ _ _ (by omega), a.1.2.2.2.2 k0 j j1 j2, es]
            have hj : j = 24 ∨ j = 25 ∨ j = 26 ∨ j = 27 := by omega
            rcases hj with rfl | rfl | rfl | rfl <;> rfl
          have k4 : h3.1 146 0 p = t.1 24 := kk 24 (by omega) (by omega)
          have k5 : h3.1 147 0 p = t.1 25 := kk 25 (by omega) (by omega)
          have k6 : h3.1 148 0 p = t.1 26 := kk 26 (by omega) (by omega)
          have k7 : h3.1 149 0 p = t.1 27 := kk 27 (by omega) (by omega)
          rw [if_neg k0, q_325_265, k4, k5, k6, k7]
          refine ⟨_, rfl, ?_⟩
          have C := ((((B.kept (v := 0) rfl).r 8 132 (t.1 24) (by omega)).r 9 133 (t.1 25) (by omega)).r 10 134 (t.1 26) (by omega)).r 13 137 (t.1 27) (by omega)
          have ee : s' = sR (sR (sR (sR (sR t 22 0) 8 (t.1 24)) 9 (t.1 25)) 10 (t.1 26)) 13 (t.1 27) := by
            rw [← e9]
            refine Prod.ext (funext fun j => ?_) rfl
            show (if j = 22 then 0 else if j = 13 then t.1 27 else if j = 10 then t.1 26 else if j = 9 then t.1 25 else if j = 8 then t.1 24 else t.1 j) = (if j = 13 then t.1 27 else if j = 10 then t.1 26 else if j = 9 then t.1 25 else if j = 8 then t.1 24 else if j = 22 then 0 else t.1 j)
            by_cases j22 : j = 22
            · rw [if_pos j22, if_neg (by omega), if_neg (by omega), if_neg (by omega), if_neg (by omega), if_pos j22]
            · rw [if_neg j22, if_neg j22]
          rw [ee]
          exact C
        · rw [if_neg k1] at t2; cases t2
/-- a row goes back by one -/
theorem y_unsh {r K : Nat} {x1 : Int32} (hr : r < 12) (hK : K ≤ 1095) : ∀ (m : Nat) (h : mj_H), m ≤ K → ∃ h', mj_R mg (d + 1) mq_326 (65, [(3, vI (nI m)), (2, vI (nI r)), (0, vR 15 0), (1, vI x1)], [], h) = mj_R mg (d + 1) mq_326 (65, [(3, vI (nI 0)), (2, vI (nI r)), (0, vR 15 0), (1, vI x1)], [], h') ∧ (∀ i, i < m → h'.1 143 0 (1100 * r + (i + 1)) = h.1 143 0 (1100 * r + i)) ∧ (∀ g i j, ¬ (g = 143 ∧ i = 0 ∧ 1100 * r + 1 ≤ j ∧ j ≤ 1100 * r + m) → h'.1 g i j = h.1 g i j) ∧ h'.2 = h.2 := by
  intro m
  induction m with
  | zero => intro h hm; exact ⟨h, rfl, fun i _ => by omega, fun _ _ _ _ => rfl, rfl⟩
  | succ m ih =>
    intro h hm
    have e1 : (1100 : Int32) * nI r + nI (m + 1) = nI (1100 * r + (m + 1)) := by
      show nI 1100 * nI r + _ = _
      rw [nI_mul, nI_add]
    have e2 : nI (1100 * r + (m + 1)) - 1 = nI (1100 * r + m) := by rw [← Nat.add_assoc, nI_succ]; exact Int32.add_sub_cancel _ _
    have e3 : nI (m + 1) + (-1) = nI m := by rw [n_pred (by omega), Nat.add_sub_cancel]
    obtain ⟨h', q1, q2, q3, q4⟩ := ih (mj_sI h 143 0 (1100 * r + (m + 1)) (h.1 143 0 (1100 * r + m))) (by omega)
    refine ⟨h', ?_, fun i hi => ?_, fun g i j c => ?_, q4⟩
    · rw [q_326_65, if_neg (n_le0 (by omega) (by omega)), e1, e2, if_pos (in_n (by omega) (by omega)), if_pos (in_n (by omega) (by omega)), nI_clamp (by omega), nI_clamp (by omega), e3]
      exact q1
    · by_cases e : i = m
      · subst e
        rw [q3 _ _ _ (by omega), mI_same]
      · rw [q2 i (by omega), mI_1, if_neg (by omega)]
    · rw [q3 _ _ _ (by omega), mI_1, if_neg (by omega)]
/-- no high one is ready, or no low one runs -/
theorem y_yield1 (a : yR p h0 s h) (hp : p < 6) (e : ¬ (¬ s.1 14 = 0 ∧ ¬ s.1 15 = 0 ∧ s.2.2.1 ≠ [])) : mj_R mg (d + 1) mq_326 (0, [(0, vR 15 0), (1, vI (nI p))], [], h) = some (.inl (none, h)) := by
  have ip := yp_in hp
  have e2 : (2 : Int32) * nI p = nI (2 * p) := nI_mul 2 p
  rw [q_326_0]
  simp only [if_pos ip, nI_clamp (show p < 2 ^ 31 by omega), e2, nI_clamp (show 2 * p < 2 ^ 31 by omega), if_pos (in_n (show 2 * p < 12 by omega) (show 12 < 2 ^ 31 by omega))]
  by_cases c : s.1 14 = 0
  · rw [a.1.2.1, if_pos c, if_pos rfl, q_326_32]
  · rw [if_neg (a.n1 c).2, (a.n1 c).1]
    by_cases c2 : s.1 15 = 0
    · rw [if_pos c2, q_326_32]
    · have c3 : s.2.2.1 = [] := by
        by_cases z : s.2.2.1 = []
        · exact z
        · exact (e ⟨c, c2, z⟩).elim
      rw [if_neg c2, a.1.2.2.2.2.1.1, c3, if_neg (fun z => z rfl), q_326_32]
theorem y_yield2 {s1 : Cr} (a : yR p h0 s h) (hp : p < 6) (c : ¬ s.1 14 = 0 ∧ ¬ s.1 15 = 0 ∧ s.2.2.1 ≠ []) (e : cPre s = some s1) (en : cNext s1 = some s') : yDo p h0 s' (mj_R mg (d + 3) mq_326 (0, [(0, vR 15 0), (1, vI (nI p))], [], h)) := by
  have ip := yp_in hp
  have e2 : (2 : Int32) * nI p = nI (2 * p) := nI_mul 2 p
  have hrr : 2 * p + 1 < 12 := by omega
  unfold cPre at e
  rw [if_pos c] at e
  by_cases c2 : mj_in (s.1 12) 4016 ∧ s.2.2.1.length + s.2.2.2.length < 1090
  · rw [if_pos c2] at e
    obtain ⟨t, t1, t2⟩ := Option.map_eq_some_iff.mp e
    obtain ⟨x, ex, et⟩ := Option.map_eq_some_iff.mp t1
    have ex : adM s (s.1 12 - 1) = some x := ex
    have g11 : h.1 135 0 p = s.1 11 := a.g c.1 11 (by omega) (by omega)
    have g12 : h.1 136 0 p = s.1 12 := a.g c.1 12 (by omega) (by omega)
    obtain ⟨q1, a1⟩ := y_st (d := d + 1) (v := s.1 11) a hp ex
    obtain ⟨w1, w2⟩ := in_4016 c2.1
    have l1 : ¬ nI s.2.2.1.length = 0 := nI_ne0 (by
      have : s.2.2.1.length ≠ 0 := fun z => c.2.2 (List.length_eq_zero_iff.mp z)
      omega) (by omega)
    have n14 : (sM s x (s.1 11)).1 14 = s.1 14 := rfl
    have hL := a1.1.2.2.2.2.2
    have hL : yQ (2 * p + 1) 1 s.2.2.2 (mj_sI h 131 0 (4016 * p + x) (s.1 11)) := hL
    obtain ⟨h3, u1, u2, u3, u4⟩ := y_unsh (d := d + 2) (r := 2 * p + 1) (K := s.2.2.2.length) (x1 := nI p) hrr (by omega) s.2.2.2.length (mj_sI h 131 0 (4016 * p + x) (s.1 11)) (by omega)
    have k : ∀ g, g ≠ 143 → ∀ j, h3.1 g 0 j = (mj_sI h 131 0 (4016 * p + x) (s.1 11)).1 g 0 j := fun g hg j => u3 _ _ _ (by omega)
    have k2 : ∀ j, 8 ≤ j → j ≤ 13 → h3.1 (124 + j) 0 p = s.1 j := fun j j1 j2 => (k _ (by omega) _).trans (a1.g c.1 j j1 j2)
    have k138 : h3.1 138 0 p = cSelf s := (k _ (by omega) _).trans (a1.n c.1)
    have k144 : h3.1 144 0 (2 * p + 1) = nI s.2.2.2.length := (k _ (by omega) _).trans hL.1
    have e11 : (1100 : Int32) * nI (2 * p + 1) = nI (1100 * (2 * p + 1)) := nI_mul 1100 (2 * p + 1)
    have g8 : h3.1 132 0 p = s.1 8 := k2 8 (by omega) (by omega)
    have g9 : h3.1 133 0 p = s.1 9 := k2 9 (by omega) (by omega)
    have g10 : h3.1 134 0 p = s.1 10 := k2 10 (by omega) (by omega)
    have g13 : h3.1 137 0 p = s.1 13 := k2 13 (by omega) (by omega)
    have lo1 : s.1 15 = nI 1 := by
      obtain ⟨-, -, n, b, b3, b4, b5, b6⟩ := a.1.1 c.1
      have : b ≠ 0 := fun z => c.2.1 (by rw [b6, z]; rfl)
      rw [b6, show b = 1 by omega]
    have eself : cSelf s = nI (2 * (s.1 12).toNatClampNeg + 1) := by
      unfold cSelf
      rw [lo1, w1]
      show nI 2 * nI _ + nI 1 = _
      rw [nI_mul, nI_add, nI_clamp (by omega)]
    obtain ⟨hh, ehh⟩ : ∃ hh, hh = mj_sI (mj_sI (mj_sI (mj_sI (mj_sI (mj_sI (mj_sI h3 143 0 (1100 * (2 * p + 1)) (cSelf s)) 144 0 (2 * p + 1) (nI s.2.2.2.length + 1)) 145 0 p (1 &&& 1)) 146 0 p (s.1 8)) 147 0 p (s.1 9)) 148 0 p (s.1 10)) 149 0 p (s.1 13) := ⟨_, rfl⟩
    have cc : ∀ g j, ¬ (145 ≤ g ∧ g ≤ 149 ∧ j = p) → ¬ (g = 144 ∧ j = 2 * p + 1) → ¬ (g = 143 ∧ j = 1100 * (2 * p + 1)) → hh.1 g 0 j = h3.1 g 0 j := fun g j z1 z2 z3 => by rw [ehh, mI_1, if_neg (by omega), mI_1, if_neg (by omega), mI_1, if_neg (by omega), mI_1, if_neg (by omega), mI_1, if_neg (by omega), mI_1, if_neg (by omega), mI_1, if_neg (by omega)]
    have D : yD p s1 hh := by
      rw [← t2, ← et]
      obtain ⟨-, -, ⟨d1, d2, d3, d4, d5⟩, a4, a5, a6⟩ := a1.1
      refine ⟨⟨?_, ?_, ?_, ?_, fun _ j j1 j2 => ?_⟩, fun y hy hb => ?_, ?_, ?_, ?_, fun i n hi => ?_⟩
      · rw [cc _ _ (by omega) (by omega) (by omega), k _ (by omega)]; exact d1
      · rw [cc _ _ (by omega) (by omega) (by omega), k _ (by omega)]; exact d2
      · rw [cc _ _ (by omega) (by omega) (by omega), k _ (by omega)]; exact d3
      · rw [ehh, mI_1, if_neg (by omega), mI_1, if_neg (by omega), mI_1, if_neg (by omega), mI_1, if_neg (by omega), mI_same]; rfl
      · have hj : j = 24 ∨ j = 25 ∨ j = 26 ∨ j = 27 := by omega
        rw [ehh]
        rcases hj with rfl | rfl | rfl | rfl
        · rw [mI_1, if_neg (by omega), mI_1, if_neg (by omega), mI_1, if_neg (by omega), mI_same]; rfl
        · rw [mI_1, if_neg (by omega), mI_1, if_neg (by omega), mI_same]; rfl
        · rw [mI_1, if_neg (by omega), mI_same]; rfl
        · rw [mI_same]; rfl
      · rw [cc _ _ (by omega) (by omega) (by omega), k _ (by omega)]; exact a4 y hy hb
      · exact a5.mv ((cc _ _ (by omega) (by omega) (by omega)).trans (k _ (by omega) _)) (fun j _ _ => (cc _ _ (by omega) (by omega) (by omega)).trans (u3 _ _ _ (by omega)))
      · rw [ehh, mI_1, if_neg (by omega), mI_1, if_neg (by omega), mI_1, if_neg (by omega), mI_1, if_neg (by omega), mI_1, if_neg (by omega), mI_same]
        exact (nI_succ _).symm
      · show s.2.2.2.length + 1 ≤ 1095; omega
      · cases i with
        | zero =>
          have en : (s.1 12).toNatClampNeg = n := Option.some.inj hi
          rw [Nat.add_zero, ehh, mI_1, if_neg (by omega), mI_1, if_neg (by omega), mI_1, if_neg (by omega), mI_1, if_neg (by omega), mI_1, if_neg (by omega), mI_1, if_neg (by omega), mI_same, eself, en]
          exact ⟨by omega, rfl⟩
        | succ i =>
          have hi : s.2.2.2[i]? = some n := hi
          have := gt_lt hi
          rw [cc _ _ (by omega) (by omega) (by omega), u2 i this]
          exact hL.2.2 i n hi
    have e14 : s1.1 14 = 0 := by rw [← t2, ← et]; rfl
    obtain ⟨h4, v1, v2⟩ := y_disp (d := d) D hp e14 en
    have fin : mj_R mg (d + 3) mq_326 (65, [(3, vI (nI 0)), (2, vI (nI (2 * p + 1))), (0, vR 15 0), (1, vI (nI p))], [], h3) = some (.inl (none, h4)) := by
      rw [q_326_65, if_pos (show nI 0 ≤ 0 by decide)]
      simp only [if_pos ip, nI_clamp (show p < 2 ^ 31 by omega), nI_clamp (show 2 * p + 1 < 2 ^ 31 by omega), if_pos (in_n hrr (show 12 < 2 ^ 31 by omega)), e11, if_pos (in_n (show 1100 * (2 * p + 1) < 13200 by omega) (show 13200 < 2 ^ 31 by omega)), nI_clamp (show 1100 * (2 * p + 1) < 2 ^ 31 by omega)]
      rw [k138, k144, g8, g9, g10, g13, ← ehh, v1, mj_xv_ret]
    rw [q_326_0]
    simp only [if_pos ip, nI_clamp (show p < 2 ^ 31 by omega), e2, nI_clamp (show 2 * p < 2 ^ 31 by omega), if_pos (in_n (show 2 * p < 12 by omega) (show 12 < 2 ^ 31 by omega)), ← nI_succ (2 * p), nI_clamp (show 2 * p + 1 < 2 ^ 31 by omega), if_pos (in_n hrr (show 12 < 2 ^ 31 by omega))]
    rw [if_neg (a.n1 c.1).2, (a.n1 c.1).1, if_neg c.2.1, a.1.2.2.2.2.1.1, if_pos l1, g11, g12, q1, mj_xv_ret, hL.1, u1, fin]
    refine ⟨_, rfl, v2.1, (a1.2.tr (h1 := mj_sI h 131 0 (4016 * p + x) (s.1 11)) ⟨fun g i j z => ?_, ?_⟩).tr v2.2⟩
    · rw [ehh, mI_1, if_neg (by omega), mI_1, if_neg (by omega), mI_1, if_neg (by omega), mI_1, if_neg (by omega), mI_1, if_neg (by omega), mI_1, if_neg (by omega), mI_1, if_neg (by omega)]
      exact u3 _ _ _ (by omega)
    · rw [ehh]; exact u4
  · rw [if_neg c2] at e; cases e
theorem cNx_ny (e0 : s.1 14 = 0) (e : cNext s = some s') : ¬ (¬ s'.1 14 = 0 ∧ ¬ s'.1 15 = 0 ∧ s'.2.2.1 ≠ []) := by
  rintro ⟨z1, z2, z3⟩
  unfold cNext at e
  rw [if_neg (fun z => z e0)] at e
  obtain ⟨s1, m, H, L⟩ := s
  cases H with
  | cons n H =>
    obtain ⟨x, ex, es⟩ := cSt_s (s := sQ (s1, m, n :: H, L) H L) e
    exact z2 (by rw [es]; rfl)
  | nil =>
    cases L with
    | nil =>
      have e9 := Option.some.inj e
      subst e9
      exact z1 e0
    | cons n L =>
      obtain ⟨t, t1, t2⟩ := Option.bind_eq_some_iff.mp e
      obtain ⟨x, ex, es⟩ := cSt_s (s := sQ (s1, m, [], n :: L) [] L) t1
      have th : t.2.2.1 = [] := by rw [es]; rfl
      by_cases k0 : t.1 22 = 0
      · rw [if_pos k0] at t2
        have e9 := Option.some.inj t2
        subst e9
        exact z3 th
      · rw [if_neg k0] at t2
        by_cases k1 : t.1 23 = nI n
        · rw [if_pos k1] at t2
          have e9 := Option.some.inj t2
          subst e9
          exact z3 th
        · rw [if_neg k1] at t2; cases t2
end
