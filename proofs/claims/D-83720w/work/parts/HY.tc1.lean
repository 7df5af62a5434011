/-! the twin's cores: who runs -/
section
variable {p d : Nat} {h0 h : mj_H} {s s' : Cr}
theorem yR.q {h' : mj_H} (a : yR p h0 s h) {H L : List Nat} (q1 : yQ (2 * p) 0 H h') (q2 : yQ (2 * p + 1) 1 L h') (fr : ∀ g i j, ¬ (i = 0 ∧ ((g = 143 ∧ 2200 * p ≤ j ∧ j < 2200 * (p + 1)) ∨ (g = 144 ∧ (j = 2 * p ∨ j = 2 * p + 1)))) → h'.1 g i j = h.1 g i j) (f2 : h'.2 = h.2) : yR p h0 (sQ s H L) h' := by
  obtain ⟨⟨a1, a2, ⟨d1, d2, d3, d4, d5⟩, a4, a5, a6⟩, f⟩ := a
  refine ⟨⟨fun hr => ?_, (fr _ _ _ (by omega)).trans a2, ⟨(fr _ _ _ (by omega)).trans d1, (fr _ _ _ (by omega)).trans d2, (fr _ _ _ (by omega)).trans d3, (fr _ _ _ (by omega)).trans d4, fun hk t t1 t2 => (fr _ _ _ (by omega)).trans (d5 hk t t1 t2)⟩, fun y hy hb => (fr _ _ _ (by omega)).trans (a4 y hy hb), q1, q2⟩, f.tr ⟨fun g' i t z => fr _ _ _ (by omega), f2⟩⟩
  obtain ⟨b1, b2, b3⟩ := a1 hr
  exact ⟨fun t t1 t2 => (fr _ _ _ (by omega)).trans (b1 t t1 t2), (fr _ _ _ (by omega)).trans b2, b3⟩
theorem yQ.add {r b n : Nat} {L : List Nat} (a : yQ r b L h) (hl : L.length < 1095) (hn : n ≤ 4016) : yQ r b (L ++ [n]) (mj_sI (mj_sI h 143 0 (1100 * r + L.length) (nI (2 * n + b))) 144 0 r (nI L.length + 1)) := by
  obtain ⟨a1, a2, a3⟩ := a
  refine ⟨?_, by rw [List.length_append]; show L.length + 1 ≤ 1095; omega, fun i m hi => ?_⟩
  · rw [mI_same, List.length_append, ← nI_succ]; rfl
  · rw [mI_1, if_neg (by omega), mI_1]
    by_cases ei : i < L.length
    · rw [if_neg (by rintro ⟨-, -, z⟩; omega)]
      rw [List.getElem?_append_left ei] at hi
      exact a3 i m hi
    · rw [List.getElem?_append_right (by omega)] at hi
      have e0 : i - L.length = 0 := by
        have := gt_lt hi
        simp at this
        omega
      rw [e0] at hi
      have em : n = m := Option.some.inj hi
      rw [if_pos ⟨rfl, rfl, by rw [show i = L.length by omega]⟩, em]
      exact ⟨by omega, rfl⟩
/-- the row of a descriptor, one is added -/
theorem y_row {n : Nat} (a : yR p h0 s h) (hp : p < 6) (hn : n < 8032) (hl : s.2.2.1.length + s.2.2.2.length < 1090) : ∃ h', h' = mj_sI (mj_sI h 143 0 (1100 * (2 * p + n % 2) + (if n % 2 = 0 then s.2.2.1 else s.2.2.2).length) (nI n)) 144 0 (2 * p + n % 2) (nI (if n % 2 = 0 then s.2.2.1 else s.2.2.2).length + 1) ∧ h.1 144 0 (2 * p + n % 2) = nI (if n % 2 = 0 then s.2.2.1 else s.2.2.2).length ∧ yR p h0 (if n % 2 = 0 then sQ s (s.2.2.1 ++ [n / 2]) s.2.2.2 else sQ s s.2.2.1 (s.2.2.2 ++ [n / 2])) h' := by
  have q1 := a.1.2.2.2.2.1
  have q2 := a.1.2.2.2.2.2
  by_cases e : n % 2 = 0
  · rw [if_pos e, if_pos e, e]
    refine ⟨_, rfl, q1.1, ?_⟩
    have b := q1.add (n := n / 2) (by omega) (by omega)
    rw [show 2 * (n / 2) + 0 = n by omega] at b
    exact a.q b (q2.mv (by rw [mI_1, if_neg (by omega), mI_1, if_neg (by omega)]) (fun j _ _ => by rw [mI_1, if_neg (by omega), mI_1, if_neg (by omega)])) (fun g i j c => by rw [mI_1, if_neg (by omega), mI_1, if_neg (by omega)]) rfl
  · rw [if_neg e, if_neg e, show n % 2 = 1 by omega]
    refine ⟨_, rfl, q2.1, ?_⟩
    have b := q2.add (n := n / 2) (by omega) (by omega)
    rw [show 2 * (n / 2) + 1 = n by omega] at b
    exact a.q (q1.mv (by rw [mI_1, if_neg (by omega), mI_1, if_neg (by omega)]) (fun j _ _ => by rw [mI_1, if_neg (by omega), mI_1, if_neg (by omega)])) b (fun g i j c => by rw [mI_1, if_neg (by omega), mI_1, if_neg (by omega)]) rfl
theorem cR_s {x : Int32} (e : cReady s x = some s') : ∃ n, x = nI n ∧ n < 8032 ∧ s.2.2.1.length + s.2.2.2.length < 1090 ∧ s' = if n % 2 = 0 then sQ s (s.2.2.1 ++ [n / 2]) s.2.2.2 else sQ s s.2.2.1 (s.2.2.2 ++ [n / 2]) := by
  unfold cReady at e
  by_cases c : mj_in x 8032 ∧ s.2.2.1.length + s.2.2.2.length < 1090
  · rw [if_pos c] at e
    obtain ⟨i1, i2⟩ := in_8032 c.1
    exact ⟨_, i1, i2, c.2, (Option.some.inj e).symm⟩
  · rw [if_neg c] at e; cases e
/-- one is put into its row -/
theorem y_ready0 {x : Int32} (a : yR p h0 s h) (hp : p < 6) (e : cReady s x = some s') : ∃ h' r, yR p h0 s' h' ∧ h'.1 138 0 p = h.1 138 0 p ∧ mj_R mg (d + 1) mq_324 (0, [(0, vR 15 0), (1, vI (nI p)), (2, vI x)], [], h) = (if ¬ h.1 138 0 p = -1 then mj_R mg (d + 1) mq_324 (51, [(3, vI r), (0, vR 15 0), (1, vI (nI p)), (2, vI x)], [], h') else mj_xv (mj_R mg d mq_325 (0, [(0, vR 15 0), (1, vI (nI p))], [], h')) (fun h1 => mj_R mg (d + 1) mq_324 (51, [(3, vI r), (0, vR 15 0), (1, vI (nI p)), (2, vI x)], [], h1))) := by
  obtain ⟨n, rfl, hn, hl, es⟩ := cR_s e
  obtain ⟨h', e1, e2, e3⟩ := y_row a hp hn hl
  refine ⟨h', nI (2 * p + n % 2), by rw [es]; exact e3, by rw [e1, mI_1, if_neg (by omega), mI_1, if_neg (by omega)], ?_⟩
  have er : (2 : Int32) * nI p + (nI n &&& 1) = nI (2 * p + n % 2) := by
    rw [nI_and1]
    show nI 2 * nI p + _ = _
    rw [nI_mul, nI_add]
  have el : (if n % 2 = 0 then s.2.2.1 else s.2.2.2).length < 1090 := by
    by_cases e : n % 2 = 0
    · rw [if_pos e]; omega
    · rw [if_neg e]; omega
  generalize (if n % 2 = 0 then s.2.2.1 else s.2.2.2).length = K at e1 e2 el
  have ea : (1100 : Int32) * nI (2 * p + n % 2) + nI K = nI (1100 * (2 * p + n % 2) + K) := by
    show nI 1100 * nI _ + _ = _
    rw [nI_mul, nI_add]
  have hc : 2 * p + n % 2 < 12 := by omega
  rw [q_324_0, er, if_pos (in_n hc (by omega)), nI_clamp (by omega), e2, ea, if_pos (in_n (by omega) (by omega)), if_pos (in_n hc (by omega)), if_pos (in_n hc (by omega)), if_pos (yp_in hp), nI_clamp (by omega), nI_clamp (by omega), e1]
theorem y_ready {x : Int32} (a : yR p h0 s h) (hp : p < 6) (hr : ¬ s.1 14 = 0) (e : cReady s x = some s') : yDo p h0 s' (mj_R mg (d + 1) mq_324 (0, [(0, vR 15 0), (1, vI (nI p)), (2, vI x)], [], h)) := by
  obtain ⟨h', r, b1, b2, b3⟩ := y_ready0 (d := d) a hp e
  rw [b3, if_pos (a.n1 hr).2, q_324_51]
  exact ⟨_, rfl, b1⟩
/-- the rest of a row comes forward -/
theorem y_shift {r K : Nat} {x1 : Int32} (hr : r < 12) (hK : K ≤ 1095) : ∀ (j m : Nat) (h : mj_H), m + j = K → h.1 144 0 r = nI K → ∃ h', mj_R mg (d + 1) mq_325 (117, [(3, vI (nI m)), (2, vI (nI r)), (0, vR 15 0), (1, vI x1)], [], h) = mj_R mg (d + 1) mq_325 (117, [(3, vI (nI K)), (2, vI (nI r)), (0, vR 15 0), (1, vI x1)], [], h') ∧ (∀ i, m ≤ i → i < K → h'.1 143 0 (1100 * r + i) = h.1 143 0 (1100 * r + i + 1)) ∧ (∀ g i j, ¬ (g = 143 ∧ i = 0 ∧ 1100 * r + m ≤ j ∧ j < 1100 * r + K) → h'.1 g i j = h.1 g i j) ∧ h'.2 = h.2 := by
  intro j
  induction j with
  | zero =>
    intro m h hm hc
    have em : m = K := by omega
    subst em
    exact ⟨h, rfl, fun i _ _ => by omega, fun _ _ _ _ => rfl, rfl⟩
  | succ j ih =>
    intro m h hm hc
    have e1 : (1100 : Int32) * nI r + nI m = nI (1100 * r + m) := by
      show nI 1100 * nI r + nI m = _
      rw [nI_mul, nI_add]
    obtain ⟨h', q1, q2, q3, q4⟩ := ih (m + 1) (mj_sI h 143 0 (1100 * r + m) (h.1 143 0 (1100 * r + m + 1))) (by omega) (by rw [mI_1, if_neg (by omega)]; exact hc)
    refine ⟨h', ?_, fun i i1 i2 => ?_, fun g i j c => ?_, q4⟩
    · rw [q_325_117, if_pos (in_n hr (by omega)), nI_clamp (by omega), hc, if_neg (nI_ge (by omega) (by omega)), e1, ← nI_succ (1100 * r + m), if_pos (in_n (by omega) (by omega)), if_pos (in_n (by omega) (by omega)), nI_clamp (by omega), nI_clamp (by omega), ← nI_succ m]
      exact q1
    · by_cases e : i = m
      · subst e
        rw [q3 _ _ _ (by omega), mI_same]
      · rw [q2 i (by omega) i2, mI_1, if_neg (by omega)]
    · rw [q3 _ _ _ (by omega), mI_1, if_neg (by omega)]
/-- the row's rest -/
theorem yQ.tl {r b n : Nat} {L : List Nat} {h' : mj_H} (a : yQ r b (n :: L) h) (e : h'.1 144 0 r = nI L.length) (f : ∀ i, i < L.length → h'.1 143 0 (1100 * r + i) = h.1 143 0 (1100 * r + i + 1)) : yQ r b L h' := by
  obtain ⟨a1, a2, a3⟩ := a
  rw [List.length_cons] at a2
  refine ⟨e, by omega, fun i m hi => ?_⟩
  have := a3 (i + 1) m hi
  rw [f i (gt_lt hi)]
  exact this
/-- the next one comes: what is ahead of the kept registers -/
theorem y_first {r b n : Nat} {R : List Nat} {x : Nat} (a : yD p s h) (hp : p < 6) (hrow : (r = 2 * p ∧ b = 0 ∧ R = s.2.2.1) ∨ (r = 2 * p + 1 ∧ b = 1 ∧ R = s.2.2.2)) {T : List Nat} (eR : R = n :: T) (ex : adM s (nI n - 1) = some x) : ∃ h3, (mj_R mg (d + 2) mq_325 (22, [(0, vR 15 0), (1, vI (nI p))], [vI (nI r)], h) = if ¬ nI r = 2 * nI p + 1 then mj_R mg (d + 2) mq_325 (265, [(3, vI (nI T.length)), (2, vI (nI r)), (0, vR 15 0), (1, vI (nI p))], [], mj_sI (mj_sI h3 136 0 p (nI n)) 135 0 p (s.2.1 x)) else
      if h3.1 145 0 p = 0 then mj_R mg (d + 2) mq_325 (265, [(3, vI (nI T.length)), (2, vI (nI r)), (0, vR 15 0), (1, vI (nI p))], [], mj_sI (mj_sI h3 136 0 p (nI n)) 135 0 p (s.2.1 x)) else
      mj_R mg (d + 2) mq_325 (265, [(3, vI (nI T.length)), (2, vI (nI r)), (0, vR 15 0), (1, vI (nI p))], [], mj_sI (mj_sI (mj_sI (mj_sI (mj_sI (mj_sI (mj_sI h3 136 0 p (nI n)) 135 0 p (s.2.1 x)) 145 0 p 0) 132 0 p (h3.1 146 0 p)) 133 0 p (h3.1 147 0 p)) 134 0 p (h3.1 148 0 p)) 137 0 p (h3.1 149 0 p))) ∧
      (∀ g, g = 132 ∨ g = 133 ∨ g = 134 ∨ g = 137 ∨ g = 142 → h3.1 g 0 p = 0) ∧ h3.1 138 0 p = nI (2 * n + b) ∧ n ≤ 4016 ∧ yQ r b T h3 ∧ (∀ g i j, ¬ (i = 0 ∧ (((g = 132 ∨ g = 133 ∨ g = 134 ∨ g = 137 ∨ g = 142 ∨ g = 138) ∧ j = p) ∨ (g = 144 ∧ j = r) ∨ (g = 143 ∧ 1100 * r ≤ j ∧ j < 1100 * r + 1100))) → h3.1 g i j = h.1 g i j) ∧ h3.2 = h.2 := by
  have hQ : yQ r b (n :: T) h := by
    rcases hrow with ⟨rfl, rfl, e⟩ | ⟨rfl, rfl, e⟩
    · rw [← eR, e]; exact a.2.2.1
    · rw [← eR, e]; exact a.2.2.2
  have hr12 : r < 12 := by omega
  have hQ' := hQ
  obtain ⟨q1, q2, q3⟩ := hQ'
  rw [List.length_cons] at q1 q2
  obtain ⟨hn, hv⟩ := q3 0 n rfl
  rw [Nat.add_zero] at hv
  have hb : b ≤ 1 := by omega
  have ip := yp_in hp
  have ir := in_n hr12 (by omega)
  have e11 : (1100 : Int32) * nI r = nI (1100 * r) := nI_mul 1100 r
  have ek : nI (T.length + 1) - 1 = nI T.length := by rw [nI_succ]; exact Int32.add_sub_cancel _ _
  obtain ⟨h3, s1, s2, s3, s4⟩ := y_shift (d := d + 1) (x1 := nI p) (r := r) (K := T.length) hr12 (by omega) T.length 0 (mj_sI (mj_sI (mj_sI (mj_sI (mj_sI (mj_sI (mj_sI h 132 0 p 0) 133 0 p 0) 134 0 p 0) 137 0 p 0) 142 0 p 0) 138 0 p (nI (2 * n + b))) 144 0 r (nI T.length)) (by omega) mI_same
  have s1 : mj_R mg (d + 2) mq_325 (117, [(3, vI 0), (2, vI (nI r)), (0, vR 15 0), (1, vI (nI p))], [], _) = _ := s1
  have fr : ∀ g i j, ¬ (i = 0 ∧ (((g = 132 ∨ g = 133 ∨ g = 134 ∨ g = 137 ∨ g = 142 ∨ g = 138) ∧ j = p) ∨ (g = 144 ∧ j = r) ∨ (g = 143 ∧ 1100 * r ≤ j ∧ j < 1100 * r + 1100))) → h3.1 g i j = h.1 g i j := by
    intro g i j c
    rw [s3 _ _ _ (by omega), mI_1, if_neg (by omega), mI_1, if_neg (by omega), mI_1, if_neg (by omega), mI_1, if_neg (by omega), mI_1, if_neg (by omega), mI_1, if_neg (by omega), mI_1, if_neg (by omega)]
  have e138 : h3.1 138 0 p = nI (2 * n + b) := by rw [s3 _ _ _ (by omega), mI_1, if_neg (by omega), mI_same]
  have e144 : h3.1 144 0 r = nI T.length := by rw [s3 _ _ _ (by omega), mI_same]
  have esh : nI (2 * n + b) >>> ((1 : Int32) &&& 31) = nI n := by rw [sh_1 (by omega), show (2 * n + b) / 2 = n by omega]
  refine ⟨h3, ?_, ?_, e138, hn, ?_, fr, s4⟩
  · obtain ⟨x1, x2, -, -⟩ := ad_0 ex
    have ld := y_load (d := d) (p := p) (h := mj_sI h3 136 0 p (nI n)) hp x2
    have lv : (mj_sI h3 136 0 p (nI n)).1 131 0 (4016 * p + x) = s.2.1 x := by rw [mI_1, if_neg (by omega), fr _ _ _ (by omega)]; exact a.2.1 x x2 (adM_b ex)
    rw [lv] at ld
    have m36 : (mj_sI h3 136 0 p (nI n)).1 136 0 p = nI n := mI_same
    have m45 : ∀ g, ¬ g = 136 → (mj_sI h3 136 0 p (nI n)).1 g 0 p = h3.1 g 0 p := fun g c => by rw [mI_1, if_neg (by omega)]
    rw [q_325_22]
    simp only [if_pos ip, if_pos ir, nI_clamp (show p < 2 ^ 31 by omega), nI_clamp (show r < 2 ^ 31 by omega), q1, e11]
    rw [if_pos (nI_ne0 (by omega) (by omega)), if_pos (in_n (by omega) (by omega)), nI_clamp (by omega), hv, ek, s1, q_325_117]
    simp only [if_pos ip, if_pos ir, nI_clamp (show p < 2 ^ 31 by omega), nI_clamp (show r < 2 ^ 31 by omega)]
    rw [e144, if_pos (Int32.le_refl _), e138, esh, m36, x1, ld, mj_xi_ret, m45 145 (by omega), m45 146 (by omega), m45 147 (by omega), m45 148 (by omega), m45 149 (by omega)]
    rfl
  · rintro g (rfl | rfl | rfl | rfl | rfl) <;> rw [s3 _ _ _ (by omega)] <;> simp [mI_1]
  · refine hQ.tl e144 (fun i hi => ?_)
    rw [s2 i (by omega) hi, mI_1, if_neg (by omega), mI_1, if_neg (by omega), mI_1, if_neg (by omega), mI_1, if_neg (by omega), mI_1, if_neg (by omega), mI_1, if_neg (by omega), mI_1, if_neg (by omega)]
end
