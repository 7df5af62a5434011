/-! the twin begins -/
def YB (G : PgS) (B : Bg) (h : mj_H) : Prop := ∀ p, p < 6 → G.1 p = true → h.1 126 0 p = nI (B p).1 ∧ h.1 127 0 p = nI (B p).2.2.1 ∧ ∃ sz dp, h.1 109 0 p = nI sz ∧ h.1 110 0 p = nI dp ∧ sz + dp + 3 = (B p).2.1 ∧ 16 + dp + 3 = (B p).2.2.2
def yZ (p : Nat) (h0 h : mj_H) : Prop := (h.1 144 0 (2 * p) = 0 ∧ h.1 144 0 (2 * p + 1) = 0 ∧ (∀ g, g = 145 ∨ g = 139 ∨ g = 140 ∨ g = 141 ∨ g = 142 ∨ g = 132 ∨ g = 133 ∨ g = 134 ∨ g = 137 → h.1 g 0 p = 0)) ∧ h.1 135 0 p = h0.1 127 0 p ∧ h.1 136 0 p = 16 + h0.1 110 0 p + 3 ∧ h.1 138 0 p = (if h0.1 108 0 p ≤ 0 then -1 else 2 * (16 + h0.1 110 0 p + 3) + 1) ∧ ∀ x, x < 16 → h.1 131 0 (4016 * p + x) = if x < 14 then -1 else 0
section
variable {G : PgS} {B : Bg} {S S' : Sy} {h0 h h' : mj_H} {d p : Nat}
theorem y_rm : ∀ (n j : Nat) (h : mj_H), j + n = 24096 → ∃ h', mj_R mg d mq_321 (2, [(1, vI (nI j)), (0, vR 15 0)], [], h) = mj_R mg d mq_321 (24, [(1, vI 0), (0, vR 15 0)], [], h') ∧ (∀ x, j ≤ x → x < 24096 → h'.1 131 0 x = 0) ∧ (∀ g i x, ¬ (g = 131 ∧ i = 0 ∧ j ≤ x) → h'.1 g i x = h.1 g i x) ∧ h'.2 = h.2 := by
  intro n
  induction n with
  | zero =>
    intro j h hj
    rw [q_321_2, if_pos (show (24096 : Int32) ≤ nI j from nI_le (a := 24096) (b := j) (by omega) (by omega))]
    exact ⟨h, rfl, fun x h1 h2 => by omega, fun _ _ _ _ => rfl, rfl⟩
  | succ n ih =>
    intro j h hj
    obtain ⟨h1, q1, a1, f1, g1⟩ := ih (j + 1) (mj_sI h 131 0 j 0) (by omega)
    refine ⟨h1, ?_, fun x hx hx2 => ?_, fun g i x c => ?_, g1⟩
    · rw [q_321_2, if_neg (show ¬ (24096 : Int32) ≤ nI j from nI_ge (a := j) (b := 24096) (by omega) (by omega)), if_pos (in_n (by omega) (by omega)), nI_clamp (by omega), ← nI_succ]
      exact q1
    · by_cases e : x = j
      · rw [f1 _ _ _ (by omega), e, mI_same]
      · exact a1 x (by omega) hx2
    · rw [f1 _ _ _ (by omega), mI_1, if_neg (by omega)]
theorem y_ra (hp : p < 6) : ∀ (n j : Nat) (h : mj_H), j + n = 16 → ∃ h', mj_R mg d mq_321 (32, [(2, vI (nI j)), (1, vI (nI p)), (0, vR 15 0)], [], h) = mj_R mg d mq_321 (32, [(2, vI (nI 16)), (1, vI (nI p)), (0, vR 15 0)], [], h') ∧ (∀ x, j ≤ x → x < 16 → h'.1 131 0 (4016 * p + x) = if x < 14 then -1 else 0) ∧ (∀ g i x, ¬ (g = 131 ∧ i = 0 ∧ 4016 * p + j ≤ x ∧ x < 4016 * p + 16) → h'.1 g i x = h.1 g i x) ∧ h'.2 = h.2 := by
  intro n
  induction n with
  | zero =>
    intro j h hj
    have : j = 16 := by omega
    subst this
    exact ⟨h, rfl, fun x h1 h2 => by omega, fun _ _ _ _ => rfl, rfl⟩
  | succ n ih =>
    intro j h hj
    obtain ⟨h1, q1, a1, f1, g1⟩ := ih (j + 1) (mj_sI h 131 0 (4016 * p + j) (if j < 14 then -1 else 0)) (by omega)
    refine ⟨h1, ?_, fun x hx hx2 => ?_, fun g i x c => ?_, g1⟩
    · have ea : (4016 * nI p + nI j : Int32) = nI (4016 * p + j) := yp_ad hp (by omega)
      rw [q_321_32, if_neg (show ¬ (16 : Int32) ≤ nI j from nI_ge (a := j) (b := 16) (by omega) (by omega)), ea]
      by_cases c : j < 14
      · rw [if_pos c] at q1
        rw [if_neg (show ¬ (14 : Int32) ≤ nI j from nI_ge (a := j) (b := 14) c (by omega)), q_321_60, if_pos (in_n (by omega) (by omega)), nI_clamp (by omega), ← nI_succ]
        exact q1
      · rw [if_neg c] at q1
        rw [if_pos (show (14 : Int32) ≤ nI j from nI_le (a := 14) (b := j) (by omega) (by omega)), q_321_60, if_pos (in_n (by omega) (by omega)), nI_clamp (by omega), ← nI_succ]
        exact q1
    · by_cases e : x = j
      · rw [f1 _ _ _ (by omega), e, mI_same]
      · exact a1 x (by omega) hx2
    · rw [f1 _ _ _ (by omega), mI_1, if_neg (by omega)]
/-- one core -/
theorem y_rc (hp : p < 6) (f0 : ∀ g j, 100 ≤ g ∧ g ≤ 130 → h.1 g 0 j = h0.1 g 0 j) : ∃ h', mj_R mg d mq_321 (32, [(2, vI 0), (1, vI (nI p)), (0, vR 15 0)], [], h) = mj_R mg d mq_321 (24, [(1, vI (nI (p + 1))), (2, vI (nI 16)), (0, vR 15 0)], [], h') ∧ yZ p h0 h' ∧ (∀ g i j, ¬ (i = 0 ∧ ((132 ≤ g ∧ g ≤ 142 ∧ j = p) ∨ (g = 145 ∧ j = p) ∨ (g = 131 ∧ 4016 * p ≤ j ∧ j < 4016 * p + 16) ∨ (g = 144 ∧ (j = 2 * p ∨ j = 2 * p + 1)))) → h'.1 g i j = h.1 g i j) ∧ h'.2 = h.2 := by
  have ip := yp_in hp
  have e2 : (2 : Int32) * nI p = nI (2 * p) := nI_mul 2 p
  have i1 := in_n (show 2 * p < 12 by omega) (show 12 < 2 ^ 31 by omega)
  have i2 := in_n (show 2 * p + 1 < 12 by omega) (show 12 < 2 ^ 31 by omega)
  obtain ⟨h1, q1, a1, f1, g1⟩ := y_ra (d := d) hp 16 0 h rfl
  have q1 : mj_R mg d mq_321 (32, [(2, vI 0), (1, vI (nI p)), (0, vR 15 0)], [], h) = _ := q1
  have k8 : h1.1 108 0 p = h0.1 108 0 p := (f1 _ _ _ (by omega)).trans (f0 _ _ (by omega))
  have k10 : h1.1 110 0 p = h0.1 110 0 p := (f1 _ _ _ (by omega)).trans (f0 _ _ (by omega))
  have k27 : h1.1 127 0 p = h0.1 127 0 p := (f1 _ _ _ (by omega)).trans (f0 _ _ (by omega))
  obtain ⟨h2, eh2⟩ : ∃ h2, h2 = mj_sI (mj_sI (mj_sI (mj_sI (mj_sI (mj_sI (mj_sI (mj_sI (mj_sI (mj_sI (mj_sI (mj_sI (mj_sI h1 144 0 (2 * p) 0) 144 0 (2 * p + 1) 0) 145 0 p (0 &&& 1)) 139 0 p (0 &&& 1)) 140 0 p (0 &&& 1)) 141 0 p 0) 142 0 p 0) 132 0 p 0) 133 0 p 0) 134 0 p 0) 137 0 p 0) 135 0 p (h0.1 127 0 p)) 136 0 p ((16 + h0.1 110 0 p) + 3) := ⟨_, rfl⟩
  have m36 : h2.1 136 0 p = 16 + h0.1 110 0 p + 3 := by rw [eh2, mI_same]
  have c2 : ∀ g i j, ¬ (i = 0 ∧ ((132 ≤ g ∧ g ≤ 142 ∧ j = p) ∨ (g = 145 ∧ j = p) ∨ (g = 144 ∧ (j = 2 * p ∨ j = 2 * p + 1)))) → h2.1 g i j = h1.1 g i j := fun g i j c => by rw [eh2, mI_1, if_neg (by omega), mI_1, if_neg (by omega), mI_1, if_neg (by omega), mI_1, if_neg (by omega), mI_1, if_neg (by omega), mI_1, if_neg (by omega), mI_1, if_neg (by omega), mI_1, if_neg (by omega), mI_1, if_neg (by omega), mI_1, if_neg (by omega), mI_1, if_neg (by omega), mI_1, if_neg (by omega), mI_1, if_neg (by omega)]
  have fin : ∀ v : Int32, v = (if h0.1 108 0 p ≤ 0 then -1 else 2 * (16 + h0.1 110 0 p + 3) + 1) → ∃ h', mj_R mg d mq_321 (207, [(2, vI (nI 16)), (1, vI (nI p)), (0, vR 15 0)], [vI v, vI (nI p), vR 138 0], h2) = mj_R mg d mq_321 (24, [(1, vI (nI (p + 1))), (2, vI (nI 16)), (0, vR 15 0)], [], h') ∧ yZ p h0 h' ∧ (∀ g i j, ¬ (i = 0 ∧ ((132 ≤ g ∧ g ≤ 142 ∧ j = p) ∨ (g = 145 ∧ j = p) ∨ (g = 131 ∧ 4016 * p ≤ j ∧ j < 4016 * p + 16) ∨ (g = 144 ∧ (j = 2 * p ∨ j = 2 * p + 1)))) → h'.1 g i j = h.1 g i j) ∧ h'.2 = h.2 := by
    intro v ev
    rw [q_321_207, if_pos ip, nI_clamp (by omega), ← nI_succ]
    refine ⟨_, rfl, ⟨⟨?_, ?_, fun g hg => ?_⟩, ?_, ?_, ?_, fun x hx => ?_⟩, fun g i j c => ?_, ?_⟩
    · rw [mI_1, if_neg (by omega), eh2]; simp [mI_1]
    · rw [mI_1, if_neg (by omega), eh2]; simp [mI_1]
    · rw [mI_1, if_neg (by omega), eh2]
      rcases hg with rfl | rfl | rfl | rfl | rfl | rfl | rfl | rfl | rfl <;> simp [mI_1]
    · rw [mI_1, if_neg (by omega), eh2, mI_1, if_neg (by omega), mI_same]
    · rw [mI_1, if_neg (by omega)]; exact m36
    · rw [mI_same]; exact ev
    · rw [mI_1, if_neg (by omega), c2 _ _ _ (by omega)]; exact a1 x (by omega) hx
    · rw [mI_1, if_neg (by omega), c2 _ _ _ (by omega)]; exact f1 _ _ _ (by omega)
    · show h2.2 = h.2
      rw [eh2]; exact g1
  rw [q1, q_321_32, if_pos (show (16 : Int32) ≤ nI 16 by decide)]
  simp only [e2, ← nI_succ (2 * p), if_pos i1, if_pos i2, if_pos ip, nI_clamp (show p < 2 ^ 31 by omega), nI_clamp (show 2 * p < 2 ^ 31 by omega), nI_clamp (show 2 * p + 1 < 2 ^ 31 by omega)]
  rw [k8, k10, k27, ← eh2]
  by_cases c : h0.1 108 0 p ≤ 0
  · rw [if_pos c]
    exact fin _ (by rw [if_pos c])
  · rw [if_neg c, m36]
    exact fin _ (by rw [if_neg c])
theorem yZ.mv {q : Nat} (a : yZ q h0 h) (f : ∀ g j, (132 ≤ g ∧ g ≤ 142 ∧ j = q) ∨ (g = 145 ∧ j = q) ∨ (g = 131 ∧ 4016 * q ≤ j ∧ j < 4016 * q + 16) ∨ (g = 144 ∧ (j = 2 * q ∨ j = 2 * q + 1)) → h'.1 g 0 j = h.1 g 0 j) : yZ q h0 h' := by
  obtain ⟨⟨a1, a2, a3⟩, a4, a5, a6, a7⟩ := a
  exact ⟨⟨(f _ _ (by omega)).trans a1, (f _ _ (by omega)).trans a2, fun g hg => (f _ _ (by omega)).trans (a3 g hg)⟩, (f _ _ (by omega)).trans a4, (f _ _ (by omega)).trans a5, (f _ _ (by omega)).trans a6, fun x hx => (f _ _ (by omega)).trans (a7 x hx)⟩
/-- all cores -/
theorem y_rall : ∀ (n p : Nat) (x2 : Int32) (h : mj_H), p + n = 6 → (∀ g j, 100 ≤ g ∧ g ≤ 130 → h.1 g 0 j = h0.1 g 0 j) → ∃ h' y, mj_R mg d mq_321 (24, [(1, vI (nI p)), (2, vI x2), (0, vR 15 0)], [], h) = mj_R mg d mq_321 (216, [(1, vI 0), (2, vI y), (0, vR 15 0)], [], h') ∧ (∀ q, p ≤ q → q < 6 → yZ q h0 h') ∧ (∀ g i j, ¬ (i = 0 ∧ ((132 ≤ g ∧ g ≤ 142 ∧ p ≤ j) ∨ (g = 145 ∧ p ≤ j) ∨ (g = 131 ∧ 4016 * p ≤ j ∧ ∃ q, q < 6 ∧ 4016 * q ≤ j ∧ j < 4016 * q + 16) ∨ (g = 144 ∧ 2 * p ≤ j))) → h'.1 g i j = h.1 g i j) ∧ h'.2 = h.2 := by
  intro n
  induction n with
  | zero =>
    intro p x2 h hp f0
    rw [q_321_24_2, if_pos (show (6 : Int32) ≤ nI p from nI_le (a := 6) (b := p) (by omega) (by omega))]
    exact ⟨h, x2, rfl, fun q h1 h2 => by omega, fun _ _ _ _ => rfl, rfl⟩
  | succ n ih =>
    intro p x2 h hp f0
    have hp6 : p < 6 := by omega
    obtain ⟨h1, q1, z1, f1, g1⟩ := y_rc (d := d) (h := h) (h0 := h0) hp6 f0
    obtain ⟨h2, y, q2, z2, f2, g2⟩ := ih (p + 1) (nI 16) h1 (by omega) (fun g j c => (f1 g 0 j (by omega)).trans (f0 g j c))
    refine ⟨h2, y, ?_, fun q h1 h2 => ?_, fun g i j c => ?_, g2.trans g1⟩
    · rw [q_321_24_2, if_neg (show ¬ (6 : Int32) ≤ nI p from nI_ge (a := p) (b := 6) (by omega) (by omega)), q1, q2]
    · by_cases e : q = p
      · subst e
        refine z1.mv (fun g j c => f2 g 0 j ?_)
        rintro ⟨-, z | z | ⟨z1, z2, q', z3, z4, z5⟩ | z⟩ <;> omega
      · exact z2 q (by omega) h2
    · rw [f2 g i j ?_, f1 g i j ?_]
      · rintro ⟨z0, z | z | z | z⟩
        · exact c ⟨z0, Or.inl (by omega)⟩
        · exact c ⟨z0, Or.inr (Or.inl (by omega))⟩
        · exact c ⟨z0, Or.inr (Or.inr (Or.inl ⟨z.1, z.2.1, p, hp6, z.2⟩))⟩
        · exact c ⟨z0, Or.inr (Or.inr (Or.inr (by omega)))⟩
      · rintro ⟨z0, z | z | z | z⟩
        · exact c ⟨z0, Or.inl (by omega)⟩
        · exact c ⟨z0, Or.inr (Or.inl (by omega))⟩
        · exact c ⟨z0, Or.inr (Or.inr (Or.inl ⟨z.1, by omega, z.2.2⟩))⟩
        · exact c ⟨z0, Or.inr (Or.inr (Or.inr (by omega)))⟩
/-- links -/
theorem y_rl {x2 : Int32} : ∀ (n l : Nat) (h : mj_H), l + n = 12 → ∃ h', mj_R mg d mq_321 (216, [(1, vI (nI l)), (2, vI x2), (0, vR 15 0)], [], h) = some (.inl (none, mj_sI (mj_sI (mj_sI (mj_sI (mj_sI h' 15 0 110 0) 15 0 111 0) 15 0 113 0) 15 0 120 0) 15 0 121 0)) ∧ (∀ m g, l ≤ m → m < 12 → 152 ≤ g → g ≤ 157 → h'.1 g 0 m = 0) ∧ (∀ g i j, ¬ (i = 0 ∧ 152 ≤ g ∧ g ≤ 157 ∧ l ≤ j) → h'.1 g i j = h.1 g i j) ∧ h'.2 = h.2 := by
  intro n
  induction n with
  | zero =>
    intro l h hl
    rw [q_321_216_2, if_pos (show (12 : Int32) ≤ nI l from nI_le (a := 12) (b := l) (by omega) (by omega))]
    exact ⟨h, rfl, fun m g h1 h2 => by omega, fun _ _ _ _ => rfl, rfl⟩
  | succ n ih =>
    intro l h hl
    have il := in_n (show l < 12 by omega) (show 12 < 2 ^ 31 by omega)
    obtain ⟨h1, eh1⟩ : ∃ h1, h1 = mj_sI (mj_sI (mj_sI (mj_sI (mj_sI (mj_sI h 152 0 l (0 &&& 1)) 153 0 l 0) 154 0 l 0) 155 0 l 0) 156 0 l (0 &&& 1)) 157 0 l (0 &&& 1) := ⟨_, rfl⟩
    obtain ⟨h2, q2, z2, f2, g2⟩ := ih (l + 1) h1 (by omega)
    refine ⟨h2, ?_, fun m g m1 m2 g1 g2 => ?_, fun g i j c => ?_, g2.trans (by rw [eh1]; rfl)⟩
    · rw [q_321_216_2, if_neg (show ¬ (12 : Int32) ≤ nI l from nI_ge (a := l) (b := 12) (by omega) (by omega)), if_pos il, if_pos il, if_pos il, if_pos il, if_pos il, if_pos il, nI_clamp (by omega), ← nI_succ, ← eh1]
      exact q2
    · by_cases e : m = l
      · subst e
        rw [f2 _ _ _ (by omega), eh1]
        have : g = 152 ∨ g = 153 ∨ g = 154 ∨ g = 155 ∨ g = 156 ∨ g = 157 := by omega
        rcases this with rfl | rfl | rfl | rfl | rfl | rfl <;> simp [mI_1]
      · exact z2 m g (by omega) m2 g1 g2
    · rw [f2 _ _ _ (by omega), eh1, mI_1, if_neg (by omega), mI_1, if_neg (by omega), mI_1, if_neg (by omega), mI_1, if_neg (by omega), mI_1, if_neg (by omega), mI_1, if_neg (by omega)]
/-- all is reset -/
theorem y_reset (ok : okBg G B) (w0 : (∀ x, x < 200 → h.1 150 0 x = S.2.1.2.2.1 x) ∧ ∀ x, x < 1000 → h.1 151 0 x = S.2.1.2.2.2 x) (g : YG G h) (b : YB G B h) : ∃ h', mj_R mg d mq_321 (0, [(0, vR 15 0)], [], h) = some (.inl (none, h')) ∧ YT G (sBeg G B S) h' ∧ yFS h h' := by
  obtain ⟨h1, q1, z1, f1, g1⟩ := y_rm (d := d) 24096 0 h rfl
  have q1 : mj_R mg d mq_321 (2, [(1, vI 0), (0, vR 15 0)], [], h) = _ := q1
  have b0 : ∀ g j, 100 ≤ g ∧ g ≤ 130 → h1.1 g 0 j = h.1 g 0 j := fun g j c => f1 g 0 j (by omega)
  obtain ⟨h2, q2, z2, f2, g2⟩ := y_rc (d := d) (p := 0) (h := h1) (h0 := h) (by omega) b0
  have q2 : mj_R mg d mq_321 (32, [(2, vI 0), (1, vI 0), (0, vR 15 0)], [], h1) = _ := q2
  obtain ⟨h3, y, q3, z3, f3, g3⟩ := y_rall (d := d) (h0 := h) 5 1 (nI 16) h2 rfl (fun g j c => (f2 g 0 j (by omega)).trans (b0 g j c))
  obtain ⟨h4, q4, z4, f4, g4⟩ := y_rl (d := d) (x2 := y) 12 0 h3 rfl
  have q4 : mj_R mg d mq_321 (216, [(1, vI 0), (2, vI y), (0, vR 15 0)], [], h3) = _ := q4
  obtain ⟨h5, eh5⟩ : ∃ h5, h5 = mj_sI (mj_sI (mj_sI (mj_sI (mj_sI h4 15 0 110 0) 15 0 111 0) 15 0 113 0) 15 0 120 0) 15 0 121 0 := ⟨_, rfl⟩
  have c5 : ∀ g i j, ¬ (g = 15 ∧ i = 0 ∧ (j = 110 ∨ j = 111 ∨ j = 113 ∨ j = 120 ∨ j = 121)) → h5.1 g i j = h4.1 g i j := fun g i j c => by rw [eh5, mI_1, if_neg (by omega), mI_1, if_neg (by omega), mI_1, if_neg (by omega), mI_1, if_neg (by omega), mI_1, if_neg (by omega)]
  have Z : ∀ q, q < 6 → yZ q h h5 := by
    intro q hq
    have z : yZ q h h3 := by
      by_cases e : q = 0
      · subst e
        refine z2.mv (fun g j c => f3 g 0 j ?_)
        rintro ⟨-, z | z | ⟨z1, z2, q', z3, z4, z5⟩ | z⟩ <;> omega
      · exact z3 q (by omega) hq
    exact z.mv (fun g j c => (c5 g 0 j (by omega)).trans (f4 g 0 j (by omega)))
  have M0 : ∀ q, q < 6 → ∀ x, 16 ≤ x → x < 4016 → h5.1 131 0 (4016 * q + x) = 0 := by
    intro q hq x hx hx2
    rw [c5 _ _ _ (by omega), f4 _ _ _ (by omega), f3 _ _ _ ?_, f2 _ _ _ (by omega)]
    · exact z1 _ (Nat.zero_le _) (by omega)
    · rintro ⟨-, z | z | ⟨z1, z2, q', z3, z4, z5⟩ | z⟩ <;> omega
  have FF : ∀ g i j, ¬ (i = 0 ∧ ((131 ≤ g ∧ g ≤ 157) ∨ (g = 15 ∧ (j = 110 ∨ j = 111 ∨ j = 113 ∨ j = 120 ∨ j = 121)))) → h5.1 g i j = h.1 g i j := by
    intro g i j c
    rw [c5 _ _ _ (by omega), f4 _ _ _ (by omega), f3 _ _ _ ?_, f2 _ _ _ (by omega), f1 _ _ _ (by omega)]
    rintro ⟨z0, z | z | ⟨z1, -⟩ | z⟩ <;> omega
  refine ⟨h5, by rw [q_321_0, q1, q_321_24, if_neg (show ¬ (6 : Int32) ≤ 0 by decide), q2, q3, q4, eh5], ⟨fun p hp hg => ?_, fun p hp hg => ?_, ?_, ?_, ?_⟩, ⟨FF, by rw [eh5]; exact g4.trans (g3.trans (g2.trans g1))⟩⟩
  · obtain ⟨⟨a1, a2, a3⟩, a4, a5, a6, a7⟩ := Z p hp
    obtain ⟨o1, o2, o3, o4, o5⟩ := ok p hp hg
    obtain ⟨e1, e2, sz, dp, e3, e4, e5, e6⟩ := b p hp hg
    have k36 : (16 + h.1 110 0 p + 3 : Int32) = nI (B p).2.2.2 := by
      rw [e4, ← e6]
      show nI 16 + nI dp + nI 3 = _
      rw [nI_add, nI_add]
    have es : (sBeg G B S).1 p = cBeg (16 + (B p).2.1) (B p).2.2.1 (B p).2.2.2 (S.1 p) := if_pos hg
    rw [es]
    refine ⟨⟨fun _ => ⟨fun t t1 t2 => ?_, a3 142 (by omega), (B p).2.2.2, 1, by omega, by omega, rfl, rfl⟩, ?_, ⟨a3 141 (by omega), a3 139 (by omega), a3 140 (by omega), a3 145 (by omega), fun hk => (hk rfl).elim⟩, fun x hx hb => ?_, ⟨a1, by show 0 ≤ 1095; omega, fun i n hi => by cases hi⟩, ⟨a2, by show 0 ≤ 1095; omega, fun i n hi => by cases hi⟩⟩, ?_⟩
    · have ht : t = 8 ∨ t = 9 ∨ t = 10 ∨ t = 11 ∨ t = 12 ∨ t = 13 := by omega
      rcases ht with rfl | rfl | rfl | rfl | rfl | rfl
      · exact a3 132 (by omega)
      · exact a3 133 (by omega)
      · exact a3 134 (by omega)
      · exact a4.trans e2
      · exact a5.trans k36
      · exact a3 137 (by omega)
    · rw [a6, if_neg (y_has1 g hp hg).2, k36]; rfl
    · have hb : nI x < nI (16 + (B p).2.1) := hb
      have hb : x < 16 + (B p).2.1 := by
        by_cases z : x < 16 + (B p).2.1
        · exact z
        · exact (nI_nlt (show 16 + (B p).2.1 ≤ x by omega) (by omega) hb).elim
      show _ = if x < 16 + (B p).2.1 then (if x ≤ 13 then -1 else 0) else _
      rw [if_pos hb]
      by_cases c : x < 16
      · rw [a7 x c]
        by_cases c2 : x < 14
        · rw [if_pos c2, if_pos (by omega)]
        · rw [if_neg c2, if_neg (by omega)]
      · rw [M0 p hp x (by omega) hx, if_neg (by omega)]
    · show nI 15 < nI (16 + (B p).2.1)
      exact nI_lt (by omega) (by omega)
  · obtain ⟨⟨a1, a2, a3⟩, a4, a5, a6, a7⟩ := Z p hp
    refine ⟨?_, fun x hx => ?_⟩
    · rw [a6, if_pos (by rw [(g.1 p hp).2 hg]; decide)]
    · rw [a7 x (by omega), if_pos hx]
  · refine ⟨⟨?_, ?_, ?_⟩, fun l hl => ?_, fun x hx => ?_, fun x hx => ?_⟩
    · rw [eh5]; simp [mI_1]; rfl
    · rw [eh5]; simp [mI_1]; rfl
    · rw [eh5]; simp [mI_1]; rfl
    · have zz : ∀ g, 152 ≤ g → g ≤ 157 → h5.1 g 0 l = 0 := fun g g1 g2 => (c5 _ _ _ (by omega)).trans (z4 l g (by omega) hl g1 g2)
      exact ⟨zz 152 (by omega) (by omega), fun z => (z.elim (fun y => (y rfl).elim) (fun y => absurd y (show ¬ (0 : Int32) = 4 by decide))), zz 154 (by omega) (by omega), zz 155 (by omega) (by omega), zz 156 (by omega) (by omega), fun z => (z rfl).elim⟩
    · rw [c5 _ _ _ (by omega), f4 _ _ _ (by omega), f3 _ _ _ ?_, f2 _ _ _ (by omega), f1 _ _ _ (by omega)]
      · exact w0.1 x hx
      · rintro ⟨-, z | z | ⟨z1, -⟩ | z⟩ <;> omega
    · rw [c5 _ _ _ (by omega), f4 _ _ _ (by omega), f3 _ _ _ ?_, f2 _ _ _ (by omega), f1 _ _ _ (by omega)]
      · exact w0.2 x hx
      · rintro ⟨-, z | z | ⟨z1, -⟩ | z⟩ <;> omega
  · rw [eh5]; simp [mI_1]; rfl
  · rw [eh5]; simp [mI_1]; rfl
theorem y_begin (ok : okBg G B) (a : YT G S h) (g : YG G h) (b : YB G B h) : ∃ h', mj_R mg (d + 1) mq_349 (0, [(0, vR 15 0)], [], h) = some (.inl (none, h')) ∧ YT G (sBeg G B S) h' ∧ yFA h h' ∧ h'.1 15 0 0 = 0 := by
  have rf := y_ref (d := d) (h := h) (x1 := 0) (x2 := 0) (x3 := 0) (k := 0) rfl
  have rf : mj_R mg d mq_198 (0, [(0, vR 15 0), (1, vI 0), (2, vI 0), (3, vI 0)], [], h) = some (.inl (some (vI 0), mj_sI h 15 0 0 0)) := rf
  have F : yFA h (mj_sI h 15 0 0 0) := yFA.th 0
  obtain ⟨h2, q2, a2, f2⟩ := y_reset (d := d) (S := S) (h := mj_sI h 15 0 0 0) ok ⟨fun x hx => by rw [mI_1, if_neg (by omega)]; exact a.2.2.1.2.2.1 x hx, fun x hx => by rw [mI_1, if_neg (by omega)]; exact a.2.2.1.2.2.2 x hx⟩ (g.ma F) (fun p hp hg => by
    rw [F.1 126 0 p (by omega), F.1 127 0 p (by omega), F.1 109 0 p (by omega), F.1 110 0 p (by omega)]
    exact b p hp hg)
  rw [q_349_0, if_pos g.2.2.2.2, q_349_13, rf, mj_xi_ret, if_neg (fun z => z rfl), q2, mj_xv_ret, q_349_25]
  exact ⟨h2, rfl, a2, F.tr f2.a, (f2.1 15 0 0 (by omega)).trans mI_same⟩
end
