/-! what is asked: the twin's -/
def cdA (e : Nat) : Nat := if e = 3 then 1 else if e = 4 then 2 else 3
def cdB (e : Nat) : Nat := if e = 3 then 1 else 2
def cdL (e : Nat) : Nat := if e = 3 then 1 else if e = 2 then 2 else 3
/-- the twin's answer, and what it keeps as thrown -/
def yrs (cd : Nat → Nat) (x : An) (h : mj_H) : Option mj_O := match x with
  | .inl v => some (.inl (some (vI v), mj_sI h 15 0 0 0))
  | .inr e => some (.inl (some (vI 0), mj_sI h 15 0 0 (nI (cd e))))
section
variable {G : PgS} {B : Bg} {S S' : Sy} {h0 h h' : mj_H} {d p : Nat}
theorem y_199 {x lo hi : Int32} : mj_R mg d mq_199 (0, [(0, vI x), (1, vI lo), (2, vI hi)], [], h) = some (.inl (some (vI (bI (decide (lo ≤ x ∧ x ≤ hi)))), h)) := by
  rw [q_199_0]
  by_cases c1 : x < lo
  · rw [if_pos c1, q_199_14, q_199_15, if_pos (Or.inl rfl), decide_eq_false (fun z => absurd c1 (Int32.not_lt.mpr z.1))]; rfl
  · rw [if_neg c1]
    by_cases c2 : hi < x
    · rw [if_pos c2, q_199_14, q_199_15, if_pos (Or.inl rfl), decide_eq_false (fun z => absurd c2 (Int32.not_lt.mpr z.2))]; rfl
    · rw [if_neg c2, q_199_15, if_pos (Or.inr rfl), decide_eq_true ⟨Int32.not_lt.mp c1, Int32.not_lt.mp c2⟩]; rfl
theorem y_isc {x : Int32} (g : YG G h) : mj_R mg (d + 1) mq_351 (0, [(0, vR 15 0), (1, vI x)], [], h) = some (.inl (some (vI (bI (decide (isQ G x)))), h)) := by
  have e5 : (5 : Int32) = nI 5 := rfl
  rw [q_351_0, e5, y_199, mj_xi_ret]
  by_cases c1 : mj_in x 6
  · have hp : x.toNatClampNeg < 6 := by
      have e3 : x.toNatClampNeg = x.toInt.toNat := rfl
      have := c1.1; have := c1.2; omega
    rw [decide_eq_true (in_6.mp c1), if_neg (by decide), y_199, mj_xi_ret, decide_eq_true (in_6.mp c1), if_neg (by decide), q_351_27, if_pos c1]
    by_cases hg : G.1 x.toNatClampNeg = true
    · rw [if_neg (y_has1 g hp hg).2, q_351_36, if_pos (Or.inr rfl), decide_eq_true ⟨c1, hg⟩]; rfl
    · have hg' : G.1 x.toNatClampNeg = false := Bool.eq_false_iff.mpr hg
      rw [if_pos (show h.1 108 0 x.toNatClampNeg ≤ 0 by rw [(g.1 _ hp).2 hg']; decide), q_351_35, q_351_36, if_pos (Or.inl rfl), decide_eq_false (fun z => hg z.2)]; rfl
  · rw [decide_eq_false (fun z => c1 (in_6.mpr z)), if_pos (by decide), q_351_35, q_351_36, if_pos (Or.inl rfl), decide_eq_false (fun z => c1 z.1)]; rfl
theorem y_rf0 : mj_R mg d mq_198 (0, [(0, vR 15 0), (1, vI 0), (2, vI 0), (3, vI 0)], [], h) = some (.inl (some (vI 0), mj_sI h 15 0 0 0)) := y_ref (x1 := 0) (x2 := 0) (x3 := 0) (k := 0) rfl
theorem y_rf2 : mj_R mg d mq_198 (0, [(0, vR 15 0), (1, vI 0), (2, vI 1), (3, vI 0)], [], h) = some (.inl (some (vI 1), mj_sI h 15 0 0 (nI 2))) := y_ref (x1 := 0) (x2 := 1) (x3 := 0) (k := 2) rfl
theorem y_rf3 : mj_R mg d mq_198 (0, [(0, vR 15 0), (1, vI 0), (2, vI 0), (3, vI 1)], [], h) = some (.inl (some (vI 1), mj_sI h 15 0 0 (nI 3))) := y_ref (x1 := 0) (x2 := 0) (x3 := 1) (k := 3) rfl
theorem y_rf1 : mj_R mg d mq_198 (0, [(0, vR 15 0), (1, vI 1), (2, vI 0), (3, vI 0)], [], h) = some (.inl (some (vI 1), mj_sI h 15 0 0 (nI 1))) := y_ref (x1 := 1) (x2 := 0) (x3 := 0) (k := 1) rfl
theorem i_0 {j i g : Nat} {v : Int32} (c : ¬ (g = 15 ∧ i = 0 ∧ j = 0)) : (mj_sI h 15 0 0 v).1 g i j = h.1 g i j := by rw [mI_1, if_neg c]
/-- what 352 refuses -/
theorem y_g352 {p x : Int32} (g : YG G h) : mj_R mg (d + 2) mq_352 (0, [(0, vR 15 0), (1, vI p), (2, vI x)], [], h) = if isQ G p then if 0 ≤ x ∧ x ≤ nI 5000 then mj_R mg (d + 2) mq_352 (64, [(0, vR 15 0), (1, vI p), (2, vI x)], [vI 0, vI 0, vI 0, vR 15 0], h) else yrs cdA (.inr 1) h else yrs cdA (.inr 4) h := by
  have eb : (5000 : Int32) = nI 5000 := rfl
  rw [q_352_0, if_pos g.2.2.2.2, q_352_13, if_neg g.2.2.2.2, y_isc g, mj_xi_ret]
  by_cases c : isQ G p
  · rw [if_pos c, decide_eq_true c, if_pos (by decide), q_352_32, q_352_33, if_neg g.2.2.2.2, y_isc g, mj_xi_ret, decide_eq_true c, if_neg (by decide), eb, y_199, mj_xi_ret]
    by_cases c2 : 0 ≤ x ∧ x ≤ nI 5000
    · rw [if_pos c2, decide_eq_true c2, if_pos (by decide), q_352_63]
    · rw [if_neg c2, decide_eq_false c2, if_neg (fun z => z (by decide)), q_352_64, y_rf3, mj_xi_ret, if_neg (by decide)]; rfl
  · rw [if_neg c, decide_eq_false c, if_neg (fun z => z (by decide)), q_352_33, if_neg g.2.2.2.2, y_isc g, mj_xi_ret, decide_eq_false c, if_pos (by decide), q_352_63, q_352_64, y_rf2, mj_xi_ret, if_neg (by decide)]; rfl
/-- what 356 refuses -/
theorem y_g356 {p x : Int32} (g : YG G h) : mj_R mg (d + 2) mq_356 (0, [(0, vR 15 0), (1, vI p), (2, vI x)], [], h) = if isQ G p then if 0 ≤ x ∧ x ≤ nI 3 then mj_R mg (d + 2) mq_356 (62, [(0, vR 15 0), (1, vI p), (2, vI x)], [vI 0, vI 0, vI 0, vR 15 0], h) else yrs cdA (.inr 1) h else yrs cdA (.inr 4) h := by
  have eb : (3 : Int32) = nI 3 := rfl
  rw [q_356_0, if_pos g.2.2.2.2, q_356_13, if_neg g.2.2.2.2, y_isc g, mj_xi_ret]
  by_cases c : isQ G p
  · rw [if_pos c, decide_eq_true c, if_pos (by decide), q_356_32, q_356_33, if_neg g.2.2.2.2, y_isc g, mj_xi_ret, decide_eq_true c, if_neg (by decide), eb, y_199, mj_xi_ret]
    by_cases c2 : 0 ≤ x ∧ x ≤ nI 3
    · rw [if_pos c2, decide_eq_true c2, if_pos (by decide), q_356_61]
    · rw [if_neg c2, decide_eq_false c2, if_neg (fun z => z (by decide)), q_356_62, y_rf3, mj_xi_ret, if_neg (by decide)]; rfl
  · rw [if_neg c, decide_eq_false c, if_neg (fun z => z (by decide)), q_356_33, if_neg g.2.2.2.2, y_isc g, mj_xi_ret, decide_eq_false c, if_pos (by decide), q_356_61, q_356_62, y_rf2, mj_xi_ret, if_neg (by decide)]; rfl
/-- what 361 refuses -/
theorem y_g361 {p x : Int32} (g : YG G h) : mj_R mg (d + 2) mq_361 (0, [(0, vR 15 0), (1, vI p), (2, vI x)], [], h) = if isQ G p then if 0 ≤ x ∧ x ≤ nI 12 then mj_R mg (d + 2) mq_361 (63, [(0, vR 15 0), (1, vI p), (2, vI x)], [vI 0, vI 0, vI 0, vR 15 0], h) else yrs cdA (.inr 1) h else yrs cdA (.inr 4) h := by
  have eb : (12 : Int32) = nI 12 := rfl
  rw [q_361_0, if_pos g.2.2.2.2, q_361_13, if_neg g.2.2.2.2, y_isc g, mj_xi_ret]
  by_cases c : isQ G p
  · rw [if_pos c, decide_eq_true c, if_pos (by decide), q_361_32, q_361_33, if_neg g.2.2.2.2, y_isc g, mj_xi_ret, decide_eq_true c, if_neg (by decide), eb, y_199, mj_xi_ret]
    by_cases c2 : 0 ≤ x ∧ x ≤ nI 12
    · rw [if_pos c2, decide_eq_true c2, if_pos (by decide), q_361_62]
    · rw [if_neg c2, decide_eq_false c2, if_neg (fun z => z (by decide)), q_361_63, y_rf3, mj_xi_ret, if_neg (by decide)]; rfl
  · rw [if_neg c, decide_eq_false c, if_neg (fun z => z (by decide)), q_361_33, if_neg g.2.2.2.2, y_isc g, mj_xi_ret, decide_eq_false c, if_pos (by decide), q_361_62, q_361_63, y_rf2, mj_xi_ret, if_neg (by decide)]; rfl
theorem y_aPr {p x : Int32} (g : YG G h) (b : YB G B h) : mj_R mg (d + 2) mq_356 (0, [(0, vR 15 0), (1, vI p), (2, vI x)], [], h) = yrs cdA (aPr G B p x) h := by
  unfold aPr
  rw [y_g356 g]
  by_cases c : isQ G p
  · have hp : p.toNatClampNeg < 6 := by
      have e3 : p.toNatClampNeg = p.toInt.toNat := rfl
      have := c.1.1; have := c.1.2; omega
    obtain ⟨e1, e2, sz, dp, e3, e4, e5, e6⟩ := b _ hp c.2
    have k1 : (nI sz + nI dp + 3 : Int32) = nI (B p.toNatClampNeg).2.1 := by
      rw [← e5]
      show nI sz + nI dp + nI 3 = _
      rw [nI_add, nI_add]
    have k2 : (16 + nI dp + 3 : Int32) = nI (B p.toNatClampNeg).2.2.2 := by
      rw [← e6]
      show nI 16 + nI dp + nI 3 = _
      rw [nI_add, nI_add]
    rw [if_pos c, if_pos c]
    by_cases c2 : 0 ≤ x ∧ x ≤ nI 3
    · rw [if_pos c2, if_pos c2, q_356_62, y_rf0, mj_xi_ret, if_pos rfl, i_0 (by omega), i_0 (by omega), i_0 (by omega), i_0 (by omega), e1, e2, e3, e4, k1, k2]
      by_cases x0 : x = 0
      · rw [if_pos x0, if_pos c.1, if_pos x0]; rfl
      · rw [if_neg x0, if_neg x0]
        by_cases x1 : x = 1
        · rw [if_pos x1, if_pos c.1, if_pos c.1, if_pos x1]; rfl
        · rw [if_neg x1, if_neg x1]
          by_cases x2 : x = 2
          · rw [if_pos x2, if_pos c.1, if_pos x2]; rfl
          · rw [if_neg x2, if_pos c.1, if_neg x2]; rfl
    · rw [if_neg c2, if_neg c2]
  · rw [if_neg c, if_neg c]
theorem y_aCo {p x : Int32} (a : YT G S h) (g : YG G h) : mj_R mg (d + 2) mq_361 (0, [(0, vR 15 0), (1, vI p), (2, vI x)], [], h) = yrs cdA (aCo G S p x) h := by
  unfold aCo
  rw [y_g361 g]
  by_cases c : isQ G p
  · have hp : p.toNatClampNeg < 6 := by
      have e3 : p.toNatClampNeg = p.toInt.toNat := rfl
      have := c.1.1; have := c.1.2; omega
    have i6 := c.1
    rw [if_pos c, if_pos c]
    by_cases c2 : 0 ≤ x ∧ x ≤ nI 12
    · rw [if_pos c2, if_pos c2, q_361_63, y_rf0, mj_xi_ret, if_pos rfl, if_pos i6, i_0 (by omega)]
      have C := (a.1 _ hp c.2).1
      have R := (a.rs hp c.2).f
      have e2 : (2 : Int32) * p = nI (2 * p.toNatClampNeg) := by
        have : p = nI p.toNatClampNeg := (n_cl (fun z => by
          have : p.toInt < 0 := Int32.lt_iff_toInt_lt.mp z
          have := c.1.1; omega)).1
        rw [this, nI_clamp (by omega)]
        exact nI_mul 2 _
      generalize hq : p.toNatClampNeg = q at hp C R e2 ⊢
      have l1 : h.1 144 0 (2 * q) = nI (S.1 q).2.2.1.length := C.2.2.2.2.1.1
      have l2 : h.1 144 0 (2 * q + 1) = nI (S.1 q).2.2.2.length := C.2.2.2.2.2.1
      have j1 := in_n (show 2 * q < 12 by omega) (show 12 < 2 ^ 31 by omega)
      have j2 := in_n (show 2 * q + 1 < 12 by omega) (show 12 < 2 ^ 31 by omega)
      have low : ∀ b : Bool, (b = true ↔ ¬ (S.1 q).1 14 = 0) → mj_R mg (d + 2) mq_361 (86, [(0, vR 15 0), (1, vI p), (2, vI x)], [vI (bI b)], mj_sI h 15 0 0 0) = yrs cdA (.inl (cAsk (S.1 q) x)) h := by
        intro b eb
        rw [q_361_86, hq]
        simp only [if_pos i6, e2, ← nI_succ (2 * q), if_pos j1, if_pos j2, nI_clamp (show 2 * q < 2 ^ 31 by omega), nI_clamp (show 2 * q + 1 < 2 ^ 31 by omega)]
        simp only [i_0 (h := h) (v := 0) (show ¬ (132 = 15 ∧ 0 = 0 ∧ q = 0) by omega), i_0 (h := h) (v := 0) (show ¬ (133 = 15 ∧ 0 = 0 ∧ q = 0) by omega), i_0 (h := h) (v := 0) (show ¬ (134 = 15 ∧ 0 = 0 ∧ q = 0) by omega), i_0 (h := h) (v := 0) (show ¬ (135 = 15 ∧ 0 = 0 ∧ q = 0) by omega), i_0 (h := h) (v := 0) (show ¬ (136 = 15 ∧ 0 = 0 ∧ q = 0) by omega), i_0 (h := h) (v := 0) (show ¬ (137 = 15 ∧ 0 = 0 ∧ q = 0) by omega), i_0 (h := h) (v := 0) (show ¬ (138 = 15 ∧ 0 = 0 ∧ q = 0) by omega), i_0 (h := h) (v := 0) (show ¬ (139 = 15 ∧ 0 = 0 ∧ q = 0) by omega), i_0 (h := h) (v := 0) (show ¬ (140 = 15 ∧ 0 = 0 ∧ q = 0) by omega), i_0 (h := h) (v := 0) (show ¬ (141 = 15 ∧ 0 = 0 ∧ q = 0) by omega), i_0 (h := h) (v := 0) (show ¬ (142 = 15 ∧ 0 = 0 ∧ q = 0) by omega), i_0 (h := h) (v := 0) (show ¬ (144 = 15 ∧ 0 = 0 ∧ 2 * q = 0) by omega), i_0 (h := h) (v := 0) (show ¬ (144 = 15 ∧ 0 = 0 ∧ 2 * q + 1 = 0) by omega)]
        rw [l1, l2, C.2.2.1.1, C.2.2.1.2.1, C.2.2.1.2.2.1, C.2.1]
        unfold cAsk
        cases b with
        | false =>
          have z : (S.1 q).1 14 = 0 := by
            by_cases z : (S.1 q).1 14 = 0
            · exact z
            · have := eb.mpr z; cases this
          simp only [z, if_true, show bI false = 0 from rfl]
          by_cases x0 : x = 0
          · subst x0
            simp [q_361_166, yrs]
          · simp only [if_neg x0]
            by_cases x1 : x = 1
            · subst x1
              simp [q_361_181, yrs]
            · simp only [if_neg x1]
              by_cases x2 : x = 2
              · subst x2
                simp [q_361_196, yrs]
              · simp only [if_neg x2]
                by_cases x3 : x = 3
                · subst x3
                  simp [q_361_211, yrs]
                · simp only [if_neg x3]
                  by_cases x4 : x = 4
                  · subst x4
                    simp [q_361_226, yrs]
                  · simp only [if_neg x4]
                    by_cases x5 : x = 5
                    · subst x5
                      simp [q_361_241, yrs]
                    · simp only [if_neg x5]
                      by_cases x6 : x = 6
                      · subst x6
                        simp [yrs]
                      · simp only [if_neg x6]
                        by_cases x7 : x = 7
                        · subst x7
                          by_cases y : (S.1 q).1 18 = 0
                          · simp [y, q_361_263, yrs]
                          · simp [y, q_361_263, yrs]
                        · simp only [if_neg x7]
                          by_cases x8 : x = 8
                          · subst x8
                            by_cases y : (S.1 q).1 19 = 0
                            · simp [y, q_361_278, yrs]
                            · simp [y, q_361_278, yrs]
                          · simp only [if_neg x8]
                            by_cases x9 : x = 9
                            · subst x9
                              simp [yrs]
                            · simp only [if_neg x9]
                              by_cases x10 : x = 10
                              · subst x10
                                simp [yrs]
                              · simp only [if_neg x10]
                                by_cases x11 : x = 11
                                · subst x11
                                  simp [yrs]
                                · simp only [if_neg x11]
                                  simp [q_361_320, yrs]
        | true =>
          have z := eb.mp rfl
          have g8 : h.1 132 0 q = (S.1 q).1 8 := R.g z 8 (by omega) (by omega)
          have g9 : h.1 133 0 q = (S.1 q).1 9 := R.g z 9 (by omega) (by omega)
          have g10 : h.1 134 0 q = (S.1 q).1 10 := R.g z 10 (by omega) (by omega)
          have g11 : h.1 135 0 q = (S.1 q).1 11 := R.g z 11 (by omega) (by omega)
          have g12 : h.1 136 0 q = (S.1 q).1 12 := R.g z 12 (by omega) (by omega)
          have g13 : h.1 137 0 q = (S.1 q).1 13 := R.g z 13 (by omega) (by omega)
          have g16 : h.1 142 0 q = (S.1 q).1 16 := (C.1 z).2.1
          rw [g8, g9, g10, g11, g12, g13, g16]
          simp only [if_neg z, show ¬ bI true = 0 by decide, if_false]
          by_cases x0 : x = 0
          · subst x0
            simp [q_361_166, yrs]
          · simp only [if_neg x0]
            by_cases x1 : x = 1
            · subst x1
              simp [q_361_181, yrs]
            · simp only [if_neg x1]
              by_cases x2 : x = 2
              · subst x2
                simp [q_361_196, yrs]
              · simp only [if_neg x2]
                by_cases x3 : x = 3
                · subst x3
                  simp [q_361_211, yrs]
                · simp only [if_neg x3]
                  by_cases x4 : x = 4
                  · subst x4
                    simp [q_361_226, yrs]
                  · simp only [if_neg x4]
                    by_cases x5 : x = 5
                    · subst x5
                      simp [q_361_241, yrs]
                    · simp only [if_neg x5]
                      by_cases x6 : x = 6
                      · subst x6
                        simp [yrs]
                      · simp only [if_neg x6]
                        by_cases x7 : x = 7
                        · subst x7
                          by_cases y : (S.1 q).1 18 = 0
                          · simp [y, q_361_263, yrs]
                          · simp [y, q_361_263, yrs]
                        · simp only [if_neg x7]
                          by_cases x8 : x = 8
                          · subst x8
                            by_cases y : (S.1 q).1 19 = 0
                            · simp [y, q_361_278, yrs]
                            · simp [y, q_361_278, yrs]
                          · simp only [if_neg x8]
                            by_cases x9 : x = 9
                            · subst x9
                              simp [yrs]
                            · simp only [if_neg x9]
                              by_cases x10 : x = 10
                              · subst x10
                                simp [yrs]
                              · simp only [if_neg x10]
                                by_cases x11 : x = 11
                                · subst x11
                                  simp [yrs]
                                · simp only [if_neg x11]
                                  simp [q_361_320, yrs]
      by_cases z : (S.1 q).1 14 = 0
      · rw [C.2.1, if_pos z, if_pos rfl]
        exact low false (by rw [z]; decide)
      · rw [if_neg (R.n1 z).2]
        exact low true ⟨fun _ => z, fun _ => rfl⟩
    · rw [if_neg c2, if_neg c2]
  · rw [if_neg c, if_neg c]
end
