/-! the twin's cores: host and links -/
def yL (w : Wd) (h : mj_H) (l : Nat) : Prop := h.1 152 0 l = w.2.1 l 0 ∧ (¬ w.2.1 l 0 = 0 ∨ w.2.1 l 4 = 4 → h.1 153 0 l = w.2.1 l 1) ∧ h.1 154 0 l = w.2.1 l 2 ∧ h.1 155 0 l = w.2.1 l 4 ∧ h.1 156 0 l = w.2.1 l 5 ∧ (¬ w.2.1 l 0 = 0 → h.1 157 0 l = if w.2.1 l 2 = w.2.1 l 3 ∧ w.2.1 l 2 < 4 then 1 else 0)
def yW (w : Wd) (h : mj_H) : Prop := (h.1 15 0 110 = w.1 1 ∧ h.1 15 0 111 = w.1 2 ∧ h.1 15 0 113 = w.1 4) ∧ (∀ l, l < 12 → yL w h l) ∧ (∀ x, x < 200 → h.1 150 0 x = w.2.2.1 x) ∧ ∀ x, x < 1000 → h.1 151 0 x = w.2.2.2 x
def yX (p : Nat) (h h' : mj_H) : Prop := (∀ g i j, ¬ (i = 0 ∧ ((132 ≤ g ∧ g ≤ 142 ∧ j = p) ∨ (145 ≤ g ∧ g ≤ 149 ∧ j = p) ∨ (g = 131 ∧ 4016 * p ≤ j ∧ j < 4016 * (p + 1)) ∨ (g = 143 ∧ 2200 * p ≤ j ∧ j < 2200 * (p + 1)) ∨ (g = 144 ∧ (j = 2 * p ∨ j = 2 * p + 1)) ∨ (g = 15 ∧ (j = 111 ∨ j = 113)) ∨ (151 ≤ g ∧ g ≤ 157))) → h'.1 g i j = h.1 g i j) ∧ h'.2 = h.2
/-- core p stands as s, host and links as w, all else as in h0 -/
def yS (p : Nat) (h0 : mj_H) (s : Cr) (w : Wd) (h : mj_H) : Prop := yC p s h ∧ yW w h ∧ yX p h0 h
def yDoW (p : Nat) (h0 : mj_H) (s' : Cr) (w' : Wd) (R : Option mj_O) : Prop := ∃ h', R = some (.inl (none, h')) ∧ yS p h0 s' w' h'
section
variable {p d : Nat} {h0 h : mj_H} {s s' : Cr} {w w' : Wd}
theorem yC.mv {h' : mj_H} (a : yC p s h) (f : ∀ g i j, (i = 0 ∧ ((132 ≤ g ∧ g ≤ 142 ∧ j = p) ∨ (145 ≤ g ∧ g ≤ 149 ∧ j = p) ∨ (g = 131 ∧ 4016 * p ≤ j ∧ j < 4016 * (p + 1)) ∨ (g = 143 ∧ 2200 * p ≤ j ∧ j < 2200 * (p + 1)) ∨ (g = 144 ∧ (j = 2 * p ∨ j = 2 * p + 1)))) → h'.1 g i j = h.1 g i j) : yC p s h' := by
  obtain ⟨a1, a2, ⟨d1, d2, d3, d4, d5⟩, a4, a5, a6⟩ := a
  refine ⟨fun hr => ?_, (f _ _ _ (by omega)).trans a2, ⟨(f _ _ _ (by omega)).trans d1, (f _ _ _ (by omega)).trans d2, (f _ _ _ (by omega)).trans d3, (f _ _ _ (by omega)).trans d4, fun hk j j1 j2 => (f _ _ _ (by omega)).trans (d5 hk j j1 j2)⟩, fun x hx hb => (f _ _ _ (by omega)).trans (a4 x hx hb), a5.mv (f _ _ _ (by omega)) (fun j _ _ => f _ _ _ (by omega)), a6.mv (f _ _ _ (by omega)) (fun j _ _ => f _ _ _ (by omega))⟩
  obtain ⟨b1, b2, b3⟩ := a1 hr
  exact ⟨fun j j1 j2 => (f _ _ _ (by omega)).trans (b1 j j1 j2), (f _ _ _ (by omega)).trans b2, b3⟩
theorem yW.mv {h' : mj_H} (a : yW w h) (f : ∀ g j, g = 15 ∨ (150 ≤ g ∧ g ≤ 157) → h'.1 g 0 j = h.1 g 0 j) : yW w h' := by
  obtain ⟨⟨a1, a2, a3⟩, b, c, e⟩ := a
  refine ⟨⟨(f _ _ (by omega)).trans a1, (f _ _ (by omega)).trans a2, (f _ _ (by omega)).trans a3⟩, fun l hl => ?_, fun x hx => (f _ _ (by omega)).trans (c x hx), fun x hx => (f _ _ (by omega)).trans (e x hx)⟩
  obtain ⟨l1, l2, l3, l4, l5, l6⟩ := b l hl
  exact ⟨(f _ _ (by omega)).trans l1, fun z => (f _ _ (by omega)).trans (l2 z), (f _ _ (by omega)).trans l3, (f _ _ (by omega)).trans l4, (f _ _ (by omega)).trans l5, fun z => (f _ _ (by omega)).trans (l6 z)⟩
theorem yS.f (a : yS p h0 s w h) : yR p h s h := ⟨a.1, yF.rf _ _⟩
theorem yS.up {h' : mj_H} (a : yS p h0 s w h) (b : yR p h s' h') : yS p h0 s' w h' := ⟨b.1, a.2.1.mv (fun g j hg => b.2.1 g 0 j (by omega)), ⟨fun g i j c => (b.2.1 g i j (by omega)).trans (a.2.2.1 g i j c), b.2.2.trans a.2.2.2⟩⟩
/-- host or links change -/
theorem yS.wd {h' : mj_H} (a : yS p h0 s w h) (b : yW w' h') (f : ∀ g i j, ¬ (i = 0 ∧ ((g = 15 ∧ (j = 111 ∨ j = 113)) ∨ (151 ≤ g ∧ g ≤ 157))) → h'.1 g i j = h.1 g i j) (f2 : h'.2 = h.2) : yS p h0 s w' h' := ⟨a.1.mv (fun g i j c => f g i j (by omega)), b, ⟨fun g i j c => (f g i j (by omega)).trans (a.2.2.1 g i j c), f2.trans a.2.2.2⟩⟩
theorem sM_cm {x y : Nat} {u v : Int32} (c : x ≠ y) : sM (sM s x u) y v = sM (sM s y v) x u := by
  refine Prod.ext rfl (Prod.ext (funext fun t => ?_) rfl)
  show (if t = y then v else if t = x then u else s.2.1 t) = (if t = x then u else if t = y then v else s.2.1 t)
  by_cases e : t = y
  · rw [if_pos e, if_neg (fun z => c (z.symm.trans e)), if_pos e]
  · rw [if_neg e, if_neg e]
theorem cR_m {x : Nat} {dd v : Int32} (e : cReady s dd = some s') : cReady (sM s x v) dd = some (sM s' x v) := by
  unfold cReady at e ⊢
  by_cases c : mj_in dd 8032 ∧ s.2.2.1.length + s.2.2.2.length < 1090
  · rw [if_pos c] at e
    rw [if_pos (by exact c)]
    have e9 := Option.some.inj e
    rw [← e9]
    by_cases c2 : dd.toNatClampNeg % 2 = 0
    · rw [if_pos c2, if_pos c2]; rfl
    · rw [if_neg c2, if_neg c2]; rfl
  · rw [if_neg c] at e; cases e
/-- places -/
theorem y_lnk {c : Nat} (hc : c < 4016) : mj_R mg d mq_338 (0, [(0, vR 15 0), (1, vI (nI c))], [], h) = some (.inl (some (vI (bI (decide (c < 12)))), h)) := by
  have e12 : (12 : Int32) = nI 12 := rfl
  rw [q_338_0, if_neg (nI_pos (by omega)), e12]
  by_cases q : c < 12
  · rw [if_neg (nI_ge q (by omega)), q_338_15, if_pos (Or.inr rfl), decide_eq_true q]; rfl
  · rw [if_pos (nI_le (by omega) (by omega)), q_338_14, q_338_15, if_pos (Or.inl rfl), decide_eq_false q]; rfl
theorem y_outs {c : Nat} (hc : c < 4016) : mj_R mg (d + 1) mq_340 (0, [(0, vR 15 0), (1, vI (nI c))], [], h) = some (.inl (some (vI (bI (decide (c ≤ 13)))), h)) := by
  have e := t_in (d := d) (v := c) (lo := 0) (hi := 13) (h := h) (by omega) (by omega) (by omega)
  have e : mj_R mg d mq_199 (0, [(0, vI (nI c)), (1, vI 0), (2, vI 13)], [], h) = _ := e
  rw [q_340_0, e, mj_xi_ret, show decide (0 ≤ c ∧ c ≤ 13) = decide (c ≤ 13) by rw [decide_eq_decide]; omega]
  by_cases q : c ≤ 13
  · rw [decide_eq_true q, if_pos (show bI true = 0 ∨ bI true = 1 from Or.inr rfl)]
  · rw [decide_eq_false q, if_pos (show bI false = 0 ∨ bI false = 1 from Or.inl rfl)]
/-- what has come at a link or the keys -/
def yHas (w : Wd) (c : Nat) : Bool := if c < 12 then decide (w.2.1 c 4 = 4) else (decide (c = 13) && !decide (w.1 1 ≤ w.1 2))
theorem y_has {c : Nat} (a : yW w h) (hc : c < 4016) : mj_R mg (d + 1) mq_339 (0, [(0, vR 15 0), (1, vI (nI c))], [], h) = some (.inl (some (vI (bI (yHas w c))), h)) := by
  unfold yHas
  rw [q_339_0, y_lnk hc, mj_xi_ret]
  by_cases q : c < 12
  · obtain ⟨l1, l2, l3, l4, l5, l6⟩ := a.2.1 c q
    rw [decide_eq_true q, if_neg (by decide), if_pos (in_n q (by omega)), nI_clamp (by omega), l4, if_pos q]
    by_cases q2 : w.2.1 c 4 = 4
    · rw [if_neg (fun z => z q2), q_339_48, if_pos (Or.inr rfl), decide_eq_true q2]; rfl
    · rw [if_pos q2, q_339_48, if_pos (Or.inl rfl), decide_eq_false q2]; rfl
  · rw [decide_eq_false q, if_pos (by decide), if_neg q, a.1.1, a.1.2.1]
    by_cases q2 : c = 13
    · rw [if_neg (fun z => z (by rw [q2]; rfl)), decide_eq_true q2]
      by_cases q3 : w.1 1 ≤ w.1 2
      · rw [if_pos q3, q_339_47, q_339_48, if_pos (Or.inl rfl), decide_eq_true q3]; rfl
      · rw [if_neg q3, q_339_48, if_pos (Or.inr rfl), decide_eq_false q3]; rfl
    · rw [if_pos (show ¬ nI c = 13 from fun z => q2 ((nI_eq (b := 13) (by omega) (by omega)).mp z)), q_339_47, q_339_48, if_pos (Or.inl rfl), decide_eq_false q2]; rfl
theorem yHas_c {c : Nat} {b : Bool} (e : cHas s w c = some b) (hc : c ≤ 13) : c ≠ 12 ∧ b = yHas w c := by
  unfold cHas at e
  unfold yHas
  by_cases c13 : c = 13
  · rw [if_pos c13] at e
    rw [if_neg (by omega), decide_eq_true c13, ← Option.some.inj e]
    exact ⟨by omega, rfl⟩
  · rw [if_neg c13] at e
    by_cases c12 : c < 12
    · rw [if_pos c12] at e
      rw [if_pos c12]
      exact ⟨by omega, (Option.some.inj e).symm⟩
    · rw [if_neg c12, if_pos (by omega)] at e; cases e
theorem hf_sh {x : Int32} (h : mj_in x 8032) : x >>> ((1 : Int32) &&& 31) = x / 2 := by
  obtain ⟨i1, i2⟩ := in_8032 h
  rw [i1, sh_1 (by omega)]
  exact (nI_dv (m := 2) (by omega) (by omega)).symm
/-- waiting: stores in the twin's order -/
theorem y_wait {c : Nat} {v : Int32} (a : yR p h0 s h) (hp : p < 6) (hr : ¬ s.1 14 = 0) (hc : adM s (nI c) = some c) (e : cWait s c v = some s') : ∃ x2 x3, adM s (s.1 12 - 2) = some x2 ∧ adM s (s.1 12 - 3) = some x3 ∧ cRest (sM (sM (sM s x2 v) x3 0) c (cSelf s)) = some s' := by
  unfold cWait at e
  obtain ⟨x1, j1, e⟩ := Option.bind_eq_some_iff.mp e
  obtain ⟨x2, j2, e⟩ := Option.bind_eq_some_iff.mp e
  obtain ⟨x3, j3, e⟩ := Option.bind_eq_some_iff.mp e
  by_cases cc : c ≠ x1 ∧ c ≠ x2 ∧ c ≠ x3
  · rw [if_pos cc] at e
    refine ⟨x2, x3, j2, j3, ?_⟩
    rw [sM_cm (x := x3) (y := c) (fun z => cc.2.2 z.symm), sM_cm (x := x2) (y := c) (fun z => cc.2.1 z.symm)]
    exact e
  · rw [if_neg cc] at e; cases e
end
