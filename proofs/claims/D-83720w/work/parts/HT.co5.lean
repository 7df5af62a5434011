/-! the component's core: channels -/
def RW (w : Wd) (h : mj_H) : Prop := (∀ j, (j = 1 ∨ j = 2 ∨ j = 4) → h.1 11 0 j = w.1 j) ∧ (∀ l j, l < 12 → j ≤ 5 → h.1 12 l j = w.2.1 l j) ∧ (∀ x, x < 200 → h.1 67 0 x = w.2.2.1 x) ∧ ∀ x, x < 1000 → h.1 68 0 x = w.2.2.2 x
def fW (k : Nat) (h h' : mj_H) : Prop := (∀ g i j, ¬ ((g = 13 ∧ i = k ∧ 8 ≤ j ∧ j ≤ 27) ∨ (g = 70 ∧ i = k) ∨ ((g = 14 ∨ g = 71) ∧ (i = 2 * k ∨ i = 2 * k + 1)) ∨ (g = 11 ∧ (j = 2 ∨ j = 4)) ∨ g = 12 ∨ g = 68) → h'.1 g i j = h.1 g i j) ∧ h'.2 = h.2
/-- core k stands as s, host and links as w, all else as in h0 -/
def RS (k : Nat) (h0 : mj_H) (s : Cr) (w : Wd) (h : mj_H) : Prop := RC k s h ∧ RW w h ∧ fW k h0 h
def cDoW (k : Nat) (h0 : mj_H) (s' : Cr) (w' : Wd) (R : Option mj_O) : Prop := ∃ h', R = some (.inl (none, h')) ∧ RS k h0 s' w' h'
section
variable {k d : Nat} {h0 h : mj_H} {s s' : Cr} {w w' : Wd}
theorem RW.mv {h' : mj_H} (a : RW w h) (f : ∀ g i j, g = 11 ∨ g = 12 ∨ g = 67 ∨ g = 68 → h'.1 g i j = h.1 g i j) : RW w h' := ⟨fun j hj => (f 11 0 j (by omega)).trans (a.1 j hj), fun l j hl hj => (f 12 l j (by omega)).trans (a.2.1 l j hl hj), fun x hx => (f 67 0 x (by omega)).trans (a.2.2.1 x hx), fun x hx => (f 68 0 x (by omega)).trans (a.2.2.2 x hx)⟩
theorem RS.f (a : RS k h0 s w h) : RF k h s h := ⟨a.1, fC.rf _ _⟩
theorem RS.up {h' : mj_H} (a : RS k h0 s w h) (b : RF k h s' h') : RS k h0 s' w h' := ⟨b.1, a.2.1.mv (fun g i j hg => b.2.1 g i j (by omega)), ⟨fun g i j c => (b.2.1 g i j (by omega)).trans (a.2.2.1 g i j c), b.2.2.trans a.2.2.2⟩⟩
theorem RS.dn {R : Option mj_O} (a : RS k h0 s w h) (b : cDo k h s' R) : cDoW k h0 s' w R := by
  obtain ⟨h', e, b⟩ := b
  exact ⟨h', e, a.up b⟩
theorem RS.ho (a : RS k h0 s w h) (j : Nat) (v : Int32) (hj : j = 2 ∨ j = 4) : RS k h0 s (wH w j v) (mj_sI h 11 0 j v) := by
  obtain ⟨⟨a1, a2, a3, a4⟩, ⟨b1, b2, b3, b4⟩, f⟩ := a
  refine ⟨⟨fun t t1 t2 => by rw [mI_1, if_neg (by omega)]; exact a1 t t1 t2, fun x hx => by rw [mI_1, if_neg (by omega)]; exact a2 x hx, a3.mv (fun g j hg => by rw [mI_1, if_neg (by omega)]), a4.mv (fun g j hg => by rw [mI_1, if_neg (by omega)])⟩, ⟨fun t ht => ?_, fun l t hl ht => by rw [mI_1, if_neg (by omega)]; exact b2 l t hl ht, fun x hx => by rw [mI_1, if_neg (by omega)]; exact b3 x hx, fun x hx => by rw [mI_1, if_neg (by omega)]; exact b4 x hx⟩, ⟨fun g i t c => by rw [mI_1, if_neg (by omega)]; exact f.1 g i t c, f.2⟩⟩
  show _ = if t = j then v else w.1 t
  rw [mI_1]
  by_cases e : t = j
  · rw [if_pos ⟨rfl, rfl, e⟩, if_pos e]
  · rw [if_neg (fun z => e z.2.2), if_neg e]; exact b1 t ht
theorem RS.l (a : RS k h0 s w h) (l j : Nat) (v : Int32) : RS k h0 s (wL w l j v) (mj_sI h 12 l j v) := by
  obtain ⟨⟨a1, a2, a3, a4⟩, ⟨b1, b2, b3, b4⟩, f⟩ := a
  refine ⟨⟨fun t t1 t2 => by rw [mI_1, if_neg (by omega)]; exact a1 t t1 t2, fun x hx => by rw [mI_1, if_neg (by omega)]; exact a2 x hx, a3.mv (fun g j hg => by rw [mI_1, if_neg (by omega)]), a4.mv (fun g j hg => by rw [mI_1, if_neg (by omega)])⟩, ⟨fun t ht => by rw [mI_1, if_neg (by omega)]; exact b1 t ht, fun m t hl ht => ?_, fun x hx => by rw [mI_1, if_neg (by omega)]; exact b3 x hx, fun x hx => by rw [mI_1, if_neg (by omega)]; exact b4 x hx⟩, ⟨fun g i t c => by rw [mI_1, if_neg (by omega)]; exact f.1 g i t c, f.2⟩⟩
  show _ = if m = l ∧ t = j then v else w.2.1 m t
  rw [mI_1]
  by_cases e : m = l ∧ t = j
  · rw [if_pos ⟨rfl, e⟩, if_pos e]
  · rw [if_neg (fun z => e z.2), if_neg e]; exact b2 m t hl ht
theorem RS.o (a : RS k h0 s w h) (x : Nat) (v : Int32) : RS k h0 s (wO w x v) (mj_sI h 68 0 x v) := by
  obtain ⟨⟨a1, a2, a3, a4⟩, ⟨b1, b2, b3, b4⟩, f⟩ := a
  refine ⟨⟨fun t t1 t2 => by rw [mI_1, if_neg (by omega)]; exact a1 t t1 t2, fun x hx => by rw [mI_1, if_neg (by omega)]; exact a2 x hx, a3.mv (fun g j hg => by rw [mI_1, if_neg (by omega)]), a4.mv (fun g j hg => by rw [mI_1, if_neg (by omega)])⟩, ⟨fun t ht => by rw [mI_1, if_neg (by omega)]; exact b1 t ht, fun m t hl ht => by rw [mI_1, if_neg (by omega)]; exact b2 m t hl ht, fun x hx => by rw [mI_1, if_neg (by omega)]; exact b3 x hx, fun y hy => ?_⟩, ⟨fun g i t c => by rw [mI_1, if_neg (by omega)]; exact f.1 g i t c, f.2⟩⟩
  show _ = if y = x then v else w.2.2.2 y
  rw [mI_1]
  by_cases e : y = x
  · rw [if_pos ⟨rfl, rfl, e⟩, if_pos e]
  · rw [if_neg (fun z => e z.2.2), if_neg e]; exact b4 y hy
theorem ad_0 {s : Cr} {x : Int32} {c : Nat} (h : adM s x = some c) : x = nI c ∧ c < 4016 ∧ mj_in x 4016 ∧ x.toNatClampNeg = c := by
  obtain ⟨i1, i2, i3, i4⟩ := adM_s h
  exact ⟨i4, i3, i1, i2⟩
/-- waiting -/
theorem k_wait {c : Nat} {v : Int32} (a : RF k h0 s h) (hl : s.1 15 = 0 ∨ s.1 15 = 1) (hc : c < 4016) (e : cWait s c v = some s') : cDo k h0 s' (mj_R mg (d + 1) mq_184 (0, [(0, vR 13 k), (1, vI (nI c)), (2, vI v)], [], h)) := by
  unfold cWait at e
  obtain ⟨x1, j1, e⟩ := Option.bind_eq_some_iff.mp e
  obtain ⟨x2, j2, e⟩ := Option.bind_eq_some_iff.mp e
  obtain ⟨x3, j3, e⟩ := Option.bind_eq_some_iff.mp e
  by_cases cc : c ≠ x1 ∧ c ≠ x2 ∧ c ≠ x3
  · rw [if_pos cc] at e
    obtain ⟨z1, z2, z3, z4⟩ := ad_0 j2
    obtain ⟨y1, y2, y3, y4⟩ := ad_0 j3
    have B := ((a.m c (cSelf s)).m x2 v).m x3 0
    obtain ⟨h1, q1, a1⟩ := k_rest (d := d) B e
    rw [q_184_0, k_self a hl, mj_xi_ret, a.g 12 (by omega) (by omega), if_pos (in_n hc (by omega)), if_pos z3, if_pos y3, nI_clamp (by omega), z4, y4, q1, mj_xv_ret]
    exact ⟨_, rfl, a1⟩
  · rw [if_neg cc] at e; cases e
theorem k_wake {x : Int32} (a : RF k h0 s h) (e : cWake s x = some s') : cDo k h0 s' (mj_R mg (d + 2) mq_187 (0, [(0, vR 13 k), (1, vI x)], [], h)) := by
  unfold cWake at e
  by_cases c0 : mj_in x 8032
  · rw [if_pos c0] at e
    obtain ⟨y, j1, e⟩ := Option.bind_eq_some_iff.mp e
    obtain ⟨t, t1, t2⟩ := Option.map_eq_some_iff.mp e
    obtain ⟨z1, z2, z3, z4⟩ := ad_0 j1
    rw [q_187_0, if_pos z3, z4, a.y y z2]
    by_cases c : s.2.1 y = 2
    · rw [if_pos c] at t1
      obtain ⟨h1, q1, a1⟩ := k_ready (d := d) a t1
      rw [if_neg (fun z => z c), q1, mj_xv_ret, q_187_19, if_pos z3, z4]
      rw [← t2]
      exact ⟨_, rfl, a1.m y 3⟩
    · rw [if_neg c] at t1
      have e9 := Option.some.inj t1
      subst e9
      rw [if_pos c, q_187_19, if_pos z3, z4]
      rw [← t2]
      exact ⟨_, rfl, a.m y 3⟩
  · rw [if_neg c0] at e; cases e
theorem k_has {c : Nat} {b : Bool} (a : RS k h0 s w h) (hl : s.1 15 = 0 ∨ s.1 15 = 1) (hc : c < 4016) (e : cHas s w c = some b) : mj_R mg (d + 1) mq_188 (0, [(0, vR 13 k), (1, vI (nI c))], [], h) = some (.inl (some (vI (bI b)), h)) := by
  have e13 : (13 : Int32) = nI 13 := rfl
  have e12 : (12 : Int32) = nI 12 := rfl
  unfold cHas at e
  rw [q_188_0]
  by_cases c13 : c = 13
  · rw [if_pos c13] at e
    have e9 := Option.some.inj e
    subst e9
    rw [if_neg (fun z => z (by rw [c13]; rfl)), q_162_0, a.2.1.1 1 (by omega), a.2.1.1 2 (by omega)]
    by_cases q : w.1 1 ≤ w.1 2
    · rw [if_pos q, q_162_16, if_pos (Or.inl rfl), mj_xi_ret, if_pos (Or.inl rfl), decide_eq_true q]; rfl
    · rw [if_neg q, q_162_16, if_pos (Or.inr rfl), mj_xi_ret, if_pos (Or.inr rfl), decide_eq_false q]; rfl
  · rw [if_neg c13] at e
    have n13 : ¬ nI c = 13 := fun z => c13 ((nI_eq (b := 13) (by omega) (by omega)).mp z)
    rw [if_pos n13]
    by_cases c12 : c < 12
    · rw [if_pos c12] at e
      have e9 := Option.some.inj e
      subst e9
      have h4 : h.1 12 c 4 = w.2.1 c 4 := a.2.1.2.1 c 4 c12 (by omega)
      rw [e12, if_neg (nI_ge c12 (by omega)), if_pos (in_n c12 (by omega)), nI_clamp (by omega), q_166_0, h4]
      by_cases q : w.2.1 c 4 = 4
      · rw [if_neg (fun z => z q), q_166_13, if_pos (Or.inr rfl), mj_xi_ret, q_188_60, if_pos (Or.inr rfl), decide_eq_true q]; rfl
      · rw [if_pos q, q_166_13, if_pos (Or.inl rfl), mj_xi_ret, q_188_60, if_pos (Or.inl rfl), decide_eq_false q]; rfl
    · rw [if_neg c12] at e
      by_cases c1 : c = 12
      · rw [if_pos c1] at e; cases e
      · rw [if_neg c1] at e
        have e9 := Option.some.inj e
        subst e9
        rw [e12, if_pos (nI_le (by omega) (by omega)), if_pos (in_n hc (by omega)), nI_clamp (by omega), a.f.y c hc]
        by_cases q : s.2.1 c = -1
        · rw [if_pos q, q_188_59, q_188_60, if_pos (Or.inl rfl), decide_eq_true q]; rfl
        · rw [if_neg q, if_pos (in_n hc (by omega)), k_self a.f hl, mj_xi_ret]
          by_cases q2 : s.2.1 c = cSelf s
          · rw [if_pos q2, q_188_59, q_188_60, if_pos (Or.inl rfl), decide_eq_false q, decide_eq_true q2]; rfl
          · rw [if_neg q2, q_188_60, if_pos (Or.inr rfl), decide_eq_false q, decide_eq_false q2]; rfl
end
