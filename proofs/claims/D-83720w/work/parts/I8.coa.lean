/-! the component's system -/
def RG (G : PgS) (h : mj_H) : Prop := (∀ p, p < 6 → (h.1 46 0 p = -1 ↔ G.1 p = false)) ∧ (∀ l, l < G.2.2.2.1 → h.1 44 0 l = nI (G.2.1 l) ∧ G.2.1 l < 6 ∧ h.1 45 0 l = nI (G.2.2.1 l) ∧ G.2.2.1 l < 6) ∧ (h.1 4 0 25 = nI G.2.2.2.1 ∧ G.2.2.2.1 ≤ 12) ∧ (∀ p, p < 6 → G.1 p = true → ∀ x, x < 6000 → G.2.2.2.2 p x < 256 → h.1 69 p x &&& 255 = nI (G.2.2.2.2 p x)) ∧ ¬ h.1 2 0 9 = 0
def RSy (G : PgS) (S : Sy) (h : mj_H) : Prop := (∀ p, p < 6 → RC p (S.1 p) h) ∧ RW S.2.1 h ∧ h.1 2 0 14 = S.2.2.1 ∧ h.1 2 0 15 = S.2.2.2
def fSy (h h' : mj_H) : Prop := (∀ g i j, ¬ ((g = 13 ∧ 8 ≤ j ∧ j ≤ 27) ∨ g = 70 ∨ g = 14 ∨ g = 71 ∨ (g = 11 ∧ (j = 1 ∨ j = 2 ∨ j = 4)) ∨ g = 12 ∨ g = 67 ∨ g = 68 ∨ (g = 2 ∧ (j = 14 ∨ j = 15))) → h'.1 g i j = h.1 g i j) ∧ h'.2 = h.2
theorem fSy.rf (h : mj_H) : fSy h h := ⟨fun _ _ _ _ => rfl, rfl⟩
theorem fSy.tr {h h1 h2 : mj_H} (a : fSy h h1) (b : fSy h1 h2) : fSy h h2 := ⟨fun g i j c => (b.1 g i j c).trans (a.1 g i j c), b.2.trans a.2⟩
section
variable {G : PgS} {S S' : Sy} {h0 h h' : mj_H} {d : Nat}
theorem RG.mv (a : RG G h) (f : fSy h h') : RG G h' := by
  obtain ⟨a1, a2, a3, a4, a5⟩ := a
  refine ⟨fun p hp => ?_, fun l hl => ?_, ?_, fun p hp hg x hx hc => ?_, ?_⟩
  · rw [f.1 46 0 p (by omega)]; exact a1 p hp
  · rw [f.1 44 0 l (by omega), f.1 45 0 l (by omega)]; exact a2 l hl
  · rw [f.1 4 0 25 (by omega)]; exact a3
  · rw [f.1 69 p x (by omega)]; exact a4 p hp hg x hx hc
  · rw [f.1 2 0 9 (by omega)]; exact a5
theorem RC.mv {q : Nat} {s : Cr} (a : RC q s h) (f : ∀ g i j, ((g = 13 ∨ g = 70) ∧ i = q) ∨ ((g = 14 ∨ g = 71) ∧ (i = 2 * q ∨ i = 2 * q + 1)) → h'.1 g i j = h.1 g i j) : RC q s h' := by
  obtain ⟨a1, a2, a3, a4⟩ := a
  exact ⟨fun j j1 j2 => (f _ _ _ (by omega)).trans (a1 j j1 j2), fun x hx => (f _ _ _ (by omega)).trans (a2 x hx), a3.mv (fun g j hg => f _ _ _ (by omega)), a4.mv (fun g j hg => f _ _ _ (by omega))⟩
theorem RSy.rf {p : Nat} (a : RSy G S h) (hp : p < 6) (hg : G.1 p = true) : RF p h (S.1 p) h := ⟨a.1 p hp, fC.rf _ _⟩
theorem RSy.rs {p : Nat} (a : RSy G S h) (hp : p < 6) (hg : G.1 p = true) : RS p h (S.1 p) S.2.1 h := ⟨a.1 p hp, a.2.1, ⟨fun _ _ _ _ => rfl, rfl⟩⟩
/-- a core works, host and links with it -/
theorem RSy.upW {p : Nat} {s' : Cr} {w' : Wd} (a : RSy G S h) (b : RS p h s' w' h') : RSy G (sC (sW S w') p s') h' ∧ fSy h h' := by
  obtain ⟨b1, b2, b3⟩ := b
  refine ⟨⟨fun q hq => ?_, b2, ?_, ?_⟩, ⟨fun g i j c => b3.1 g i j (by omega), b3.2⟩⟩
  · show RC q (if q = p then s' else S.1 q) h'
    by_cases e : q = p
    · rw [if_pos e, e]; exact b1
    · rw [if_neg e]
      exact (a.1 q hq).mv (fun g i j c => b3.1 g i j (by omega))
  · rw [b3.1 2 0 14 (by omega)]; exact a.2.2.1
  · rw [b3.1 2 0 15 (by omega)]; exact a.2.2.2
theorem RSy.up {p : Nat} {s' : Cr} (a : RSy G S h) (hp : p < 6) (hg : G.1 p = true) (b : RF p h s' h') : RSy G (sC S p s') h' ∧ fSy h h' := a.upW ((a.rs hp hg).up b)
/-- host or links change -/
theorem RSy.wd {w' : Wd} (a : RSy G S h) (b : RW w' h') (f : ∀ g i j, ¬ (g = 11 ∨ g = 12 ∨ g = 67 ∨ g = 68) → h'.1 g i j = h.1 g i j) : RSy G (sW S w') h' := ⟨fun q hq => (a.1 q hq).mv (fun g i j c => f g i j (by omega)), b, (f _ _ _ (by omega)).trans a.2.2.1, (f _ _ _ (by omega)).trans a.2.2.2⟩
theorem RW.l {w : Wd} (a : RW w h) (l j : Nat) (v : Int32) : RW (wL w l j v) (mj_sI h 12 l j v) := by
  obtain ⟨b1, b2, b3, b4⟩ := a
  refine ⟨fun t ht => by rw [mI_1, if_neg (by omega)]; exact b1 t ht, fun m t hl ht => ?_, fun x hx => by rw [mI_1, if_neg (by omega)]; exact b3 x hx, fun x hx => by rw [mI_1, if_neg (by omega)]; exact b4 x hx⟩
  show _ = if m = l ∧ t = j then v else w.2.1 m t
  rw [mI_1]
  by_cases e : m = l ∧ t = j
  · rw [if_pos ⟨rfl, e⟩, if_pos e]
  · rw [if_neg (fun z => e z.2), if_neg e]; exact b2 m t hl ht
theorem k_clr {w : Wd} {l : Nat} (a : RW w h) : ∃ h', mj_R mg d mq_164 (0, [(0, vR 12 l)], [], h) = some (.inl (none, h')) ∧ RW (wClr w l) h' ∧ (∀ g i j, ¬ (g = 12 ∧ i = l) → h'.1 g i j = h.1 g i j) ∧ h'.2 = h.2 := by
  rw [q_164_0]
  refine ⟨_, rfl, ?_, fun g i j c => by rw [mI_1, if_neg (by omega), mI_1, if_neg (by omega), mI_1, if_neg (by omega), mI_1, if_neg (by omega), mI_1, if_neg (by omega), mI_1, if_neg (by omega)], rfl⟩
  have B := (((((a.l l 0 0).l l 1 0).l l 2 0).l l 3 0).l l 4 0).l l 5 0
  obtain ⟨b1, b2, b3, b4⟩ := B
  refine ⟨b1, fun m t hm ht => ?_, b3, b4⟩
  rw [b2 m t hm ht]
  show (if m = l ∧ t = 5 then (0 : Int32) else if m = l ∧ t = 4 then 0 else if m = l ∧ t = 3 then 0 else if m = l ∧ t = 2 then 0 else if m = l ∧ t = 1 then 0 else if m = l ∧ t = 0 then 0 else w.2.1 m t) = if m = l then 0 else w.2.1 m t
  by_cases e : m = l
  · rw [if_pos e]
    have : t = 0 ∨ t = 1 ∨ t = 2 ∨ t = 3 ∨ t = 4 ∨ t = 5 := by omega
    rcases this with rfl | rfl | rfl | rfl | rfl | rfl <;> simp [e]
  · rw [if_neg (fun z => e z.1), if_neg (fun z => e z.1), if_neg (fun z => e z.1), if_neg (fun z => e z.1), if_neg (fun z => e z.1), if_neg (fun z => e z.1), if_neg e]
/-- may a byte go -/
theorem k_may {w : Wd} {l : Nat} (a : RW w h) (hl : l < 12) : mj_R mg d mq_165 (0, [(0, vR 12 l)], [], h) = some (.inl (some (vI (bI (lGo w l))), h)) := by
  have h0 : h.1 12 l 0 = w.2.1 l 0 := a.2.1 l 0 hl (by omega)
  have h2 : h.1 12 l 2 = w.2.1 l 2 := a.2.1 l 2 hl (by omega)
  have h3 : h.1 12 l 3 = w.2.1 l 3 := a.2.1 l 3 hl (by omega)
  unfold lGo
  rw [q_165_0, h0, h2, h3]
  by_cases c0 : w.2.1 l 0 = 0
  · rw [if_pos c0, q_165_30, q_165_31, if_pos (Or.inl rfl), decide_eq_true c0]; rfl
  · rw [if_neg c0, decide_eq_false c0]
    by_cases c1 : w.2.1 l 2 = w.2.1 l 3
    · rw [if_neg (fun z => z c1), decide_eq_true c1]
      by_cases c2 : w.2.1 l 2 < 4
      · rw [if_neg (Int32.not_le.mpr c2), q_165_31, if_pos (Or.inr rfl), decide_eq_true c2]; rfl
      · rw [if_pos (Int32.not_lt.mp c2), q_165_30, q_165_31, if_pos (Or.inl rfl), decide_eq_false c2]; rfl
    · rw [if_pos c1, q_165_30, q_165_31, if_pos (Or.inl rfl), decide_eq_false c1]; rfl
theorem k_whole {w : Wd} {l : Nat} (a : RW w h) (hl : l < 12) : mj_R mg d mq_166 (0, [(0, vR 12 l)], [], h) = some (.inl (some (vI (bI (decide (w.2.1 l 4 = 4)))), h)) := by
  have h4 : h.1 12 l 4 = w.2.1 l 4 := a.2.1 l 4 hl (by omega)
  rw [q_166_0, h4]
  by_cases q : w.2.1 l 4 = 4
  · rw [if_neg (fun z => z q), q_166_13, if_pos (Or.inr rfl), decide_eq_true q]; rfl
  · rw [if_pos q, q_166_13, if_pos (Or.inl rfl), decide_eq_false q]; rfl
/-- a link's beat -/
theorem k_beat {l : Nat} {b : Bool} (a : RSy G S h) (g : RG G h) (hl : l < G.2.2.2.1) (e : sBeat G S l = some (b, S')) : ∃ h', mj_R mg (d + 4) mq_22 (0, [(0, vR 2 0), (1, vI (nI l))], [], h) = some (.inl (some (vI (bI b)), h')) ∧ RSy G S' h' ∧ fSy h h' := by
  obtain ⟨f1, f2, f3, f4⟩ := g.2.1 l hl
  have hl2 : l < 12 := by have := g.2.2.1.2; omega
  have il := in_n hl2 (show 12 < 2 ^ 31 by omega)
  have lf : ∀ t, t ≤ 5 → h.1 12 l t = S.2.1.2.1 l t := fun t ht => a.2.1.2.1 l t hl2 ht
  unfold sBeat at e
  rw [q_22_0, if_pos il, nI_clamp (by omega), lf 5 (by omega)]
  by_cases c5 : S.2.1.2.1 l 5 = 0
  · rw [if_neg (fun z => z c5)] at e
    rw [if_pos c5, k_may a.2.1 hl2, mj_xi_ret]
    by_cases cg : ¬ S.2.1.2.1 l 0 = 0 ∧ S.2.1.2.1 l 2 = S.2.1.2.1 l 3 ∧ S.2.1.2.1 l 2 < 4
    · rw [if_pos cg] at e
      have eg : lGo S.2.1 l = true := by unfold lGo; rw [decide_eq_false cg.1, decide_eq_true cg.2.1, decide_eq_true cg.2.2]; rfl
      have k4 : (mj_sI h 12 l 2 (S.2.1.2.1 l 2 + 1)).1 12 l 4 = S.2.1.2.1 l 4 := by rw [mI_1, if_neg (by omega)]; exact lf 4 (by omega)
      rw [eg, if_pos (by decide), lf 2 (by omega), k4]
      have B := (a.2.1.l l 2 (S.2.1.2.1 l 2 + 1)).l l 4 (S.2.1.2.1 l 4 + 1)
      have A := a.wd B (fun g i j c => by rw [mI_1, if_neg (by omega), mI_1, if_neg (by omega)])
      have F : fSy h (mj_sI (mj_sI h 12 l 2 (S.2.1.2.1 l 2 + 1)) 12 l 4 (S.2.1.2.1 l 4 + 1)) := ⟨fun g i j c => by rw [mI_1, if_neg (by omega), mI_1, if_neg (by omega)], rfl⟩
      have w4 : (wL (wL S.2.1 l 2 (S.2.1.2.1 l 2 + 1)) l 4 (S.2.1.2.1 l 4 + 1)).2.1 l 4 = S.2.1.2.1 l 4 + 1 := if_pos ⟨rfl, rfl⟩
      have w1 : (wL (wL S.2.1 l 2 (S.2.1.2.1 l 2 + 1)) l 4 (S.2.1.2.1 l 4 + 1)).2.1 l 1 = S.2.1.2.1 l 1 := by
        show (if l = l ∧ 1 = 4 then _ else if l = l ∧ 1 = 2 then _ else _) = _
        rw [if_neg (by omega), if_neg (by omega)]
      generalize mj_sI (mj_sI h 12 l 2 (S.2.1.2.1 l 2 + 1)) 12 l 4 (S.2.1.2.1 l 4 + 1) = h1 at A B F
      generalize wL (wL S.2.1 l 2 (S.2.1.2.1 l 2 + 1)) l 4 (S.2.1.2.1 l 4 + 1) = u at A B w4 w1 e
      rw [k_whole B hl2, mj_xi_ret, w4]
      by_cases c4 : S.2.1.2.1 l 4 + 1 = 4
      · rw [if_pos c4] at e
        have g' := g.mv F
        obtain ⟨-, -, f3', -⟩ := g'.2.1 l hl
        rw [decide_eq_true c4, if_pos (by decide), if_pos il, f3', if_pos (in_n f4 (by omega)), nI_clamp (by omega)]
        by_cases cp : G.1 (G.2.2.1 l) = true
        · rw [if_pos cp] at e
          obtain ⟨⟨b0, s1⟩, t1, t2⟩ := Option.bind_eq_some_iff.mp e
          obtain ⟨s2, t3, t4⟩ := Option.map_eq_some_iff.mp t2
          have np : ¬ h1.1 46 0 (G.2.2.1 l) = -1 := fun z => by rw [(g'.1 _ f4).mp z] at cp; cases cp
          have h1' : h1.1 12 l 1 = S.2.1.2.1 l 1 := by rw [B.2.1 l 1 hl2 (by omega), w1]
          obtain ⟨h2, q2, a2⟩ := k_come (d := d) (A.rf f4 cp) (by omega) t1
          rw [if_neg np, if_pos il, if_pos (in_n f4 (by omega)), h1', q2, mj_xi_ret]
          cases t4
          cases b0 with
          | false =>
            obtain ⟨h3, q3, a3⟩ := k_settle (d := d + 2) a2 t3
            rw [if_pos (by decide), q_22_179, q3, mj_xv_ret, q_22_183_2]
            obtain ⟨z1, z2⟩ := A.up f4 cp a3
            exact ⟨_, rfl, z1, F.tr z2⟩
          | true =>
            have R2 := ((A.rs f4 cp).up a2).l l 4 0 |>.l l 5 1
            obtain ⟨h3, q3, a3⟩ := k_settle (d := d + 2) R2.f t3
            rw [if_neg (by decide), q_167_0, mj_xv_ret, q_22_179, q3, mj_xv_ret, q_22_183_2]
            obtain ⟨z1, z2⟩ := A.upW (R2.up a3)
            exact ⟨_, rfl, z1, F.tr z2⟩
        · rw [if_neg cp] at e
          have e9 := Option.some.inj e
          cases e9
          have np : h1.1 46 0 (G.2.2.1 l) = -1 := (g'.1 _ f4).mpr (by cases z : G.1 (G.2.2.1 l) with | false => rfl | true => exact (cp z).elim)
          rw [if_pos np, q_22_183]
          exact ⟨_, rfl, A, F⟩
      · rw [if_neg c4] at e
        rw [decide_eq_false c4, if_neg (fun z => z (by decide)), q_22_183]
        by_cases c3 : S.2.1.2.1 l 4 + 1 < 4
        · rw [if_pos c3] at e
          have e9 := Option.some.inj e
          cases e9
          exact ⟨_, rfl, A.wd (B.l l 5 1) (fun g i j c => by rw [mI_1, if_neg (by omega)]), F.tr ⟨fun g i j c => by rw [mI_1, if_neg (by omega)], rfl⟩⟩
        · rw [if_neg c3] at e; cases e
    · rw [if_neg cg] at e
      have e9 := Option.some.inj e
      cases e9
      have eg : lGo S.2.1 l = false := by
        unfold lGo
        by_cases z0 : S.2.1.2.1 l 0 = 0
        · rw [decide_eq_true z0]; rfl
        · by_cases z1 : S.2.1.2.1 l 2 = S.2.1.2.1 l 3
          · have z2 : ¬ S.2.1.2.1 l 2 < 4 := fun z => cg ⟨z0, z1, z⟩
            rw [decide_eq_false z2, Bool.and_false]
          · rw [decide_eq_false z1, Bool.and_false, Bool.false_and]
      rw [eg, if_neg (fun z => z (by decide))]
      exact ⟨_, rfl, a, fSy.rf h⟩
  · rw [if_pos c5] at e
    rw [if_neg c5]
    by_cases ck : S.2.1.2.1 l 2 = S.2.1.2.1 l 3 + 1 ∧ ¬ S.2.1.2.1 l 0 = 0 ∧ G.1 (G.2.1 l) = true
    · rw [if_pos ck] at e
      have k3 : (mj_sI h 12 l 5 0).1 12 l 3 = S.2.1.2.1 l 3 := by rw [mI_1, if_neg (by omega)]; exact lf 3 (by omega)
      have m3 : (mj_sI (mj_sI h 12 l 5 0) 12 l 3 (S.2.1.2.1 l 3 + 1)).1 12 l 3 = S.2.1.2.1 l 3 + 1 := mI_same
      have B := (a.2.1.l l 5 0).l l 3 (S.2.1.2.1 l 3 + 1)
      have A := a.wd B (fun g i j c => by rw [mI_1, if_neg (by omega), mI_1, if_neg (by omega)])
      have F : fSy h (mj_sI (mj_sI h 12 l 5 0) 12 l 3 (S.2.1.2.1 l 3 + 1)) := ⟨fun g i j c => by rw [mI_1, if_neg (by omega), mI_1, if_neg (by omega)], rfl⟩
      rw [k3, m3]
      by_cases c4 : S.2.1.2.1 l 3 + 1 = 4
      · rw [if_pos c4] at e
        by_cases c0 : S.2.1.2.1 l 4 = 0
        · rw [if_pos c0] at e
          obtain ⟨s2, t1, t4⟩ := Option.map_eq_some_iff.mp e
          obtain ⟨s1, t2, t3⟩ := Option.bind_eq_some_iff.mp t1
          cases t4
          have my : h.1 70 (G.2.1 l) l = (S.1 (G.2.1 l)).2.1 l := (a.rf f2 ck.2.2).y l (by omega)
          have R1 := (A.rf f2 ck.2.2).m l (-1)
          have R1s := (A.rs f2 ck.2.2).up R1
          obtain ⟨h2, q2, r2, r3, r4⟩ := k_clr (d := d + 3) (l := l) R1s.2.1
          have R2 : RS (G.2.1 l) (mj_sI (mj_sI h 12 l 5 0) 12 l 3 (S.2.1.2.1 l 3 + 1)) (sM (S.1 (G.2.1 l)) l (-1)) (wClr (wL (wL S.2.1 l 5 0) l 3 (S.2.1.2.1 l 3 + 1)) l) h2 := ⟨R1s.1.mv (fun g i j c => r3 g i j (by omega)), r2, ⟨fun g i j c => (r3 g i j (by omega)).trans (R1s.2.2.1 g i j c), r4.trans R1s.2.2.2⟩⟩
          obtain ⟨h3, q3, a3⟩ := k_ready (d := d + 2) R2.f t2
          obtain ⟨h4, q4, a4⟩ := k_settle (d := d + 2) a3 t3
          have ii := in_n (show l < 4016 by omega) (show 4016 < 2 ^ 31 by omega)
          rw [if_neg (fun z => z c4), if_pos il, f1, if_pos (in_n f2 (by omega)), if_pos ii, if_pos ii, nI_clamp (show G.2.1 l < 2 ^ 31 by omega), my, q2, mj_xv_ret, q3, mj_xv_ret, q4, mj_xv_ret, q_22_81_2]
          obtain ⟨z1, z2⟩ := A.upW (R2.up a4)
          refine ⟨_, rfl, ⟨z1.1, ?_, z1.2.2⟩, F.tr z2⟩
          obtain ⟨y1, y2, y3, y4⟩ := z1.2.1
          refine ⟨y1, fun m t hm ht => ?_, y3, y4⟩
          rw [y2 m t hm ht]
          show (if m = l then (0 : Int32) else if m = l ∧ t = 3 then _ else if m = l ∧ t = 5 then _ else S.2.1.2.1 m t) = if m = l then 0 else S.2.1.2.1 m t
          by_cases em : m = l
          · rw [if_pos em, if_pos em]
          · rw [if_neg em, if_neg em, if_neg (fun z => em z.1), if_neg (fun z => em z.1)]
        · rw [if_neg c0] at e; cases e
      · rw [if_neg c4] at e
        by_cases c2 : S.2.1.2.1 l 2 < 4
        · rw [if_pos c2] at e
          have e9 := Option.some.inj e
          cases e9
          rw [if_pos c4, q_22_81]
          exact ⟨_, rfl, A, F⟩
        · rw [if_neg c2] at e; cases e
    · rw [if_neg ck] at e; cases e
end
