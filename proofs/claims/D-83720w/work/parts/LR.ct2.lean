/-! the twin compiles: the tree for its coder -/
section
variable {sy : List Sym} {pz : List (Nat × Nat)} {pa : List (List Nat)} {bs : List Tm} {lk : List (Nat × Nat)} {rt : List (Nat × Tm)} {vis : List Nat}
/-- after measuring: the uses may be checked -/
theorem ut_of {t : Nat → Nat} {n nn : Nat} {h h' : mj_H} {rg : Nat → Nat × Nat} {L : List PL} (a : TG t n h (pa, bs, lk, rt, sy, vis, L) nn) (g : tA h h') (r : rgs nn bs.length rt rg) (m : TBm sy pz pa h' rg bs rt bs.length 6) : utG nn sy pa bs lk rt h' := by
  obtain ⟨⟨a1, a2, a3, ⟨b1, b2, b3, b4⟩, a5⟩, -, ⟨rg0, c1, c2, c3, c4, c5, c6, c7, c8⟩, -⟩ := a
  dsimp only at a1 a2 a3 b1 b2 b3 b4 a5 c1 c2 c3 c4 c5 c6 c7 c8
  obtain ⟨m1, m2, m3⟩ := m
  refine ⟨b3, fun s hs => ?_, rg, r, (g.1 15 0 46 (by omega)).trans c2, (g.1 15 0 52 (by omega)).trans c3, c4, c5, fun k B hB => ?_, fun k x hx => ?_, fun k hk => ?_⟩
  · obtain ⟨-, d2, d3, -, d5, -⟩ := b4 s hs
    exact ⟨(g.1 79 0 _ (by omega)).trans d2, fun h2 => (g.1 84 0 _ (by omega)).trans (d3 h2).2.1, d5⟩
  · obtain ⟨x, x1, x2, x3, -⟩ := m1 k B hB
    exact ⟨x, x1, x2, x3⟩
  · obtain ⟨x1, x2, x3⟩ := c7 k x hx
    exact ⟨(g.1 106 0 k (by omega)).trans x1, (g.1 107 0 k (by omega)).trans x2, x3⟩
  · have y := m2 k hk
    split
    · rename_i e
      rw [e] at y
      exact y
    · rename_i x e
      rw [e] at y
      obtain ⟨j, y1, y2, y3, -⟩ := y
      exact ⟨j, y1, y2, y3⟩
/-- and its coder may type -/
theorem tJ_of {t : Nat → Nat} {n nn : Nat} {h1 h2 h3 : mj_H} {rg sg : Nat → Nat × Nat} {L : List PL} (hn : nn ≤ 3400) (W : wfG (pa, bs, lk, rt, sy, vis, L)) (a : TG t n h1 (pa, bs, lk, rt, sy, vis, L) nn) (g : tA h1 h2) (r : rgs nn bs.length rt rg) (m : TBm sy pz pa h2 rg bs rt bs.length 6) (s0 : rgs sy.length bs.length rt sg)
    (f : (∀ g i j, ¬ ((116 ≤ g ∧ g ≤ 130) ∨ (g = 15 ∧ j ≠ 46 ∧ j ≠ 16) ∨ g = 83 ∨ g = 85 ∨ (111 ≤ g ∧ g ≤ 115)) → h3.1 g i j = h2.1 g i j) ∧ h3.2 = h2.2)
    (hB : ∀ k B, bs[k]? = some B → (mz sy pz B 0).2 < 1000000 ∧ bdy sy pa lk.length k B (sg (2 * k))) (hR : ∀ k x, rt.find? (fun x => x.1 == k) = some x → rut sy pa lk.length x.2 (sg (2 * k + 1))) : tJ sy pz pa bs rt lk.length (fun k => sg (2 * k)) h3 := by
  obtain ⟨⟨a1, a2, a3, ⟨b1, b2, b3, b4⟩, a5⟩, ⟨p1, p2, p3⟩, ⟨rg0, c1, c2, c3, c4, c5, c6, c7, c8⟩, -⟩ := a
  dsimp only at a1 a2 a3 b1 b2 b3 b4 a5 p1 p2 p3 c1 c2 c3 c4 c5 c6 c7 c8
  obtain ⟨m1, m2, m3⟩ := m
  have ks : ∀ lo hi slo shi, tKS lo hi slo shi h2 h3 := by
    intro lo hi slo shi
    exact ⟨fun g i j c => f.1 g i j (by omega), fun g s c _ _ => f.1 g 0 _ (by omega)⟩
  refine ⟨⟨⟨b3, fun s hs => ?_⟩, ?_, c5, p1, fun k B hk => ⟨?_, (hB k B hk).1, (hB k B hk).2, s0.1 (2 * k) (Or.inl ⟨k, rfl, gt_lt hk⟩)⟩, fun k hk => ?_⟩, ?_, fun k hk => ?_⟩
  · obtain ⟨-, d2, d3, -, d5, -⟩ := b4 s hs
    exact ⟨by rw [f.1 79 0 _ (by omega), g.1 79 0 _ (by omega)]; exact d2, fun h2' => ⟨by rw [f.1 80 0 _ (by omega), g.1 80 0 _ (by omega)]; exact (d3 h2').1, by rw [f.1 84 0 _ (by omega), g.1 84 0 _ (by omega)]; exact (d3 h2').2.1⟩, d5⟩
  · rw [f.1 15 0 46 (by omega), g.1 15 0 46 (by omega), c2, c5]
  · obtain ⟨x, x1, x2, x3, x4⟩ := m1 k B hk
    obtain ⟨f', n', v, l, q1, q2, q3, q4, q5, q6, q7⟩ := (hB k B hk).2
    have hr := r.1 (2 * k) (Or.inl ⟨k, rfl, gt_lt hk⟩)
    exact ⟨x, _, _, (f.1 103 0 k (by omega)).trans x1, ⟨x2.1, by omega⟩, tQF.mv _ _ _ _ _ _ q7 0 0 0 _ _ _ _ _ (Or.inl rfl) (ks _ _ _ _) (x4 (gt_lt hk)).1⟩
  · obtain ⟨fr, cnt, e1, e2, e3, e4, e5, e6⟩ := p2 k hk
    have hbk : bs[k]? = some bs[k] := List.getElem?_eq_getElem (by omega)
    obtain ⟨x, x1, x2, x3, x4⟩ := m1 k _ hbk
    refine ⟨by rw [e1, List.length_range']; exact e4, (f.1 104 0 k (by omega)).trans (m3 k (by omega)).1, fun i q hq => ?_⟩
    have hq' : q ∈ List.range' fr cnt := by rw [← e1]; exact List.mem_of_getElem? hq
    rw [List.mem_range'_1] at hq'
    obtain ⟨-, d2, d3, -, d5, -⟩ := b4 q (Or.inl (by omega))
    have y := (x4 (by omega)).2 i q hq
    have ew : tw q = q + 2 := by unfold tw; rw [if_neg (by omega), if_neg (by omega)]
    refine ⟨by omega, d5, ?_, (f.1 81 0 _ (by omega)).trans y.1, (f.1 82 0 _ (by omega)).trans y.2⟩
    rw [f.1 79 0 _ (by omega), g.1 79 0 _ (by omega), ← ew, d2]
    unfold kdS
    rw [if_neg (by omega), if_neg (by omega)]
  · rw [f.1 15 0 16 (by omega), g.1 15 0 16 (by omega)]
    exact a2
  · have y := m2 k hk
    split
    · rename_i e
      rw [e] at y
      exact (f.1 108 0 k (by omega)).trans y
    · rename_i x e
      rw [e] at y
      obtain ⟨j, y1, y2, y3, y4⟩ := y
      obtain ⟨v, l, q1, q2, q3⟩ := hR k x e
      have hr := r.1 (2 * k + 1) (Or.inr ⟨k, rfl, by rw [e]; exact fun z => by cases z⟩)
      exact ⟨j, _, _, (f.1 108 0 k (by omega)).trans y1, ⟨y2.1, y2.2.1, y2.2.2, by omega⟩, tQF.mv _ _ _ _ _ _ q3 0 0 0 _ _ _ _ _ (Or.inl rfl) (ks _ _ _ _) (y4 hk).1⟩
end
