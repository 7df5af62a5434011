/-! the component compiles -/
/-- what compiling leaves alone -/
def gCm (h h' : mj_H) : Prop := (∀ g i j, g ≤ 1 ∨ g = 15 ∨ 72 ≤ g → h'.1 g i j = h.1 g i j) ∧ (∀ g i j, g ≤ 1 ∨ g = 15 ∨ 72 ≤ g → h'.2.1 g i j = h.2.1 g i j) ∧ (∀ g i j, g ≤ 1 ∨ g = 15 ∨ 72 ≤ g → h'.2.2 g i j = h.2.2 g i j)
theorem gCm.tr {h h1 h2 : mj_H} (a : gCm h h1) (b : gCm h1 h2) : gCm h h2 := ⟨fun g i j c => (b.1 g i j c).trans (a.1 g i j c), fun g i j c => (b.2.1 g i j c).trans (a.2.1 g i j c), fun g i j c => (b.2.2 g i j c).trans (a.2.2 g i j c)⟩
theorem gCm.e {h h' : mj_H} (a : ∀ g i j, g ≤ 1 ∨ g = 15 ∨ 72 ≤ g → h'.1 g i j = h.1 g i j) (b : h'.2 = h.2) : gCm h h' := ⟨a, fun g i j _ => by rw [b], fun g i j _ => by rw [b]⟩
theorem gCm.z {h h' : mj_H} (a : gZ h h') : gCm h h' := ⟨fun g i j c => a.1 g i j (by omega), fun g i j c => a.2.1 g i j (by omega), fun g i j c => a.2.2 g i j (by omega)⟩
theorem gCm.s {h : mj_H} {g i j : Nat} {v : Int32} (c : ¬ (g ≤ 1 ∨ g = 15 ∨ 72 ≤ g)) : gCm h (mj_sI h g i j v) := gCm.e (fun g' i' j' c' => by rw [mI_1, if_neg (by omega)]) rfl
/-- what the system holds is kept -/
def gSk (h h' : mj_H) : Prop := ∀ g i j, (g = 13 ∧ 8 ≤ j) ∨ g = 70 ∨ g = 14 ∨ g = 71 ∨ g = 11 ∨ g = 12 ∨ g = 67 ∨ g = 68 ∨ (g = 2 ∧ (j = 14 ∨ j = 15)) → h'.1 g i j = h.1 g i j
theorem gSk.tr {h h1 h2 : mj_H} (a : gSk h h1) (b : gSk h1 h2) : gSk h h2 := fun g i j c => (b g i j c).trans (a g i j c)
theorem gSk.s {h : mj_H} {g i j : Nat} {v : Int32} (c : ¬ ((g = 13 ∧ 8 ≤ j) ∨ g = 70 ∨ g = 14 ∨ g = 71 ∨ g = 11 ∨ g = 12 ∨ g = 67 ∨ g = 68 ∨ (g = 2 ∧ (j = 14 ∨ j = 15)))) : gSk h (mj_sI h g i j v) := fun g' i' j' c' => by
  rw [mI_1, if_neg (by rintro ⟨rfl, rfl, rfl⟩; exact c c')]
theorem RSy.sk {G G' : PgS} {S : Sy} {h h' : mj_H} (a : RSy G S h) (f : gSk h h') : RSy G' S h' := by
  obtain ⟨a1, ⟨b1, b2, b3, b4⟩, a3, a4⟩ := a
  refine ⟨fun p hp => ?_, ⟨fun j hj => (f 11 0 j (by omega)).trans (b1 j hj), fun l j hl hj => (f 12 l j (by omega)).trans (b2 l j hl hj), fun x hx => (f 67 0 x (by omega)).trans (b3 x hx), fun x hx => (f 68 0 x (by omega)).trans (b4 x hx)⟩, (f 2 0 14 (by omega)).trans a3, (f 2 0 15 (by omega)).trans a4⟩
  obtain ⟨c1, c2, c3, c4⟩ := a1 p hp
  have q : ∀ {k : Nat} {L : List Nat}, RQ k L h → RQ k L h' := by
    rintro k L ⟨x, x1, x2, x3, x4, x5⟩
    exact ⟨x, x1, (f 14 k 1 (by omega)).trans x2, (f 14 k 2 (by omega)).trans x3, x4, fun i n hi => (f 71 k _ (by omega)).trans (x5 i n hi)⟩
  exact ⟨fun j h1 h2 => (f 13 p j (by omega)).trans (c1 j h1 h2), fun x hx => (f 70 p x (by omega)).trans (c2 x hx), q c3, q c4⟩
/-- how a fault is told -/
def cFt (f : Int32 × Int32 × Int32) (h : mj_H) : Prop := h.1 2 0 11 = f.1 ∧ h.1 2 0 12 = f.2.1 ∧ h.1 2 0 13 = f.2.2
def cRs (S : Sy) (v : Option mj_V) (h' : mj_H) : Sum (Int32 × Int32 × Int32) Pg → Prop
  | .inl f => v = some (vI (-1)) ∧ h'.1 2 0 9 = 0 ∧ cFt f h' ∧ ∀ G, RSy G S h'
  | .inr q => v = some (vI (nI (nPr q.2.2.2.1 6))) ∧ cFt (0, -1, -1) h' ∧ RG (gQ q) h' ∧ RB (gQ q) (bQ q) h' ∧ RSy (gQ q) (sBeg (gQ q) (bQ q) S) h' ∧ h'.1 4 0 14 = nI q.2.2.2.2.1.length ∧ h'.1 4 0 17 = nI q.1.length
/-! what the tree needs for the rest -/
section
variable {sy : List Sym} {pz : List (Nat × Nat)} {pa : List (List Nat)} {bs : List Tm} {lk : List (Nat × Nat)} {rt : List (Nat × Tm)} {vis : List Nat}
theorem PG_0 {t : Nat → Nat} {n np : Nat} {h : mj_H} (a : PGc t n h (pa, bs, lk, rt, sy, vis, []) np) : PGc t 0 (mj_sI h 3 0 1 0) (pa, bs, lk, rt, sy, vis, []) np := by
  obtain ⟨⟨a1, a2, a3, a4, a5, a6⟩, b, c, d⟩ := a
  dsimp only at a1 a2 a3 a4 a5 a6 b c d
  have f : gF np h (mj_sI h 3 0 1 0) → False ∨ True := fun _ => Or.inr trivial
  have e1 : ∀ g i j, g ≠ 3 → (mj_sI h 3 0 1 0).1 g i j = h.1 g i j := fun g i j hg => by rw [mI_1, if_neg (by omega)]
  have a1' : CO t n h := a1
  obtain ⟨d1, d2, d3, d4⟩ := a1'
  have tx : txOK t 0 := ⟨Nat.zero_le _, fun j hj => absurd hj (Nat.not_lt_zero _)⟩
  have gk : ∀ lo hi, gK lo hi h (mj_sI h 3 0 1 0) := fun lo hi => ⟨fun g i j _ => e1 g i j (by omega), trivial, fun g i j _ => rfl⟩
  refine ⟨⟨?_, (e1 5 0 2 (by omega)).trans a2, (e1 5 0 7 (by omega)).trans a3, (e1 4 0 9 (by omega)).trans a4, ?_, ?_⟩, ?_, ?_, d⟩
  · show CO t 0 (mj_sI h 3 0 1 0)
    exact ⟨⟨tx, by rw [mI_1, if_pos ⟨rfl, rfl, rfl⟩]; rfl, fun j hj => absurd hj (Nat.not_lt_zero _)⟩, (e1 6 0 7 (by omega)).trans d2, (e1 6 0 10 (by omega)).trans d3, (e1 6 0 8 (by omega)).trans d4⟩
  · exact a5.eq (e1 4 0 14 (by omega)) (by funext i j; exact e1 34 i j (by omega)) rfl rfl
  · exact a6.ex (sX.rf _) (e1 5 0 6 (by omega)) (fun j _ => e1 47 0 j (by omega))
  · obtain ⟨b1, b2, b3⟩ := b
    exact ⟨b1, fun p hp => ⟨(e1 39 0 p (by omega)).trans (b2 p hp).1, (b2 p hp).2.1, fun k q hq => ⟨(e1 40 0 _ (by omega)).trans ((b2 p hp).2.2 k q hq).1, ((b2 p hp).2.2 k q hq).2⟩⟩, b3⟩
  · obtain ⟨rg, c1, c2, c3, c4, c5, c6, c7⟩ := c
    refine ⟨rg, c1, (e1 4 0 17 (by omega)).trans c2, (e1 4 0 25 (by omega)).trans c3, c4, fun k B hB => ?_, fun k x hx => ?_, fun k hk => ?_⟩
    · obtain ⟨x, x1, x2⟩ := c5 k B hB
      exact ⟨x, (e1 38 0 k (by omega)).trans x1, rQ.mvK (Nat.le_refl _) (Nat.le_refl _) (gk _ _) _ _ _ x2⟩
    · obtain ⟨x1, x2, x3⟩ := c6 k x hx
      exact ⟨(e1 44 0 k (by omega)).trans x1, (e1 45 0 k (by omega)).trans x2, x3⟩
    · have y := c7 k hk
      split
      · rename_i e
        rw [e] at y
        exact (e1 46 0 k (by omega)).trans y
      · rename_i x e
        rw [e] at y
        obtain ⟨j, y1, y2⟩ := y
        exact ⟨j, (e1 46 0 k (by omega)).trans y1, rQ.mvK (Nat.le_refl _) (Nat.le_refl _) (gk _ _) _ _ _ y2⟩
/-- after measuring: the uses may look -/
theorem ug_of {t : Nat → Nat} {n np : Nat} {h h' : mj_H} {rg : Nat → Nat × Nat} (a : PGc t n h (pa, bs, lk, rt, sy, vis, []) np) (g : gA h h') (r : rgs np bs.length rt rg) (m : PBm sy pz h' rg bs rt bs.length 6) : ugC np sy pa bs lk rt h' := by
  obtain ⟨⟨a1, a2, a3, a4, a5, a6⟩, ⟨b1, b2, b3⟩, c, d⟩ := a
  dsimp only at a1 a2 a3 a4 a5 a6 b1 b2 b3 c d
  obtain ⟨rg0, c1, c2, c3, c4, c5, c6, c7⟩ := c
  obtain ⟨m1, m2, m3⟩ := m
  refine ⟨a5.eq (g.1 4 0 14 (by omega)) (by funext i j; exact g.1 34 i j (by omega)) (by rw [g.2]) (by rw [g.2]), fun p hp => ⟨(g.1 39 0 p (by omega)).trans (b2 p hp).1, (b2 p hp).2.1, fun k q hq => ⟨(g.1 40 0 _ (by omega)).trans ((b2 p hp).2.2 k q hq).1, ((b2 p hp).2.2 k q hq).2⟩⟩, rg, r, ?_, (g.1 4 0 25 (by omega)).trans c3, c4, fun k B hB => ?_, fun k x hx => ?_, fun k hk => ?_⟩
  · rw [g.1 4 0 17 (by omega), c2, d]
  · obtain ⟨x, x1, x2, -⟩ := m1 k B hB
    exact ⟨x, x1, x2⟩
  · obtain ⟨x1, x2, x3⟩ := c6 k x hx
    exact ⟨(g.1 44 0 k (by omega)).trans x1, (g.1 45 0 k (by omega)).trans x2, x3⟩
  · have y := m2 k hk
    split
    · rename_i e
      rw [e] at y
      exact y
    · rename_i x e
      rw [e] at y
      obtain ⟨j, y1, y2, -⟩ := y
      exact ⟨j, y1, y2⟩
/-- and the coder may type -/
theorem cp_of {np nl : Nat} {h : mj_H} {rg sg : Nat → Nat × Nat} (hn : np ≤ 3100) (u : ugC np sy pa bs lk rt h) (hl : bs.length = pa.length) (h24 : pa.length ≤ 24) (r : rgs np bs.length rt rg) (m : PBm sy pz h rg bs rt bs.length 6) (hB : ∀ k B, bs[k]? = some B → (mz sy pz B 0).2 < 1000000 ∧ tL B 0 ≤ 5900 ∧ bdy sy pa nl k B (sg k) ∧ (sg k).2 ≤ sy.length) : cpJ sy pz pa bs rt nl sg h := by
  obtain ⟨u1, u2, rg0, c1, c2, c3, c4, c5, c6, c7⟩ := u
  obtain ⟨m1, m2, m3⟩ := m
  refine ⟨⟨u1, c2, hl, h24, fun k B hk => ⟨?_, hB k B hk⟩, fun k hk => ⟨(u2 k hk).2.1, (u2 k hk).1, (m3 k (by omega)).1, (u2 k hk).2.2⟩⟩, fun k hk => ?_⟩
  · obtain ⟨x, x1, x2, x3⟩ := m1 k B hk
    have := r.1 (2 * k) (Or.inl ⟨k, rfl, gt_lt hk⟩)
    exact ⟨x, _, _, x1, x2, by omega, x3 (gt_lt hk)⟩
  · have y := m2 k hk
    split
    · rename_i e
      rw [e] at y
      exact y
    · rename_i x e
      rw [e] at y
      obtain ⟨j, y1, y2, y3⟩ := y
      have := r.1 (2 * k + 1) (Or.inr ⟨k, rfl, by rw [e]; exact fun z => by cases z⟩)
      exact ⟨j, _, _, y1, y2, by omega, y3 hk⟩
end
