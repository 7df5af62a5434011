/-! the twin's system -/
def YG (G : PgS) (h : mj_H) : Prop := (∀ p, p < 6 → (G.1 p = true → ∃ n, 1 ≤ n ∧ n < 2 ^ 31 ∧ h.1 108 0 p = nI n) ∧ (G.1 p = false → h.1 108 0 p = 0)) ∧ (∀ l, l < G.2.2.2.1 → h.1 106 0 l = nI (G.2.1 l) ∧ G.2.1 l < 6 ∧ h.1 107 0 l = nI (G.2.2.1 l) ∧ G.2.2.1 l < 6) ∧ (h.1 15 0 52 = nI G.2.2.2.1 ∧ G.2.2.2.1 ≤ 12) ∧ (∀ p, p < 6 → G.1 p = true → ∀ x, x < 6000 → G.2.2.2.2 p x < 256 → h.1 125 0 (6000 * p + x) = nI (G.2.2.2.2 p x)) ∧ ¬ h.1 15 0 58 = 0
def YSy (G : PgS) (S : Sy) (bt pk : Int32) (h : mj_H) : Prop := (∀ p, p < 6 → G.1 p = true → yC p (S.1 p) h ∧ nI 15 < (S.1 p).1 5) ∧ (∀ p, p < 6 → G.1 p = false → h.1 138 0 p = -1 ∧ ∀ x, x < 14 → h.1 131 0 (4016 * p + x) = -1) ∧ yW S.2.1 h ∧ h.1 15 0 120 = bt ∧ h.1 15 0 121 = pk
def yFS (h h' : mj_H) : Prop := (∀ g i j, ¬ (i = 0 ∧ ((131 ≤ g ∧ g ≤ 157) ∨ (g = 15 ∧ (j = 110 ∨ j = 111 ∨ j = 113 ∨ j = 120 ∨ j = 121)))) → h'.1 g i j = h.1 g i j) ∧ h'.2 = h.2
theorem yFS.rf (h : mj_H) : yFS h h := ⟨fun _ _ _ _ => rfl, rfl⟩
theorem yFS.tr {h h1 h2 : mj_H} (a : yFS h h1) (b : yFS h1 h2) : yFS h h2 := ⟨fun g i j c => (b.1 g i j c).trans (a.1 g i j c), b.2.trans a.2⟩
section
variable {G : PgS} {S S' : Sy} {h0 h h' : mj_H} {d p : Nat} {bt pk : Int32} {s s1 s' : Cr}
theorem YG.mv (a : YG G h) (f : yFS h h') : YG G h' := by
  obtain ⟨a1, a2, a3, a4, a5⟩ := a
  refine ⟨fun p hp => ?_, fun l hl => ?_, ?_, fun p hp hg x hx hc => ?_, ?_⟩
  · rw [f.1 108 0 p (by omega)]; exact a1 p hp
  · rw [f.1 106 0 l (by omega), f.1 107 0 l (by omega)]; exact a2 l hl
  · rw [f.1 15 0 52 (by omega)]; exact a3
  · rw [f.1 125 0 _ (by omega)]; exact a4 p hp hg x hx hc
  · rw [f.1 15 0 58 (by omega)]; exact a5
theorem YSy.rs (a : YSy G S bt pk h) (hp : p < 6) (hg : G.1 p = true) : yS p h (S.1 p) S.2.1 h := ⟨(a.1 p hp hg).1, a.2.2.1, ⟨fun _ _ _ _ => rfl, rfl⟩⟩
theorem YSy.upW {w' : Wd} (a : YSy G S bt pk h) (hp : p < 6) (hg : G.1 p = true) (b : yS p h s' w' h') (e5 : s'.1 5 = (S.1 p).1 5) : YSy G (sC (sW S w') p s') bt pk h' ∧ yFS h h' := by
  obtain ⟨b1, b2, b3⟩ := b
  refine ⟨⟨fun q hq hg' => ?_, fun q hq hg' => ?_, b2, ?_, ?_⟩, ⟨fun g i j c => b3.1 g i j (by omega), b3.2⟩⟩
  · show yC q (if q = p then s' else S.1 q) h' ∧ nI 15 < (if q = p then s' else S.1 q).1 5
    by_cases e : q = p
    · rw [if_pos e, e]
      exact ⟨b1, by rw [e5]; exact (a.1 p hp hg).2⟩
    · rw [if_neg e]
      exact ⟨(a.1 q hq hg').1.mv (fun g i j c => b3.1 g i j (by omega)), (a.1 q hq hg').2⟩
  · have e : q ≠ p := fun z => by rw [z, hg] at hg'; cases hg'
    obtain ⟨c1, c2⟩ := a.2.1 q hq hg'
    exact ⟨(b3.1 _ _ _ (by omega)).trans c1, fun x hx => (b3.1 _ _ _ (by omega)).trans (c2 x hx)⟩
  · rw [b3.1 _ _ _ (by omega)]; exact a.2.2.2.1
  · rw [b3.1 _ _ _ (by omega)]; exact a.2.2.2.2
/-- host or links, packets change -/
theorem YSy.wd {w' : Wd} {pk' : Int32} (a : YSy G S bt pk h) (b : yW w' h') (e : h'.1 15 0 121 = pk') (f : ∀ g i j, ¬ ((g = 15 ∧ (j = 110 ∨ j = 111 ∨ j = 113 ∨ j = 121)) ∨ (150 ≤ g ∧ g ≤ 157)) → h'.1 g i j = h.1 g i j) : YSy G (sW S w') bt pk' h' := by
  refine ⟨fun q hq hg => ⟨(a.1 q hq hg).1.mv (fun g i j c => f g i j (by omega)), (a.1 q hq hg).2⟩, fun q hq hg => ?_, b, (f _ _ _ (by omega)).trans a.2.2.2.1, e⟩
  obtain ⟨c1, c2⟩ := a.2.1 q hq hg
  exact ⟨(f _ _ _ (by omega)).trans c1, fun x hx => (f _ _ _ (by omega)).trans (c2 x hx)⟩
/-- a high one goes ahead, if one is ready -/
theorem y_yld (a : yR p h0 s1 h) (hp : p < 6) (hr : ¬ s1.1 14 = 0) (e : cSettle s1 = some s') : yDo p h0 s' (mj_R mg (d + 3) mq_326 (0, [(0, vR 15 0), (1, vI (nI p))], [], h)) := by
  by_cases c2 : ¬ s1.1 14 = 0 ∧ ¬ s1.1 15 = 0 ∧ s1.2.2.1 ≠ []
  · obtain ⟨t, t1, t2⟩ := Option.bind_eq_some_iff.mp e
    exact y_yield2 (d := d) a hp c2 t1 t2
  · have es : s1 = s' := by
      unfold cSettle cPre at e
      rw [if_neg c2] at e
      have e : cNext s1 = some s' := e
      unfold cNext at e
      rw [if_pos hr] at e
      exact Option.some.inj e
    subst es
    rw [y_yield1 a hp c2]
    exact ⟨_, rfl, a⟩
theorem cSe_e (e0 : s1.1 14 = 0) (er : s1.2.2.1 = [] ∧ s1.2.2.2 = []) (e : cSettle s1 = some s') : s' = s1 := by
  have e := cSe_0 e0 e
  unfold cNext at e
  rw [if_neg (fun z => z e0)] at e
  obtain ⟨s2, m, H, L⟩ := s1
  obtain ⟨er1, er2⟩ := er
  have er1 : H = [] := er1
  have er2 : L = [] := er2
  subst er1; subst er2
  exact (Option.some.inj e).symm
/-- one settles that has settled -/
theorem y_yls (a : yR p h0 s1 h) (hp : p < 6) (st : s1.1 14 = 0 → s1.2.2.1 = [] ∧ s1.2.2.2 = []) (e : cSettle s1 = some s') : yDo p h0 s' (mj_R mg (d + 3) mq_326 (0, [(0, vR 15 0), (1, vI (nI p))], [], h)) := by
  by_cases c : s1.1 14 = 0
  · rw [cSe_e c (st c) e, y_yield1 a hp (fun z => z.1 c)]
    exact ⟨_, rfl, a⟩
  · exact y_yld a hp c e
theorem cR_14 {x : Int32} (e : cReady s x = some s1) : s1.1 14 = s.1 14 := by
  obtain ⟨n, -, -, -, rfl⟩ := cR_s e
  split <;> rfl
/-- one stands ready, then all settle -/
theorem y_rset {d2 : Nat} {x : Int32} (a : yR p h0 s h) (hp : p < 6) (e : cReady s x = some s1) (e2 : cSettle s1 = some s') : ∃ h1, mj_R mg (d + 3) mq_324 (0, [(0, vR 15 0), (1, vI (nI p)), (2, vI x)], [], h) = some (.inl (none, h1)) ∧ yDo p h0 s' (mj_R mg (d2 + 3) mq_326 (0, [(0, vR 15 0), (1, vI (nI p))], [], h1)) := by
  by_cases c : s.1 14 = 0
  · obtain ⟨h1, r, b1, b2, b3⟩ := y_ready0 (d := d + 2) a hp e
    have c1 : s1.1 14 = 0 := (cR_14 e).trans c
    have en := cSe_0 c1 e2
    obtain ⟨h2, q2, a2⟩ := y_disp (d := d) b1.1.2.2 hp c1 en
    refine ⟨h2, ?_, ?_⟩
    · rw [b3, a.1.2.1, if_pos c, if_neg (fun z => z rfl), q2, mj_xv_ret, q_324_51]
    · rw [y_yield1 a2 hp (cNx_ny c1 en)]
      exact ⟨_, rfl, b1.u a2⟩
  · obtain ⟨h1, q1, a1⟩ := y_ready (d := d + 2) a hp c e
    exact ⟨h1, q1, y_yld a1 hp (by rw [cR_14 e]; exact c) e2⟩
theorem y_wset {d2 : Nat} {x : Int32} (a : yR p h0 s h) (hp : p < 6) (st : s.1 14 = 0 → s.2.2.1 = [] ∧ s.2.2.2 = []) (e : cWake s x = some s1) (e2 : cSettle s1 = some s') : ∃ h1, mj_R mg (d + 4) mq_343 (0, [(0, vR 15 0), (1, vI (nI p)), (2, vI x)], [], h) = some (.inl (none, h1)) ∧ yDo p h0 s' (mj_R mg (d2 + 3) mq_326 (0, [(0, vR 15 0), (1, vI (nI p))], [], h1)) := by
  unfold cWake at e
  by_cases c0 : mj_in x 8032
  · rw [if_pos c0] at e
    obtain ⟨y, j1, e⟩ := Option.bind_eq_some_iff.mp e
    obtain ⟨t, t1, t2⟩ := Option.map_eq_some_iff.mp e
    obtain ⟨q1, a1⟩ := y_st (d := d + 2) (v := 3) a hp j1
    rw [q_343_0, hf_sh c0, y_ld a hp j1, mj_xi_ret, q1, mj_xv_ret]
    by_cases c : s.2.1 y = 2
    · rw [if_pos c] at t1
      have rd := cR_m (x := y) (v := 3) t1
      rw [t2] at rd
      obtain ⟨h1, q2, a2⟩ := y_rset (d := d) (d2 := d2) a1 hp rd e2
      exact ⟨h1, by rw [if_neg (fun z => z c), q2, mj_xv_ret, q_343_35], a2⟩
    · rw [if_neg c] at t1
      have e9 := Option.some.inj t1
      subst e9
      rw [t2] at a1
      refine ⟨_, by rw [if_pos c, q_343_35], y_yls a1 hp ?_ e2⟩
      rw [← t2]
      exact st
  · rw [if_neg c0] at e; cases e
end
