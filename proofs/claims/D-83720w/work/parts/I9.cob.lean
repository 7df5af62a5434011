/-! which row runs: always 0 or 1 -/
def lo (s : Cr) : Prop := s.1 15 = 0 ∨ s.1 15 = 1
section
variable {s s' : Cr} {w w' : Wd}
theorem cRest_15 (e : cRest s = some s') : s'.1 15 = s.1 15 := by
  obtain ⟨x, -, rfl⟩ := Option.map_eq_some_iff.mp e
  rfl
theorem cReady_15 {x : Int32} (e : cReady s x = some s') : s'.1 15 = s.1 15 := by
  obtain ⟨n, -, -, -, rfl⟩ := cR_s e
  split <;> rfl
theorem cWait_15 {c : Nat} {v : Int32} (e : cWait s c v = some s') : s'.1 15 = s.1 15 := by
  unfold cWait at e
  obtain ⟨x1, -, e⟩ := Option.bind_eq_some_iff.mp e
  obtain ⟨x2, -, e⟩ := Option.bind_eq_some_iff.mp e
  obtain ⟨x3, -, e⟩ := Option.bind_eq_some_iff.mp e
  split at e
  · have zz := cRest_15 e; exact zz
  · cases e
theorem cWake_15 {x : Int32} (e : cWake s x = some s') : s'.1 15 = s.1 15 := by
  unfold cWake at e
  split at e
  · obtain ⟨y, -, e⟩ := Option.bind_eq_some_iff.mp e
    obtain ⟨t, t1, rfl⟩ := Option.map_eq_some_iff.mp e
    split at t1
    · have zz := cReady_15 t1; exact zz
    · have := Option.some.inj t1
      subst this
      rfl
  · cases e
theorem cDir_15 {f : Nat} {v : Int32} (e : cDir s f v = some s') : s'.1 15 = s.1 15 := by
  match f, e with
  | 0, e =>
    simp only [cDir] at e
    split at e
    · split at e
      · obtain ⟨t, t1, rfl⟩ := Option.map_eq_some_iff.mp e
        have zz := cRest_15 t1; exact zz
      · cases e
    · have := Option.some.inj e
      subst this
      rfl
  | 1, e => have := Option.some.inj e
            subst this
            rfl
  | 2, e => cases e
  | 3, e => obtain ⟨x, -, rfl⟩ := Option.map_eq_some_iff.mp e
            rfl
  | 4, e => have := Option.some.inj e
            subst this
            rfl
  | 5, e => have := Option.some.inj e
            subst this
            rfl
  | 6, e => cases e
  | 7, e => obtain ⟨x, -, rfl⟩ := Option.map_eq_some_iff.mp e
            rfl
  | 8, e => have := Option.some.inj e
            subst this
            rfl
  | 9, e => obtain ⟨x, -, rfl⟩ := Option.map_eq_some_iff.mp e
            rfl
  | 10, e =>
    simp only [cDir] at e
    split at e
    · have := Option.some.inj e
      subst this
      rfl
    · have := Option.some.inj e
      subst this
      rfl
  | 11, e =>
    simp only [cDir] at e
    split at e
    · have := Option.some.inj e
      subst this
      rfl
    · cases e
  | 12, e => have := Option.some.inj e
             subst this
             rfl
  | 13, e => obtain ⟨x, -, rfl⟩ := Option.map_eq_some_iff.mp e
             rfl
  | 14, e => obtain ⟨x, -, rfl⟩ := Option.map_eq_some_iff.mp e
             rfl
  | n + 15, e => cases e
theorem cOpr_15 {o : Nat} (e : cOpr s o = some s') : s'.1 15 = s.1 15 := by
  match o, e with
  | 0, e | 1, e | 2, e | 3, e | 6, e | 7, e | 8, e | 9, e | 10, e | 11, e | 13, e =>
    have := Option.some.inj e
    subst this
    rfl
  | 4, e | 5, e =>
    simp only [cOpr] at e
    split at e
    · have := Option.some.inj e
      subst this
      rfl
    · have := Option.some.inj e
      subst this
      rfl
  | 12, e =>
    have := Option.some.inj e
    subst this
    split <;> rfl
  | 14, e =>
    obtain ⟨t, t1, rfl⟩ := Option.map_eq_some_iff.mp e
    show t.1 15 = _
    rw [(cFill_r _ _ _ t1).1]
  | n + 15, e => cases e
theorem cIn_15 {x y : Int32} (e : cIn s w x y = some (s', w')) : s'.1 15 = s.1 15 := by
  unfold cIn at e
  obtain ⟨c, -, e⟩ := Option.bind_eq_some_iff.mp e
  have wt : (cWait s c y).map (fun s => (s, w)) = some (s', w') → s'.1 15 = s.1 15 := by
    intro e
    obtain ⟨t, t1, t2⟩ := Option.map_eq_some_iff.mp e
    cases t2
    have zz := cWait_15 t1; exact zz
  split at e
  · split at e
    · exact wt e
    · obtain ⟨v, -, e⟩ := Option.bind_eq_some_iff.mp e
      split at e
      · have e9 := Option.some.inj e
        cases e9
        rfl
      · cases e
  · split at e
    · split at e
      · obtain ⟨v, -, e⟩ := Option.map_eq_some_iff.mp e
        cases e
        rfl
      · exact wt e
    · split at e
      · cases e
      · split at e
        · exact wt e
        · split at e
          · obtain ⟨u, -, e⟩ := Option.bind_eq_some_iff.mp e
            obtain ⟨v, -, e⟩ := Option.bind_eq_some_iff.mp e
            obtain ⟨t, t1, t2⟩ := Option.map_eq_some_iff.mp e
            cases t2
            have zz := cReady_15 t1; exact zz
          · cases e
theorem cOut_15 {x y : Int32} (e : cOut s w x y = some (s', w')) : s'.1 15 = s.1 15 := by
  unfold cOut at e
  obtain ⟨c, -, e⟩ := Option.bind_eq_some_iff.mp e
  split at e
  · split at e
    · cases e
    · split at e
      · have e9 := Option.some.inj e
        cases e9
        rfl
      · have e9 := Option.some.inj e
        cases e9
        rfl
  · split at e
    · split at e
      · obtain ⟨t, t1, t2⟩ := Option.map_eq_some_iff.mp e
        cases t2
        have zz := cWait_15 t1; exact zz
      · cases e
    · split at e
      · cases e
      · split at e
        · obtain ⟨t, t1, t2⟩ := Option.map_eq_some_iff.mp e
          cases t2
          have zz := cWait_15 t1; exact zz
        · split at e
          · obtain ⟨u, -, e⟩ := Option.bind_eq_some_iff.mp e
            split at e
            · obtain ⟨v, -, e⟩ := Option.bind_eq_some_iff.mp e
              obtain ⟨z, -, e⟩ := Option.bind_eq_some_iff.mp e
              obtain ⟨t, t1, t2⟩ := Option.map_eq_some_iff.mp e
              cases t2
              have zz := cReady_15 t1; exact zz
            · obtain ⟨x1, -, e⟩ := Option.bind_eq_some_iff.mp e
              obtain ⟨x2, -, e⟩ := Option.bind_eq_some_iff.mp e
              obtain ⟨x3, -, e⟩ := Option.bind_eq_some_iff.mp e
              split at e
              · obtain ⟨t, t1, t2⟩ := Option.map_eq_some_iff.mp e
                cases t2
                obtain ⟨t0, t3, t4⟩ := Option.bind_eq_some_iff.mp t1
                exact (cWake_15 t4).trans (cWait_15 t3)
              · cases e
          · cases e
theorem cEnb_15 {x : Int32} (e : cEnb s w x = some s') : s'.1 15 = s.1 15 := by
  unfold cEnb at e
  obtain ⟨c, -, e⟩ := Option.bind_eq_some_iff.mp e
  obtain ⟨b, -, e⟩ := Option.bind_eq_some_iff.mp e
  split at e
  · obtain ⟨u, -, rfl⟩ := Option.map_eq_some_iff.mp e
    rfl
  · split at e
    · have := Option.some.inj e
      subst this
      rfl
    · cases e
theorem cDis_15 {x y v : Int32} (e : cDis s w x y v = some s') : s'.1 15 = s.1 15 := by
  unfold cDis at e
  split at e
  · have := Option.some.inj e
    subst this
    rfl
  · obtain ⟨c, -, e⟩ := Option.bind_eq_some_iff.mp e
    obtain ⟨b, -, e⟩ := Option.bind_eq_some_iff.mp e
    obtain ⟨u, -, e⟩ := Option.bind_eq_some_iff.mp e
    split at e
    · cases e
    · have e9 := Option.some.inj e
      rw [← e9]
      split <;> split <;> rfl
theorem cSch_15 {o : Nat} (e : cSch s w o = some (s', w')) : s'.1 15 = s.1 15 := by
  match o, e with
  | 15, e | 16, e =>
    obtain ⟨x1, -, e⟩ := Option.bind_eq_some_iff.mp e
    obtain ⟨x3, -, e⟩ := Option.bind_eq_some_iff.mp e
    obtain ⟨t, t1, t2⟩ := Option.map_eq_some_iff.mp e
    cases t2
    have zz := cReady_15 t1; exact zz
  | 17, e =>
    obtain ⟨x0, -, e⟩ := Option.bind_eq_some_iff.mp e
    obtain ⟨x1, -, e⟩ := Option.bind_eq_some_iff.mp e
    obtain ⟨x2, -, e⟩ := Option.bind_eq_some_iff.mp e
    split at e
    · split at e
      · obtain ⟨y1, -, e⟩ := Option.bind_eq_some_iff.mp e
        obtain ⟨y3, -, e⟩ := Option.bind_eq_some_iff.mp e
        split at e
        · cases e
        · obtain ⟨t, t1, t2⟩ := Option.map_eq_some_iff.mp e
          cases t2
          have zz := cReady_15 t1; exact zz
      · cases e
    · have e9 := Option.some.inj e
      cases e9
      rfl
  | 18, e | 29, e | 30, e | 31, e =>
    have e9 := Option.some.inj e
    cases e9
    rfl
  | 19, e =>
    simp only [cSch] at e
    split at e
    · obtain ⟨x, -, e9⟩ := Option.map_eq_some_iff.mp e
      cases e9
      rfl
    · cases e
  | 20, e => have zz := cIn_15 e; exact zz
  | 21, e => have zz := cOut_15 e; exact zz
  | 22, e =>
    obtain ⟨x3, -, e⟩ := Option.bind_eq_some_iff.mp e
    obtain ⟨x, -, e9⟩ := Option.map_eq_some_iff.mp e
    cases e9
    rfl
  | 23, e =>
    simp only [cSch] at e
    split at e
    · have e9 := Option.some.inj e
      cases e9
      rfl
    · obtain ⟨t, t1, t2⟩ := Option.map_eq_some_iff.mp e
      cases t2
      have zz := cEnb_15 t1; exact zz
  | 24, e =>
    obtain ⟨x, -, e9⟩ := Option.map_eq_some_iff.mp e
    split at e9 <;> cases e9 <;> rfl
  | 25, e =>
    obtain ⟨x, -, e⟩ := Option.bind_eq_some_iff.mp e
    split at e
    · have e9 := Option.some.inj e
      cases e9
      rfl
    · obtain ⟨t, t1, t2⟩ := Option.map_eq_some_iff.mp e
      cases t2
      have zz := cRest_15 t1; exact zz
  | 26, e =>
    obtain ⟨t, t1, t2⟩ := Option.map_eq_some_iff.mp e
    cases t2
    have zz := cDis_15 t1; exact zz
  | 27, e =>
    simp only [cSch] at e
    split at e
    · have e9 := Option.some.inj e
      cases e9
      rfl
    · obtain ⟨x, -, e9⟩ := Option.map_eq_some_iff.mp e
      split at e9 <;> cases e9 <;> rfl
  | 28, e =>
    obtain ⟨x3, -, e⟩ := Option.bind_eq_some_iff.mp e
    obtain ⟨x, -, e9⟩ := Option.map_eq_some_iff.mp e
    cases e9
    rfl
  | 0, e | 1, e | 2, e | 3, e | 4, e | 5, e | 6, e | 7, e | 8, e | 9, e | 10, e | 11, e | 12, e | 13, e | 14, e => cases e
  | n + 32, e => cases e
theorem cByte_15 {x : Nat} (e : cByte s w x = some (s', w')) : s'.1 15 = s.1 15 := by
  unfold cByte at e
  split at e
  · have e9 := Option.some.inj e
    cases e9
    rfl
  · split at e
    · have e9 := Option.some.inj e
      cases e9
      rfl
    · split at e
      · dsimp only at e
        split at e
        · split at e
          · cases e
          · obtain ⟨t, t1, t2⟩ := Option.map_eq_some_iff.mp e
            cases t2
            have zz := cOpr_15 t1; exact zz
        · have zz := cSch_15 e; exact zz
      · obtain ⟨t, t1, t2⟩ := Option.map_eq_some_iff.mp e
        cases t2
        have zz := cDir_15 t1; exact zz
/-- after settling: the row is known, and none is ready where none runs -/
def stl0 (s : Cr) : Prop := lo s ∧ (s.1 14 = 0 → s.2.2.1 = [] ∧ s.2.2.2 = [])
theorem cNext_lo (a : lo s) (e : cNext s = some s') : stl0 s' := by
  unfold cNext at e
  split at e
  · rename_i c
    have := Option.some.inj e
    subst this
    exact ⟨a, fun z => (c z).elim⟩
  · rename_i c
    obtain ⟨s1, m, H, L⟩ := s
    cases H with
    | cons n H =>
      obtain ⟨x, ex, es⟩ := cSt_s (s := sQ (s1, m, n :: H, L) H L) e
      subst es
      exact ⟨Or.inl rfl, fun z => absurd z (show ¬ (1 : Int32) = 0 by decide)⟩
    | nil =>
      cases L with
      | nil =>
        have := Option.some.inj e
        subst this
        exact ⟨a, fun _ => ⟨rfl, rfl⟩⟩
      | cons n L =>
        obtain ⟨t, t1, t2⟩ := Option.bind_eq_some_iff.mp e
        obtain ⟨x, ex, es⟩ := cSt_s (s := sQ (s1, m, [], n :: L) [] L) t1
        have t15 : t.1 15 = 1 := by rw [es]; rfl
        have t14 : t.1 14 = 1 := by rw [es]; rfl
        split at t2
        · have := Option.some.inj t2
          subst this
          exact ⟨Or.inr t15, fun z => absurd (t14.symm.trans z) (by decide)⟩
        · split at t2
          · have := Option.some.inj t2
            subst this
            exact ⟨Or.inr t15, fun z => absurd (t14.symm.trans z) (by decide)⟩
          · cases t2
theorem cSettle_lo (a : lo s) (e : cSettle s = some s') : stl0 s' := by
  obtain ⟨t, t1, t2⟩ := Option.bind_eq_some_iff.mp e
  refine cNext_lo ?_ t2
  unfold cPre at t1
  split at t1
  · split at t1
    · obtain ⟨u, u1, rfl⟩ := Option.map_eq_some_iff.mp t1
      have := cRest_15 u1
      unfold lo
      show u.1 15 = 0 ∨ u.1 15 = 1
      rw [this]
      exact a
    · cases t1
  · have := Option.some.inj t1
    subst this
    exact a
theorem cStep_lo {cd : Nat → Nat} (a : lo s) (e : cStep cd s w = some (s', w')) : stl0 s' := by
  unfold cStep at e
  split at e
  · obtain ⟨⟨t, v⟩, t1, t2⟩ := Option.bind_eq_some_iff.mp e
    obtain ⟨u, u1, u2⟩ := Option.map_eq_some_iff.mp t2
    cases u2
    refine cSettle_lo ?_ u1
    unfold lo
    rw [cByte_15 t1]
    exact a
  · cases e
theorem cCome_15 {c : Nat} {v : Int32} {b : Bool} (e : cCome s c v = some (b, s')) : s'.1 15 = s.1 15 := by
  unfold cCome at e
  split at e
  · have e9 := Option.some.inj e
    cases e9
    rfl
  · split at e
    · obtain ⟨u, -, e⟩ := Option.bind_eq_some_iff.mp e
      split at e
      · obtain ⟨v1, -, e⟩ := Option.bind_eq_some_iff.mp e
        obtain ⟨z, -, e⟩ := Option.bind_eq_some_iff.mp e
        obtain ⟨t, t1, t2⟩ := Option.map_eq_some_iff.mp e
        cases t2
        have zz := cReady_15 t1; exact zz
      · obtain ⟨t, t1, t2⟩ := Option.map_eq_some_iff.mp e
        cases t2
        have zz := cWake_15 t1; exact zz
    · cases e
/-- the system: each core that is there has settled -/
def sStl (G : PgS) (S : Sy) : Prop := ∀ p, p < 6 → G.1 p = true → stl0 (S.1 p)
variable {G : PgS} {S S' : Sy}
theorem sStl.c {p : Nat} (a : sStl G S) {s : Cr} {w : Wd} (b : stl0 s) : sStl G (sC (sW S w) p s) := by
  intro q hq hg
  show stl0 (if q = p then s else S.1 q)
  split
  · exact b
  · exact a q hq hg
theorem sBeat_lo {l : Nat} {b : Bool} (a : sStl G S) (h1 : G.2.1 l < 6) (h2 : G.2.2.1 l < 6) (e : sBeat G S l = some (b, S')) : sStl G S' := by
  unfold sBeat at e
  split at e
  · split at e
    · rename_i ck
      split at e
      · split at e
        · obtain ⟨s2, t1, t4⟩ := Option.map_eq_some_iff.mp e
          obtain ⟨s1, t2, t3⟩ := Option.bind_eq_some_iff.mp t1
          cases t4
          refine a.c (cSettle_lo ?_ t3)
          unfold lo
          rw [cReady_15 t2]
          exact (a _ h1 ck.2.2).1
        · cases e
      · split at e
        · have e9 := Option.some.inj e
          cases e9
          exact a
        · cases e
    · cases e
  · split at e
    · split at e
      · split at e
        · rename_i cp
          obtain ⟨⟨b0, s1⟩, t1, t2⟩ := Option.bind_eq_some_iff.mp e
          obtain ⟨s2, t3, t4⟩ := Option.map_eq_some_iff.mp t2
          cases t4
          refine a.c (cSettle_lo ?_ t3)
          unfold lo
          rw [cCome_15 t1]
          exact (a _ h2 cp).1
        · have e9 := Option.some.inj e
          cases e9
          exact a
      · split at e
        · have e9 := Option.some.inj e
          cases e9
          exact a
        · cases e
    · have e9 := Option.some.inj e
      cases e9
      exact a
theorem sStep_lo {p : Nat} (a : sStl G S) (hp : p < 6) (hg : G.1 p = true) (e : sStep G S p = some S') : sStl G S' := by
  obtain ⟨⟨t, v⟩, t1, rfl⟩ := Option.map_eq_some_iff.mp e
  exact a.c (cStep_lo (a p hp hg).1 t1)
end
