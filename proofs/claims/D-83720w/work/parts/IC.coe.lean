/-! the bound of addresses stays -/
section
variable {s s' : Cr} {w w' : Wd}
theorem cRest_5 (e : cRest s = some s') : s'.1 5 = s.1 5 := by
  obtain ⟨x, -, rfl⟩ := Option.map_eq_some_iff.mp e
  rfl
theorem cReady_5 {x : Int32} (e : cReady s x = some s') : s'.1 5 = s.1 5 := by
  obtain ⟨n, -, -, -, rfl⟩ := cR_s e
  split <;> rfl
theorem cWait_5 {c : Nat} {v : Int32} (e : cWait s c v = some s') : s'.1 5 = s.1 5 := by
  unfold cWait at e
  obtain ⟨x1, -, e⟩ := Option.bind_eq_some_iff.mp e
  obtain ⟨x2, -, e⟩ := Option.bind_eq_some_iff.mp e
  obtain ⟨x3, -, e⟩ := Option.bind_eq_some_iff.mp e
  split at e
  · have zz := cRest_5 e; exact zz
  · cases e
theorem cWake_5 {x : Int32} (e : cWake s x = some s') : s'.1 5 = s.1 5 := by
  unfold cWake at e
  split at e
  · obtain ⟨y, -, e⟩ := Option.bind_eq_some_iff.mp e
    obtain ⟨t, t1, rfl⟩ := Option.map_eq_some_iff.mp e
    split at t1
    · have zz := cReady_5 t1; exact zz
    · have := Option.some.inj t1
      subst this
      rfl
  · cases e
theorem cDir_5 {f : Nat} {v : Int32} (e : cDir s f v = some s') : s'.1 5 = s.1 5 := by
  match f, e with
  | 0, e =>
    simp only [cDir] at e
    split at e
    · split at e
      · obtain ⟨t, t1, rfl⟩ := Option.map_eq_some_iff.mp e
        have zz := cRest_5 t1; exact zz
      · cases e
    · have := Option.some.inj e
      subst this
      rfl
  | 1, e => have := Option.some.inj e
            subst this
            rfl
  | 2, e => cases e
  | 3, e => obtain ⟨x, -, rfl⟩ := Option.map_eq_some_iff.mp e
            rfl
  | 4, e => have := Option.some.inj e
            subst this
            rfl
  | 5, e => have := Option.some.inj e
            subst this
            rfl
  | 6, e => cases e
  | 7, e => obtain ⟨x, -, rfl⟩ := Option.map_eq_some_iff.mp e
            rfl
  | 8, e => have := Option.some.inj e
            subst this
            rfl
  | 9, e => obtain ⟨x, -, rfl⟩ := Option.map_eq_some_iff.mp e
            rfl
  | 10, e =>
    simp only [cDir] at e
    split at e
    · have := Option.some.inj e
      subst this
      rfl
    · have := Option.some.inj e
      subst this
      rfl
  | 11, e =>
    simp only [cDir] at e
    split at e
    · have := Option.some.inj e
      subst this
      rfl
    · cases e
  | 12, e => have := Option.some.inj e
             subst this
             rfl
  | 13, e => obtain ⟨x, -, rfl⟩ := Option.map_eq_some_iff.mp e
             rfl
  | 14, e => obtain ⟨x, -, rfl⟩ := Option.map_eq_some_iff.mp e
             rfl
  | n + 15, e => cases e
theorem cOpr_5 {o : Nat} (e : cOpr s o = some s') : s'.1 5 = s.1 5 := by
  match o, e with
  | 0, e | 1, e | 2, e | 3, e | 6, e | 7, e | 8, e | 9, e | 10, e | 11, e | 13, e =>
    have := Option.some.inj e
    subst this
    rfl
  | 4, e | 5, e =>
    simp only [cOpr] at e
    split at e
    · have := Option.some.inj e
      subst this
      rfl
    · have := Option.some.inj e
      subst this
      rfl
  | 12, e =>
    have := Option.some.inj e
    subst this
    split <;> rfl
  | 14, e =>
    obtain ⟨t, t1, rfl⟩ := Option.map_eq_some_iff.mp e
    show t.1 5 = _
    rw [(cFill_r _ _ _ t1).1]
  | n + 15, e => cases e
theorem cIn_5 {x y : Int32} (e : cIn s w x y = some (s', w')) : s'.1 5 = s.1 5 := by
  unfold cIn at e
  obtain ⟨c, -, e⟩ := Option.bind_eq_some_iff.mp e
  have wt : (cWait s c y).map (fun s => (s, w)) = some (s', w') → s'.1 5 = s.1 5 := by
    intro e
    obtain ⟨t, t1, t2⟩ := Option.map_eq_some_iff.mp e
    cases t2
    have zz := cWait_5 t1; exact zz
  split at e
  · split at e
    · exact wt e
    · obtain ⟨v, -, e⟩ := Option.bind_eq_some_iff.mp e
      split at e
      · have e9 := Option.some.inj e
        cases e9
        rfl
      · cases e
  · split at e
    · split at e
      · obtain ⟨v, -, e⟩ := Option.map_eq_some_iff.mp e
        cases e
        rfl
      · exact wt e
    · split at e
      · cases e
      · split at e
        · exact wt e
        · split at e
          · obtain ⟨u, -, e⟩ := Option.bind_eq_some_iff.mp e
            obtain ⟨v, -, e⟩ := Option.bind_eq_some_iff.mp e
            obtain ⟨t, t1, t2⟩ := Option.map_eq_some_iff.mp e
            cases t2
            have zz := cReady_5 t1; exact zz
          · cases e
theorem cOut_5 {x y : Int32} (e : cOut s w x y = some (s', w')) : s'.1 5 = s.1 5 := by
  unfold cOut at e
  obtain ⟨c, -, e⟩ := Option.bind_eq_some_iff.mp e
  split at e
  · split at e
    · cases e
    · split at e
      · have e9 := Option.some.inj e
        cases e9
        rfl
      · have e9 := Option.some.inj e
        cases e9
        rfl
  · split at e
    · split at e
      · obtain ⟨t, t1, t2⟩ := Option.map_eq_some_iff.mp e
        cases t2
        have zz := cWait_5 t1; exact zz
      · cases e
    · split at e
      · cases e
      · split at e
        · obtain ⟨t, t1, t2⟩ := Option.map_eq_some_iff.mp e
          cases t2
          have zz := cWait_5 t1; exact zz
        · split at e
          · obtain ⟨u, -, e⟩ := Option.bind_eq_some_iff.mp e
            split at e
            · obtain ⟨v, -, e⟩ := Option.bind_eq_some_iff.mp e
              obtain ⟨z, -, e⟩ := Option.bind_eq_some_iff.mp e
              obtain ⟨t, t1, t2⟩ := Option.map_eq_some_iff.mp e
              cases t2
              have zz := cReady_5 t1; exact zz
            · obtain ⟨x1, -, e⟩ := Option.bind_eq_some_iff.mp e
              obtain ⟨x2, -, e⟩ := Option.bind_eq_some_iff.mp e
              obtain ⟨x3, -, e⟩ := Option.bind_eq_some_iff.mp e
              split at e
              · obtain ⟨t, t1, t2⟩ := Option.map_eq_some_iff.mp e
                cases t2
                obtain ⟨t0, t3, t4⟩ := Option.bind_eq_some_iff.mp t1
                exact (cWake_5 t4).trans (cWait_5 t3)
              · cases e
          · cases e
theorem cEnb_5 {x : Int32} (e : cEnb s w x = some s') : s'.1 5 = s.1 5 := by
  unfold cEnb at e
  obtain ⟨c, -, e⟩ := Option.bind_eq_some_iff.mp e
  obtain ⟨b, -, e⟩ := Option.bind_eq_some_iff.mp e
  split at e
  · obtain ⟨u, -, rfl⟩ := Option.map_eq_some_iff.mp e
    rfl
  · split at e
    · have := Option.some.inj e
      subst this
      rfl
    · cases e
theorem cDis_5 {x y v : Int32} (e : cDis s w x y v = some s') : s'.1 5 = s.1 5 := by
  unfold cDis at e
  split at e
  · have := Option.some.inj e
    subst this
    rfl
  · obtain ⟨c, -, e⟩ := Option.bind_eq_some_iff.mp e
    obtain ⟨b, -, e⟩ := Option.bind_eq_some_iff.mp e
    obtain ⟨u, -, e⟩ := Option.bind_eq_some_iff.mp e
    split at e
    · cases e
    · have e9 := Option.some.inj e
      rw [← e9]
      split <;> split <;> rfl
theorem cSch_5 {o : Nat} (e : cSch s w o = some (s', w')) : s'.1 5 = s.1 5 := by
  match o, e with
  | 15, e | 16, e =>
    obtain ⟨x1, -, e⟩ := Option.bind_eq_some_iff.mp e
    obtain ⟨x3, -, e⟩ := Option.bind_eq_some_iff.mp e
    obtain ⟨t, t1, t2⟩ := Option.map_eq_some_iff.mp e
    cases t2
    have zz := cReady_5 t1; exact zz
  | 17, e =>
    obtain ⟨x0, -, e⟩ := Option.bind_eq_some_iff.mp e
    obtain ⟨x1, -, e⟩ := Option.bind_eq_some_iff.mp e
    obtain ⟨x2, -, e⟩ := Option.bind_eq_some_iff.mp e
    split at e
    · split at e
      · obtain ⟨y1, -, e⟩ := Option.bind_eq_some_iff.mp e
        obtain ⟨y3, -, e⟩ := Option.bind_eq_some_iff.mp e
        split at e
        · cases e
        · obtain ⟨t, t1, t2⟩ := Option.map_eq_some_iff.mp e
          cases t2
          have zz := cReady_5 t1; exact zz
      · cases e
    · have e9 := Option.some.inj e
      cases e9
      rfl
  | 18, e | 29, e | 30, e | 31, e =>
    have e9 := Option.some.inj e
    cases e9
    rfl
  | 19, e =>
    simp only [cSch] at e
    split at e
    · obtain ⟨x, -, e9⟩ := Option.map_eq_some_iff.mp e
      cases e9
      rfl
    · cases e
  | 20, e => have zz := cIn_5 e; exact zz
  | 21, e => have zz := cOut_5 e; exact zz
  | 22, e =>
    obtain ⟨x3, -, e⟩ := Option.bind_eq_some_iff.mp e
    obtain ⟨x, -, e9⟩ := Option.map_eq_some_iff.mp e
    cases e9
    rfl
  | 23, e =>
    simp only [cSch] at e
    split at e
    · have e9 := Option.some.inj e
      cases e9
      rfl
    · obtain ⟨t, t1, t2⟩ := Option.map_eq_some_iff.mp e
      cases t2
      have zz := cEnb_5 t1; exact zz
  | 24, e =>
    obtain ⟨x, -, e9⟩ := Option.map_eq_some_iff.mp e
    split at e9 <;> cases e9 <;> rfl
  | 25, e =>
    obtain ⟨x, -, e⟩ := Option.bind_eq_some_iff.mp e
    split at e
    · have e9 := Option.some.inj e
      cases e9
      rfl
    · obtain ⟨t, t1, t2⟩ := Option.map_eq_some_iff.mp e
      cases t2
      have zz := cRest_5 t1; exact zz
  | 26, e =>
    obtain ⟨t, t1, t2⟩ := Option.map_eq_some_iff.mp e
    cases t2
    have zz := cDis_5 t1; exact zz
  | 27, e =>
    simp only [cSch] at e
    split at e
    · have e9 := Option.some.inj e
      cases e9
      rfl
    · obtain ⟨x, -, e9⟩ := Option.map_eq_some_iff.mp e
      split at e9 <;> cases e9 <;> rfl
  | 28, e =>
    obtain ⟨x3, -, e⟩ := Option.bind_eq_some_iff.mp e
    obtain ⟨x, -, e9⟩ := Option.map_eq_some_iff.mp e
    cases e9
    rfl
  | 0, e | 1, e | 2, e | 3, e | 4, e | 5, e | 6, e | 7, e | 8, e | 9, e | 10, e | 11, e | 12, e | 13, e | 14, e => cases e
  | n + 32, e => cases e
theorem cByte_5 {x : Nat} (e : cByte s w x = some (s', w')) : s'.1 5 = s.1 5 := by
  unfold cByte at e
  split at e
  · have e9 := Option.some.inj e
    cases e9
    rfl
  · split at e
    · have e9 := Option.some.inj e
      cases e9
      rfl
    · split at e
      · dsimp only at e
        split at e
        · split at e
          · cases e
          · obtain ⟨t, t1, t2⟩ := Option.map_eq_some_iff.mp e
            cases t2
            have zz := cOpr_5 t1; exact zz
        · have zz := cSch_5 e; exact zz
      · obtain ⟨t, t1, t2⟩ := Option.map_eq_some_iff.mp e
        cases t2
        have zz := cDir_5 t1; exact zz
theorem cNext_5 (e : cNext s = some s') : s'.1 5 = s.1 5 := by
  unfold cNext at e
  split at e
  · have := Option.some.inj e
    subst this
    rfl
  · obtain ⟨s1, m, H, L⟩ := s
    cases H with
    | cons n H =>
      obtain ⟨x, ex, es⟩ := cSt_s (s := sQ (s1, m, n :: H, L) H L) e
      subst es
      rfl
    | nil =>
      cases L with
      | nil =>
        have := Option.some.inj e
        subst this
        rfl
      | cons n L =>
        obtain ⟨t, t1, t2⟩ := Option.bind_eq_some_iff.mp e
        obtain ⟨x, ex, es⟩ := cSt_s (s := sQ (s1, m, [], n :: L) [] L) t1
        have t5 : t.1 5 = s1 5 := by rw [es]; rfl
        split at t2
        · have := Option.some.inj t2
          subst this
          exact t5
        · split at t2
          · have := Option.some.inj t2
            subst this
            exact t5
          · cases t2
theorem cSettle_5 (e : cSettle s = some s') : s'.1 5 = s.1 5 := by
  obtain ⟨t, t1, t2⟩ := Option.bind_eq_some_iff.mp e
  rw [cNext_5 t2]
  unfold cPre at t1
  split at t1
  · split at t1
    · obtain ⟨u, u1, rfl⟩ := Option.map_eq_some_iff.mp t1
      have zz := cRest_5 u1
      exact zz
    · cases t1
  · have := Option.some.inj t1
    subst this
    rfl
theorem cStep_5 {cd : Nat → Nat} (e : cStep cd s w = some (s', w')) : s'.1 5 = s.1 5 := by
  unfold cStep at e
  split at e
  · obtain ⟨⟨t, v⟩, t1, t2⟩ := Option.bind_eq_some_iff.mp e
    obtain ⟨u, u1, u2⟩ := Option.map_eq_some_iff.mp t2
    cases u2
    rw [cSettle_5 u1, cByte_5 t1]
  · cases e
theorem cCome_5 {c : Nat} {v : Int32} {b : Bool} (e : cCome s c v = some (b, s')) : s'.1 5 = s.1 5 := by
  unfold cCome at e
  split at e
  · have e9 := Option.some.inj e
    cases e9
    rfl
  · split at e
    · obtain ⟨u, -, e⟩ := Option.bind_eq_some_iff.mp e
      split at e
      · obtain ⟨v1, -, e⟩ := Option.bind_eq_some_iff.mp e
        obtain ⟨z, -, e⟩ := Option.bind_eq_some_iff.mp e
        obtain ⟨t, t1, t2⟩ := Option.map_eq_some_iff.mp e
        cases t2
        have zz := cReady_5 t1; exact zz
      · obtain ⟨t, t1, t2⟩ := Option.map_eq_some_iff.mp e
        cases t2
        have zz := cWake_5 t1; exact zz
    · cases e
end
