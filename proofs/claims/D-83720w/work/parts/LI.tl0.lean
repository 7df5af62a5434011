/-! labels of the component: bounded by signs -/
theorem lE2 {sy : List Sym} {vis : List Nat} : ∀ (D : Nat) (e : Tm), shE sy vis D e → 2 * lE e + 1 ≤ cE sy e := by
  intro D e
  induction D, e using shE.induct with
  | case1 D v => exact fun _ => Nat.le_refl 1
  | case2 D s => exact fun _ => nc_1 _
  | case3 D s e ih =>
    intro h
    have := ih h.2.2
    have n1 : 1 ≤ ncs sy s := nc_1 _
    show 2 * lE e + 1 ≤ ncs sy s + 2 + cE sy e
    omega
  | case4 D e ih =>
    intro h
    have := ih h.2
    show 2 * lE e + 1 ≤ 1 + cE sy e
    omega
  | case5 D e ih =>
    intro h
    have := ih h.2
    show 2 * lE e + 1 ≤ 3 + cE sy e
    omega
  | case6 D e ih =>
    intro h
    have := ih h.2
    show 2 * lE e + 1 ≤ 2 + cE sy e
    omega
  | case7 D o x y ih1 ih2 =>
    intro h
    have i1 := ih1 h.2.2.1
    have i2 := ih2 h.2.2.2
    show 2 * (lE x + lE y + 1) + 1 ≤ cE sy x + cE sy y + if o = 65 ∨ o = 79 then 2 else 1
    split <;> omega
  | case8 D e h1 h2 h3 h4 h5 h6 h7 =>
    intro x
    unfold shE at x
    split at x
    · exact (h1 _ rfl).elim
    · exact (h2 _ rfl).elim
    · exact (h3 _ _ rfl).elim
    · exact (h4 _ rfl).elim
    · exact (h5 _ rfl).elim
    · exact (h6 _ rfl).elim
    · exact (h7 _ _ _ rfl).elim
    · exact x.elim
theorem lA2 {sy : List Sym} {vis : List Nat} : ∀ as, pAs sy vis as → 2 * lA as ≤ cA sy as := by
  intro as
  induction as using lA.induct with
  | case1 a as ih =>
    intro h
    have h1 := lE2 8 a h.1
    have h2 := ih h.2
    show 2 * (lE a + lA as) ≤ cE sy a + 1 + cA sy as
    omega
  | case2 as h1 =>
    intro _
    have : lA as = 0 := by
      unfold lA
      split
      · exact (h1 _ _ rfl).elim
      · rfl
    omega
/-- modes: 0 with two more, 1 with two for each process, 2 also without what is open, 3 with all that a guard needs -/
def tBd (sy : List Sym) (A : Tm) (lv : Nat) : Nat → Prop
  | 0 => 4 * tL A 0 + 8 ≤ 7 * cQ sy A 0 lv
  | 1 => 4 * tL A 1 + 8 * tmN A ≤ 7 * cQ sy A 1 lv
  | 2 => 4 * tL A 2 ≤ 7 * cQ sy A 2 lv ∧ 4 * tO A 2 ≤ 7 * cQ sy A 2 lv
  | 3 => 4 * (lH A + tmN A + tO A 3 + tL A 3) ≤ 7 * cQ sy A 3 lv ∧ 4 * (lH A + tmN A + 2 * tO A 3) ≤ 7 * cQ sy A 3 lv
  | _ => True
theorem tL_b {sy : List Sym} : ∀ (A : Tm) (md : Nat) (vis : List Nat), rdQ sy A md vis → ∀ lv, tBd sy A lv md := by
  intro A md vis
  induction A, md, vis using rdQ.induct with
  | case1 u s c p vis ih =>
    intro h lv
    have i1 : 4 * tL p 0 + 8 ≤ 7 * cQ sy p 0 lv := ih h.2 lv
    show 4 * tL p 0 + 8 ≤ 7 * (2 * lv + 4 + (if 0 < szO sy s then 3 else 0) + cN sy s c + cQ sy p 0 lv)
    omega
  | case2 u v e vis =>
    intro h lv
    have i1 := lE2 8 v h.2.2.1
    have i2 := lE2 8 e h.2.2.2
    show 4 * (lE e + lE v) + 8 ≤ 7 * (2 * lv + 3 + cE sy v + cE sy e)
    omega
  | case3 u v e vis =>
    intro h lv
    have i1 := lE2 8 v h.2.2.1
    have i2 := lE2 8 e h.2.2.2
    show 4 * (lE e + lE v) + 8 ≤ 7 * (2 * lv + 2 + cE sy v + cE sy e)
    omega
  | case4 u v e vis =>
    intro h lv
    have i1 := lE2 8 v h.2.2.1
    have i2 := lE2 8 e h.2.2.2.2
    show 4 * (lE e + lE v) + 8 ≤ 7 * (2 * lv + 2 + cE sy v + cE sy e)
    omega
  | case5 u p as vis =>
    intro h lv
    have i1 := lA2 as h.2
    show 4 * lA as + 8 ≤ 7 * (2 * lv + 3 + cA sy as)
    omega
  | case6 u ps vis ih =>
    intro h lv
    have i1 : 4 * tL ps 1 + 8 * tmN ps ≤ 7 * cQ sy ps 1 (lv + 1) := ih h.2 (lv + 1)
    show 4 * tL ps 1 + 8 ≤ 7 * (2 * lv + 4 + cQ sy ps 1 (lv + 1))
    omega
  | case7 u s e1 e2 p vis ih =>
    intro h lv
    have i1 : 4 * tL p 0 + 8 ≤ 7 * cQ sy p 0 (lv + 1) := ih h.2.2.2 (lv + 1)
    have i2 := lE2 8 e1 h.2.1
    have i3 := lE2 8 e2 h.2.2.1
    show 4 * (lE e1 + lE e2 + 2 + tL p 0) + 8 ≤ 7 * (2 * lv + 8 + ncs sy s + cE sy e1 + cE sy e2 + cQ sy p 0 (lv + 1))
    omega
  | case8 u z0 ps vis ih =>
    intro h lv
    have i1 : 4 * tL ps 1 + 8 * tmN ps ≤ 7 * cQ sy ps 1 (lv + 1) := ih h.2 (lv + 1)
    show 4 * (2 + 2 * tmN ps + tL ps 1) + 8 ≤ 7 * (2 * lv + 4 + cQ sy ps 1 (lv + 1))
    omega
  | case9 u z0 ps vis ih =>
    intro h lv
    have i1 : 4 * tL ps 1 + 8 * tmN ps ≤ 7 * cQ sy ps 1 (lv + 1) := ih h.2 (lv + 1)
    show 4 * (2 + 2 * tmN ps + tL ps 1) + 8 ≤ 7 * (2 * lv + 7 + cQ sy ps 1 (lv + 1))
    omega
  | case10 u s b m p vis ih =>
    intro h lv
    have i1 : 4 * tL p 0 + 8 ≤ 7 * cQ sy p 0 (lv + 1) := ih h.2.2.2 (lv + 1)
    have n1 : 1 ≤ ncs sy s := nc_1 _
    have m8 := h.2.2.1
    show 4 * (2 + 2 * m + tL p 0) + 8 ≤ 7 * (2 * lv + 10 + ncs sy s + cQ sy p 0 (lv + 1))
    omega
  | case11 u gs vis ih =>
    intro h lv
    have i1 : 4 * tL gs 2 ≤ 7 * cQ sy gs 2 lv ∧ 4 * tO gs 2 ≤ 7 * cQ sy gs 2 lv := ih h.2 lv
    show 4 * (1 + tL gs 2) + 8 ≤ 7 * (2 * lv + 3 + cQ sy gs 2 lv)
    omega
  | case12 u e p vis ih =>
    intro h lv
    have i1 : 4 * tL p 0 + 8 ≤ 7 * cQ sy p 0 (lv + 1) := ih h.2.2 (lv + 1)
    have i2 := lE2 8 e h.2.1
    show 4 * (lE e + 2 + tL p 0) + 8 ≤ 7 * (2 * lv + 6 + cE sy e + cQ sy p 0 (lv + 1))
    omega
  | case13 u gs vis ih =>
    intro h lv
    have i1 : 4 * (lH gs + tmN gs + tO gs 3 + tL gs 3) ≤ 7 * cQ sy gs 3 lv ∧ 4 * (lH gs + tmN gs + 2 * tO gs 3) ≤ 7 * cQ sy gs 3 lv := ih h.2.2 lv
    show 4 * (lH gs + tmN gs + 2 + tO gs 3 + tL gs 3) + 8 ≤ 7 * (2 * lv + 4 + cQ sy gs 3 lv)
    omega
  | case14 u vis =>
    intro h lv
    show 4 * 0 + 8 ≤ 7 * (2 * lv + 5)
    omega
  | case15 u vis =>
    intro h lv
    show 4 * 0 + 8 ≤ 7 * (2 * lv + 5)
    omega
  | case16 vis => exact fun _ _ => Nat.zero_le _
  | case17 p ps vis ih1 ih2 =>
    intro h lv
    have i1 : 4 * tL p 0 + 8 ≤ 7 * cQ sy p 0 lv := ih1 h.1 lv
    have i2 : 4 * tL ps 1 + 8 * tmN ps ≤ 7 * cQ sy ps 1 lv := ih2 h.2 lv
    show 4 * max (tL p 0) (tL ps 1) + 8 * (tmN ps + 1) ≤ 7 * (cQ sy p 0 lv + cQ sy ps 1 lv)
    omega
  | case18 vis => exact fun _ _ => ⟨Nat.zero_le _, Nat.zero_le _⟩
  | case19 e p gs vis ih1 ih2 =>
    intro h lv
    have i1 : 4 * tL p 0 + 8 ≤ 7 * cQ sy p 0 (lv + 2) := ih1 h.2.1 (lv + 2)
    have i2 : 4 * tL gs 2 ≤ 7 * cQ sy gs 2 lv ∧ 4 * tO gs 2 ≤ 7 * cQ sy gs 2 lv := ih2 h.2.2 lv
    have i3 := lE2 8 e h.1
    constructor
    · show 4 * max (1 + lE e + tL p 0 + tO gs 2) (tL gs 2) ≤ 7 * (2 * lv + 3 + cE sy e + cQ sy p 0 (lv + 2) + cQ sy gs 2 lv)
      omega
    · show 4 * (1 + lE e + tO gs 2) ≤ 7 * (2 * lv + 3 + cE sy e + cQ sy p 0 (lv + 2) + cQ sy gs 2 lv)
      omega
  | case20 vis => exact fun _ _ => ⟨Nat.zero_le _, Nat.zero_le _⟩
  | case21 u e c v p gs vis ih1 ih2 =>
    intro h lv
    have i1 : 4 * tL p 0 + 8 ≤ 7 * cQ sy p 0 (lv + 2) := ih1 h.2.2.2.1 (lv + 2)
    have i2 : 4 * (lH gs + tmN gs + tO gs 3 + tL gs 3) ≤ 7 * cQ sy gs 3 lv ∧ 4 * (lH gs + tmN gs + 2 * tO gs 3) ≤ 7 * cQ sy gs 3 lv := ih2 h.2.2.2.2 lv
    have ge : 2 * lE e ≤ if e = .null then 0 else cE sy e + 1 := by
      rcases h.2.1 with rfl | he
      · exact Nat.zero_le _
      · have q1 := lE2 8 e he
        rw [if_neg (shE_nn he)]
        omega
    have gc : 2 * lE c + 2 * lE v ≤ if c = .null then 4 else cE sy c + 1 + cE sy v := by
      rcases h.2.2.1 with ⟨rfl, rfl⟩ | ⟨t1, t2, t3, t4⟩
      · exact Nat.zero_le _
      · have q1 := lE2 8 c t2
        have q2 := lE2 8 v t4
        rw [if_neg (thI_nn t1)]
        omega
    constructor
    · show 4 * ((lE e + lE c + lH gs) + (tmN gs + 1) + (lE v + tO gs 3) + max (lE v + tL p 0 + tO gs 3) (tL gs 3)) ≤ 7 * (2 * lv + 3 + ((if e = .null then 0 else cE sy e + 1) + if c = .null then 4 else cE sy c + 1 + cE sy v) + cQ sy p 0 (lv + 2) + cQ sy gs 3 lv)
      omega
    · show 4 * ((lE e + lE c + lH gs) + (tmN gs + 1) + 2 * (lE v + tO gs 3)) ≤ 7 * (2 * lv + 3 + ((if e = .null then 0 else cE sy e + 1) + if c = .null then 4 else cE sy c + 1 + cE sy v) + cQ sy p 0 (lv + 2) + cQ sy gs 3 lv)
      omega
  | case22 A md vis h1 h2 h3 h4 h5 h6 h7 h8 h9 h10 h11 h12 h13 h14 h15 h16 h17 h18 h19 h20 h21 =>
    intro h
    unfold rdQ at h
    split at h
    · exact (h1 _ _ _ _ rfl rfl).elim
    · exact (h2 _ _ _ rfl rfl).elim
    · exact (h3 _ _ _ rfl rfl).elim
    · exact (h4 _ _ _ rfl rfl).elim
    · exact (h5 _ _ _ rfl rfl).elim
    · exact (h6 _ _ rfl rfl).elim
    · exact (h7 _ _ _ _ _ rfl rfl).elim
    · exact (h8 _ _ _ rfl rfl).elim
    · exact (h9 _ _ _ rfl rfl).elim
    · exact (h10 _ _ _ _ _ rfl rfl).elim
    · exact (h11 _ _ rfl rfl).elim
    · exact (h12 _ _ _ rfl rfl).elim
    · exact (h13 _ _ rfl rfl).elim
    · exact (h14 _ rfl rfl).elim
    · exact (h15 _ rfl rfl).elim
    · exact (h16 rfl rfl).elim
    · exact (h17 _ _ rfl rfl).elim
    · exact (h18 rfl rfl).elim
    · exact (h19 _ _ _ rfl rfl).elim
    · exact (h20 rfl rfl).elim
    · exact (h21 _ _ _ _ _ _ rfl rfl).elim
    · exact h.elim
theorem tL_5900 {sy : List Sym} {A : Tm} {vis : List Nat} {lv : Nat} (R : rdQ sy A 0 vis) (hc : cQ sy A 0 lv ≤ 3001) : tL A 0 ≤ 5900 := by
  have h : 4 * tL A 0 + 8 ≤ 7 * cQ sy A 0 lv := tL_b A 0 vis R lv
  omega
