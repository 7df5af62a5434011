/-! rows: seven loops, the inner one of eight: the second claim -/
section
variable {kp : Nat → Bool} {fl : Bool} {sy : List Sym} {pb : Nat → Nat} {pa : List (List Nat)}
theorem w7_fix {s a : Nat} {e : Tm} (hf : fixE sy e = true) : wHv sy s 147 168 168 147 24 (.elem (.arg a) e) ≤ 21 * (ncs sy a + 2 + cE sy e) + 63 := by
  have n1 : ∀ x, 1 ≤ ncs sy x := fun x => nc_1 _
  have na := n1 a
  by_cases c1 : ∃ j, e = .arg j
  · obtain ⟨j, rfl⟩ := c1
    have nj := n1 j
    have hj : srO sy j = 11 := beq_iff_eq.mp hf
    show (if j = s then (if ncs sy a = 1 then 147 else 168) else if srO sy j = 11 then 147 else 24) ≤ 21 * (ncs sy a + 2 + ncs sy j) + 63
    by_cases e1 : j = s
    · rw [if_pos e1]
      by_cases e2 : ncs sy a = 1
      · rw [if_pos e2]; omega
      · rw [if_neg e2]
        have : ncs sy a = 2 := nc_2 _ e2
        omega
    · rw [if_neg e1, if_pos hj]; omega
  by_cases c2 : ∃ v, e = .int v
  · obtain ⟨v, rfl⟩ := c2
    show 147 ≤ 21 * (ncs sy a + 2 + 1) + 63
    omega
  · have h3 := cE_3 hf (fun j hj => c1 ⟨j, hj⟩) (fun v hv => c2 ⟨v, hv⟩)
    have : wHv sy s 147 168 168 147 24 (.elem (.arg a) e) = 168 := by
      unfold wHv
      split
      · rename_i hh; cases hh; exact (c1 ⟨_, rfl⟩).elim
      · rename_i hh; cases hh; exact (c2 ⟨_, rfl⟩).elim
      · rename_i hh; cases hh; exact if_pos hf
      · rename_i q1 q2 q3; exact (q3 _ _ rfl).elim
    rw [this]
    omega
theorem w7_dyn {s a : Nat} {e : Tm} (hs : srO sy s = 11) (hf : fixE sy e = false) : wHv sy s 147 168 168 147 24 (.elem (.arg a) e) = 24 := by
  unfold wHv
  split
  · rename_i a' j hh
    cases hh
    have hj : srO sy j ≠ 11 := fun z => by
      have : (srO sy j == 11) = false := hf
      rw [z] at this; cases this
    have e1 : j ≠ s := fun z => hj (z ▸ hs)
    rw [if_neg e1, if_neg hj]
  · rename_i hh; cases hh; cases hf
  · rename_i hh; cases hh; exact if_neg (by rw [hf]; decide)
  · rfl
theorem w7_smp {s : Nat} : ∀ y, smp y = true → wtS (wHv sy s 147 168 168 147 24) (lvE kp y) ≤ 21 * cE sy y + 3 := by
  intro y
  induction y using smp.induct with
  | case1 v => exact fun _ => Nat.zero_le _
  | case2 x =>
    intro _
    have : 1 ≤ ncs sy x := nc_1 _
    show wtS _ (if kp x then [Jvm.Term.arg x] else []) ≤ 21 * ncs sy x + 3
    cases kp x with
    | true => show 24 + 0 ≤ _; omega
    | false => exact Nat.zero_le _
  | case3 e ih =>
    intro h
    have := ih h
    show wtS _ (lvE kp e) ≤ 21 * (2 + cE sy e) + 3
    omega
  | case4 e h1 h2 h3 =>
    intro h
    unfold smp at h
    split at h
    · exact (h1 _ rfl).elim
    · exact (h2 _ rfl).elim
    · exact (h3 _ rfl).elim
    · cases h
/-- with at most one word more, and at most eight brackets -/
theorem prE7 {s : Nat} (hs : srO sy s = 11) (hk : ∀ s, srO sy s = 11 → kp s = false) {vis : List Nat} : ∀ (D : Nat) (e : Tm), shE sy vis D e → D ≤ 8 →
    (exw e ≤ 1 → wtS (wHv sy s 147 168 168 147 24) (lvE kp e) ≤ 21 * cE sy e + 102 + 3 * D ∧ (opS e = true → wtS (wHv sy s 147 168 168 147 24) (lvE kp e) ≤ 21 * cE sy e + 60 + 3 * D)) ∧
    (exw e = 0 → wtS (wHv sy s 147 168 168 147 24) (lvE kp e) ≤ 21 * cE sy e + 84 ∧ (opS e = true → wtS (wHv sy s 147 168 168 147 24) (lvE kp e) ≤ 21 * cE sy e + 63)) := by
  intro D e
  generalize hw : wHv sy s 147 168 168 147 24 = w
  induction D, e using shE.induct with
  | case1 D v => exact fun _ _ => ⟨fun _ => ⟨Nat.zero_le _, fun _ => Nat.zero_le _⟩, fun _ => ⟨Nat.zero_le _, fun _ => Nat.zero_le _⟩⟩
  | case2 D x =>
    intro _ _
    have n1 : 1 ≤ ncs sy x := nc_1 _
    have h : wtS w (lvE kp (.arg x)) ≤ 21 * cE sy (.arg x) + 3 := by
      have := w7_smp (kp := kp) (sy := sy) (s := s) (.arg x) rfl
      rw [hw] at this
      exact this
    exact ⟨fun _ => ⟨by omega, fun _ => by omega⟩, fun _ => ⟨by omega, fun _ => by omega⟩⟩
  | case3 D x e ih =>
    intro h hD
    have hD1 : 1 ≤ D := h.2.1
    have n1 : 1 ≤ ncs sy x := nc_1 _
    obtain ⟨i1, i2⟩ := ih h.2.2 (by omega)
    have e0 : exw (.elem (.arg x) e) = exw e := rfl
    have e1 : wtS w (lvE kp (.elem (.arg x) e)) = wtS w (lvE kp e) + w (.elem (.arg x) e) := by
      show wtS w (lvE kp e ++ [.elem (.arg x) e]) = _
      rw [wtS_app]
      rfl
    have e2 : cE sy (.elem (.arg x) e) = ncs sy x + 2 + cE sy e := rfl
    cases hf : fixE sy e with
    | true =>
      have k1 := w7_fix (s := s) (a := x) hf
      rw [hw] at k1
      rw [fix_lv hk e hf] at e1
      have e3 : wtS w [] = 0 := rfl
      exact ⟨fun _ => ⟨by omega, fun _ => by omega⟩, fun _ => ⟨by omega, fun _ => by omega⟩⟩
    | false =>
      have k1 := w7_dyn (a := x) hs hf
      rw [hw] at k1
      rw [e0]
      refine ⟨fun hx => ?_, fun hx => ?_⟩
      · have := (i1 hx).1
        exact ⟨by omega, fun _ => by omega⟩
      · have := (i2 hx).1
        exact ⟨by omega, fun _ => by omega⟩
  | case4 D e ih =>
    intro h hD
    obtain ⟨i1, i2⟩ := ih h.2 hD
    have e0 : exw (.length e) = exw e := rfl
    have e1 : lvE kp (.length e) = lvE kp e := rfl
    have e2 : cE sy (.length e) = 1 + cE sy e := rfl
    rw [e0, e1]
    refine ⟨fun hx => ⟨?_, fun z => Bool.noConfusion z⟩, fun hx => ⟨?_, fun z => Bool.noConfusion z⟩⟩
    · have := (i1 hx).1; omega
    · have := (i2 hx).1; omega
  | case5 D e ih =>
    intro h hD
    obtain ⟨i1, i2⟩ := ih h.2 hD
    have e0 : exw (.sum e) = exw e := rfl
    have e1 : lvE kp (.sum e) = lvE kp e := rfl
    have e2 : cE sy (.sum e) = 3 + cE sy e := rfl
    rw [e0, e1]
    refine ⟨fun hx => ⟨?_, fun z => Bool.noConfusion z⟩, fun hx => ⟨?_, fun z => Bool.noConfusion z⟩⟩
    · have := (i1 hx).1; omega
    · have := (i2 hx).1; omega
  | case6 D e ih =>
    intro h hD
    have hD1 : 1 ≤ D := h.1
    obtain ⟨i1, i2⟩ := ih h.2 (by omega)
    have e0 : exw (.old e) = exw e := rfl
    have e1 : lvE kp (.old e) = lvE kp e := rfl
    have e2 : cE sy (.old e) = 2 + cE sy e := rfl
    rw [e0, e1]
    refine ⟨fun hx => ?_, fun hx => ?_⟩
    · have := (i1 hx).1
      exact ⟨by omega, fun _ => by omega⟩
    · have := (i2 hx).1
      exact ⟨by omega, fun _ => by omega⟩
  | case7 D op x y ih1 ih2 =>
    intro h hD
    obtain ⟨i1, i2⟩ := ih1 h.2.2.1 hD
    obtain ⟨j1, j2⟩ := ih2 h.2.2.2 hD
    have e0 : exw (.add (.index op) (.sub x y)) = max (exw y) (exw x + if op = 65 ∨ op = 79 ∨ smp y = true then 0 else 1) := rfl
    have e1 : wtS w (lvE kp (.add (.index op) (.sub x y))) = wtS w (lvE kp x) + wtS w (lvE kp y) := wtS_app w (lvE kp x) (lvE kp y)
    have e2 : cE sy (.add (.index op) (.sub x y)) = cE sy x + cE sy y + if op = 65 ∨ op = 79 then 2 else 1 := rfl
    rw [e0, e1, e2]
    by_cases ho : op = 65 ∨ op = 79
    · have ho' : op = 65 ∨ op = 79 ∨ smp y = true := by omega
      rw [if_pos ho, if_pos ho']
      refine ⟨fun hx => ⟨?_, fun z => Bool.noConfusion z⟩, fun hx => ⟨?_, fun z => Bool.noConfusion z⟩⟩
      · have q1 := (i1 (by omega)).2 h.1
        have q2 := (j1 (by omega)).2 h.2.1
        omega
      · have q1 := (i2 (by omega)).2 h.1
        have q2 := (j2 (by omega)).2 h.2.1
        omega
    · rw [if_neg ho]
      by_cases hsm : smp y = true
      · have ho' : op = 65 ∨ op = 79 ∨ smp y = true := Or.inr (Or.inr hsm)
        have q2 := w7_smp (kp := kp) (sy := sy) (s := s) y hsm
        rw [hw] at q2
        rw [if_pos ho']
        refine ⟨fun hx => ⟨?_, fun z => Bool.noConfusion z⟩, fun hx => ⟨?_, fun z => Bool.noConfusion z⟩⟩
        · have q1 := (i1 (by omega)).2 h.1
          omega
        · have q1 := (i2 (by omega)).2 h.1
          omega
      · have ho' : ¬ (op = 65 ∨ op = 79 ∨ smp y = true) := by
          rintro (z | z | z)
          · exact ho (Or.inl z)
          · exact ho (Or.inr z)
          · exact hsm z
        rw [if_neg ho']
        refine ⟨fun hx => ⟨?_, fun z => Bool.noConfusion z⟩, fun hx => by omega⟩
        have q1 := (i2 (by omega)).2 h.1
        have q2 := (j1 (by omega)).2 h.2.1
        omega
  | case8 D e h1 h2 h3 h4 h5 h6 h7 =>
    intro x
    unfold shE at x
    split at x
    · exact (h1 _ rfl).elim
    · exact (h2 _ rfl).elim
    · exact (h3 _ _ rfl).elim
    · exact (h4 _ rfl).elim
    · exact (h5 _ rfl).elim
    · exact (h6 _ rfl).elim
    · exact (h7 _ _ _ rfl).elim
    · exact x.elim
theorem zc7 {s : Nat} (hs : srO sy s = 11) (hk : ∀ s, srO sy s = 11 → kp s = false) : ∀ (A : Tm) (md : Nat) (vis : List Nat), rdQ sy A md vis → zn 1 A md → ∀ lv, 7 ≤ lv → wtS (wHv sy s 147 168 168 147 24) (lvQ kp pa A md) + 42 * (dsQ A md).length + kK 126 md false ≤ 21 * cQ sy A md lv := by
  have pe : ∀ {vis : List Nat} {e : Tm}, shE sy vis 8 e → exw e ≤ 1 → wtS (wHv sy s 147 168 168 147 24) (lvE kp e) ≤ 21 * cE sy e + 126 ∧ (opS e = true → wtS (wHv sy s 147 168 168 147 24) (lvE kp e) ≤ 21 * cE sy e + 84) := by
    intro vis e h hx
    obtain ⟨h1, h2⟩ := (prE7 hs hk 8 e h (Nat.le_refl _)).1 hx
    exact ⟨by omega, fun z => by have := h2 z; omega⟩
  intro A md vis
  generalize hw : wHv sy s 147 168 168 147 24 = w at pe ⊢
  induction A, md, vis using rdQ.induct with
  | case1 u s c p vis ih =>
    intro h z lv hlv
    have i1 : wtS w (lvQ kp pa p 0) + 42 * (dsQ p 0).length + 126 ≤ _ := ih h.2 z lv hlv
    have c2 := cN_2 sy s c
    show wtS w (lvQ kp pa p 0) + 42 * (List.range' s c ++ dsQ p 0).length + 126 ≤ 21 * (2 * lv + 4 + (if 0 < szO sy s then 3 else 0) + cN sy s c + cQ sy p 0 lv)
    rw [List.length_append, List.length_range']
    omega
  | case2 u v e vis =>
    intro h z lv hlv
    have e1 := (pe h.2.2.1 z.1).2 (thI_op h.2.1)
    have e2 := (pe h.2.2.2 z.2).1
    show wtS w (lvE kp e ++ lvE kp v) + 42 * 0 + 126 ≤ 21 * (2 * lv + 3 + cE sy v + cE sy e)
    rw [wtS_app]
    omega
  | case3 u v e vis =>
    intro h z lv hlv
    have e1 := (pe h.2.2.1 z.1).2 (thI_op h.2.1)
    have e2 := (pe h.2.2.2 z.2).1
    show wtS w (lvE kp e ++ lvE kp v) + 42 * 0 + 126 ≤ 21 * (2 * lv + 2 + cE sy v + cE sy e)
    rw [wtS_app]
    omega
  | case4 u v e vis =>
    intro h z lv hlv
    have e1 := (pe h.2.2.1 z.1).2 (thI_op h.2.1)
    have e2 := (pe h.2.2.2.2 z.2).1
    show wtS w (lvE kp v ++ lvE kp e) + 42 * 0 + 126 ≤ 21 * (2 * lv + 2 + cE sy v + cE sy e)
    rw [wtS_app]
    omega
  | case5 u p as vis =>
    intro h z
    have z' : 7 ≤ 1 := z
    omega
  | case6 u ps vis ih =>
    intro h z lv hlv
    have i1 : wtS w (lvQ kp pa ps 1) + 42 * (dsQ ps 1).length + 0 ≤ _ := ih h.2 z (lv + 1) (by omega)
    show wtS w (lvQ kp pa ps 1) + 42 * (dsQ ps 1).length + 126 ≤ 21 * (2 * lv + 4 + cQ sy ps 1 (lv + 1))
    omega
  | case7 u s e1 e2 p vis ih =>
    intro h z lv hlv
    have i1 : wtS w (lvQ kp pa p 0) + 42 * (dsQ p 0).length + 126 ≤ _ := ih h.2.2.2 z.2.2 (lv + 1) (by omega)
    have q1 := (pe h.2.1 z.1).1
    have q2 := (pe h.2.2.1 z.2.1).1
    have n1 : 1 ≤ ncs sy s := nc_1 _
    show wtS w (lvE kp e1 ++ lvE kp e2 ++ lvQ kp pa p 0) + 42 * ((dsQ p 0).length + 1) + 126 ≤ 21 * (2 * lv + 8 + ncs sy s + cE sy e1 + cE sy e2 + cQ sy p 0 (lv + 1))
    rw [wtS_app, wtS_app]
    omega
  | case8 u z0 ps vis ih => exact fun h z => z.elim
  | case9 u z0 ps vis ih => exact fun h z => z.elim
  | case10 u s b m p vis ih => exact fun h z => z.elim
  | case11 u gs vis ih =>
    intro h z lv hlv
    have i1 : wtS w (lvQ kp pa gs 2) + 42 * (dsQ gs 2).length + 0 ≤ _ := ih h.2 z lv hlv
    show wtS w (lvQ kp pa gs 2) + 42 * (dsQ gs 2).length + 126 ≤ 21 * (2 * lv + 3 + cQ sy gs 2 lv)
    omega
  | case12 u e p vis ih =>
    intro h z lv hlv
    have i1 : wtS w (lvQ kp pa p 0) + 42 * (dsQ p 0).length + 126 ≤ _ := ih h.2.2 z.2 (lv + 1) (by omega)
    have q1 := (pe h.2.1 z.1).1
    show wtS w (lvE kp e ++ lvQ kp pa p 0) + 42 * (dsQ p 0).length + 126 ≤ 21 * (2 * lv + 6 + cE sy e + cQ sy p 0 (lv + 1))
    rw [wtS_app]
    omega
  | case13 u gs vis ih =>
    intro h z lv hlv
    have i1 : wtS w (lvQ kp pa gs 3) + 42 * (dsQ gs 3).length + 0 ≤ _ := ih h.2.2 z lv hlv
    show wtS w (lvQ kp pa gs 3) + 42 * (dsQ gs 3).length + 126 ≤ 21 * (2 * lv + 4 + cQ sy gs 3 lv)
    omega
  | case14 u vis =>
    intro h z lv hlv
    show 0 + 42 * 0 + 126 ≤ 21 * (2 * lv + 5)
    omega
  | case15 u vis =>
    intro h z lv hlv
    show 0 + 42 * 0 + 126 ≤ 21 * (2 * lv + 5)
    omega
  | case16 vis => exact fun h z lv hlv => Nat.zero_le _
  | case17 p ps vis ih1 ih2 =>
    intro h z lv hlv
    have i1 : wtS w (lvQ kp pa p 0) + 42 * (dsQ p 0).length + 126 ≤ _ := ih1 h.1 z.1 lv hlv
    have i2 : wtS w (lvQ kp pa ps 1) + 42 * (dsQ ps 1).length + 0 ≤ _ := ih2 h.2 z.2 lv hlv
    show wtS w (lvQ kp pa p 0 ++ lvQ kp pa ps 1) + 42 * (dsQ p 0 ++ dsQ ps 1).length + 0 ≤ 21 * (cQ sy p 0 lv + cQ sy ps 1 lv)
    rw [wtS_app, List.length_append]
    omega
  | case18 vis => exact fun h z lv hlv => Nat.zero_le _
  | case19 e p gs vis ih1 ih2 =>
    intro h z lv hlv
    have i1 : wtS w (lvQ kp pa p 0) + 42 * (dsQ p 0).length + 126 ≤ _ := ih1 h.2.1 z.2.1 (lv + 2) (by omega)
    have i2 : wtS w (lvQ kp pa gs 2) + 42 * (dsQ gs 2).length + 0 ≤ _ := ih2 h.2.2 z.2.2 lv hlv
    have q1 := (pe h.1 z.1).1
    show wtS w (lvE kp e ++ lvQ kp pa p 0 ++ lvQ kp pa gs 2) + 42 * (dsQ p 0 ++ dsQ gs 2).length + 0 ≤ 21 * (2 * lv + 3 + cE sy e + cQ sy p 0 (lv + 2) + cQ sy gs 2 lv)
    rw [wtS_app, wtS_app, List.length_append]
    omega
  | case20 vis => exact fun h z lv hlv => Nat.zero_le _
  | case21 u e c v p gs vis ih1 ih2 =>
    intro h z lv hlv
    have i1 : wtS w (lvQ kp pa p 0) + 42 * (dsQ p 0).length + 126 ≤ _ := ih1 h.2.2.2.1 z.2.2.2.1 (lv + 2) (by omega)
    have i2 : wtS w (lvQ kp pa gs 3) + 42 * (dsQ gs 3).length + 0 ≤ _ := ih2 h.2.2.2.2 z.2.2.2.2 lv hlv
    have ge : wtS w (lvE kp e) ≤ 21 * (if e = .null then 0 else cE sy e + 1) + 126 := by
      rcases h.2.1 with rfl | he
      · exact Nat.zero_le _
      · have q1 := (pe he z.1).1
        rw [if_neg (shE_nn he)]
        omega
    have gc : wtS w (lvE kp c) + wtS w (lvE kp v) ≤ 21 * (if c = .null then 4 else cE sy c + 1 + cE sy v) + 168 := by
      rcases h.2.2.1 with ⟨rfl, rfl⟩ | ⟨t1, t2, t3, t4⟩
      · exact Nat.zero_le _
      · have q1 := (pe t2 z.2.1).2 (thI_op t1)
        have q2 := (pe t4 z.2.2.1).2 (thI_op t3)
        rw [if_neg (thI_nn t1)]
        omega
    show wtS w (lvE kp e ++ (lvE kp c ++ lvE kp v) ++ lvQ kp pa p 0 ++ lvQ kp pa gs 3) + 42 * (dsQ p 0 ++ dsQ gs 3).length + 0 ≤ 21 * (2 * lv + 3 + ((if e = .null then 0 else cE sy e + 1) + if c = .null then 4 else cE sy c + 1 + cE sy v) + cQ sy p 0 (lv + 2) + cQ sy gs 3 lv)
    rw [wtS_app, wtS_app, wtS_app, wtS_app, List.length_append]
    omega
  | case22 A md vis h1 h2 h3 h4 h5 h6 h7 h8 h9 h10 h11 h12 h13 h14 h15 h16 h17 h18 h19 h20 h21 =>
    intro h
    unfold rdQ at h
    split at h
    · exact (h1 _ _ _ _ rfl rfl).elim
    · exact (h2 _ _ _ rfl rfl).elim
    · exact (h3 _ _ _ rfl rfl).elim
    · exact (h4 _ _ _ rfl rfl).elim
    · exact (h5 _ _ _ rfl rfl).elim
    · exact (h6 _ _ rfl rfl).elim
    · exact (h7 _ _ _ _ _ rfl rfl).elim
    · exact (h8 _ _ _ rfl rfl).elim
    · exact (h9 _ _ _ rfl rfl).elim
    · exact (h10 _ _ _ _ _ rfl rfl).elim
    · exact (h11 _ _ rfl rfl).elim
    · exact (h12 _ _ _ rfl rfl).elim
    · exact (h13 _ _ rfl rfl).elim
    · exact (h14 _ rfl rfl).elim
    · exact (h15 _ rfl rfl).elim
    · exact (h16 rfl rfl).elim
    · exact (h17 _ _ rfl rfl).elim
    · exact (h18 rfl rfl).elim
    · exact (h19 _ _ _ rfl rfl).elim
    · exact (h20 rfl rfl).elim
    · exact (h21 _ _ _ _ _ _ rfl rfl).elim
    · exact h.elim
theorem hv78 {s p2 lv : Nat} {A : Tm} {vis AL : List Nat} {r : Nv} {Z : List (List Nv)} (hk : ∀ s, srO sy s = 11 → kp s = false) (R : rdQ sy A 0 vis) (z : zn 1 A 0) (hs : srO sy s = 11) (I : ivZ Z 56 7) (I2 : ∀ j, j ≠ s → fkS (vQ j) Z + 1 ≤ p2) (h2 : p2 ≤ 40) (hlv : 7 ≤ lv) (hAL : ∀ a, fnv sy vis a → arrS (srO sy a) = true → a ∈ AL) : wP kp fl sy pb pa A 0 r Z + 42 ≤ 7 * cQ sy A 0 lv + 7 * min AL.length 26 := by
  have hV : fkS (vQ s) Z ≤ 55 := by have := I.1 s; omega
  have C := zc7 (pa := pa) hs hk A 0 vis R z lv hlv
  obtain ⟨a, b, d1, d2, N, D, k1, k2, k3, k4, k5, k6⟩ := hvN (kp := kp) (fl := fl) (pb := pb) (pa := pa) (r := r) (AL := AL) (kk := 126) (g := 42) R z hs I I2 (by omega) (by omega) (by omega) (by omega) hAL C
  have m1 : (d1 + d2) * fkS (vQ s) Z ≤ (d1 + d2) * 55 := Nat.mul_le_mul_left _ hV
  omega
end
