/-! the component's core: a byte -/
section
variable {k d : Nat} {h0 h : mj_H} {s s' : Cr} {w w' : Wd}
theorem n_not15 {o : Nat} (ho : 15 ≤ o) (ho2 : o < 2 ^ 31) {j : Nat} (hj : j < 15) : ¬ nI o = nI j := fun z => by have := (nI_eq (by omega) (by omega)).mp z; omega
theorem k_op2 {o : Nat} (a : RS k h0 s w h) (hl : s.1 15 = 0 ∨ s.1 15 = 1) (ho : 15 ≤ o) (ho2 : o < 2 ^ 31) (e : cSch s w o = some (s', w')) : cDoW k h0 s' w' (mj_R mg (d + 6) mq_180 (0, [(0, vR 13 k), (1, vI (nI o))], [], h)) := by
  obtain ⟨h1, q1, a1⟩ := k_sch (d := d) a hl ho e
  have nn : ∀ j, j < 15 → ¬ nI o = nI j := fun j hj => n_not15 ho ho2 hj
  rw [q_180_0, if_neg (show ¬ nI o = 0 from nn 0 (by omega)), if_neg (show ¬ nI o = 1 from nn 1 (by omega)), if_neg (show ¬ nI o = 2 from nn 2 (by omega)), if_neg (show ¬ nI o = 3 from nn 3 (by omega)), if_neg (show ¬ nI o = 4 from nn 4 (by omega)), if_neg (show ¬ nI o = 5 from nn 5 (by omega)), if_neg (show ¬ nI o = 6 from nn 6 (by omega)), if_neg (show ¬ nI o = 7 from nn 7 (by omega)), if_neg (show ¬ nI o = 8 from nn 8 (by omega)), if_neg (show ¬ nI o = 9 from nn 9 (by omega)), if_neg (show ¬ nI o = 10 from nn 10 (by omega)), if_neg (show ¬ nI o = 11 from nn 11 (by omega)), if_neg (show ¬ nI o = 12 from nn 12 (by omega)), if_neg (show ¬ nI o = 13 from nn 13 (by omega)), if_neg (show ¬ nI o = 14 from nn 14 (by omega)), q1, mj_xv_ret, q_180_356_2]
  exact ⟨_, rfl, a1⟩
/-- FILL of nothing -/
theorem k_op14 (a : RF k h0 s h) (hb : s.1 9 < 0) (e : cOpr s 14 = some s') : cDo k h0 s' (mj_R mg (d + 4) mq_180 (0, [(0, vR 13 k), (1, vI (nI 14))], [], h)) := by
  have z : (s.1 9).toNatClampNeg = 0 := by
    have e3 : (s.1 9).toNatClampNeg = (s.1 9).toInt.toNat := rfl
    have e4 : (s.1 9).toInt < 0 := Int32.lt_iff_toInt_lt.mp hb
    omega
  simp only [cOpr, z] at e
  have e9 : sR (sR (sR s 8 0) 9 0) 10 0 = s' := Option.some.inj e
  subst e9
  have g9 := a.g 9 (by omega) (by omega)
  rw [q_180_0, if_neg (by decide), if_neg (by decide), if_neg (by decide), if_neg (by decide), if_neg (by decide), if_neg (by decide), if_neg (by decide), if_neg (by decide), if_neg (by decide), if_neg (by decide), if_neg (by decide), if_neg (by decide), if_neg (by decide), if_neg (by decide), if_pos (by decide), q_180_302, g9, if_pos (Int32.le_of_lt hb), q_180_356_4]
  exact ⟨_, rfl, ((a.r 8 _ (by omega) (by omega)).r 9 _ (by omega) (by omega)).r 10 _ (by omega) (by omega)⟩
theorem nI_and15 (x : Nat) : nI x &&& 15 = nI (x % 16) := by
  rw [← Nat.and_two_pow_sub_one_eq_mod x 4]
  apply Int32.toBitVec_inj.mp
  show BitVec.ofNat 32 x &&& BitVec.ofNat 32 15 = BitVec.ofNat 32 (x &&& 15)
  rw [BitVec.ofNat_and]
theorem by_sh (x : Fin 256) : nI x.1 >>> ((4 : Int32) &&& 31) = nI (x.1 / 16) ∧ nI x.1 &&& 15 = nI (x.1 % 16) := ⟨sh_4 (by have := x.2; omega), nI_and15 _⟩
/-- a byte -/
theorem k_byte {x : Nat} {s1 : Cr} (a : RS k h0 s w h) (hl : s.1 15 = 0 ∨ s.1 15 = 1) (hi : mj_in (s.1 11) 6000) (hb : h.1 69 k (s.1 11).toNatClampNeg &&& 255 = nI x) (hx : x < 256) (e : cByte s w x = some (s1, w')) (e2 : cSettle s1 = some s') : cDoW k h0 s' w' (mj_R mg (d + 7) mq_178 (0, [(0, vR 13 k)], [], h)) := by
  have g11 := a.f.g 11 (by omega) (by omega)
  have B1 := a.f.r 11 (s.1 11 + 1) (by omega) (by omega)
  have B2 := B1.r 17 (s.1 17 + 1) (by omega) (by omega)
  have B3 := B2.r 16 (s.1 16 + 1) (by omega) (by omega)
  have e17 : (mj_sI h 13 k 11 (s.1 11 + 1)).1 13 k 17 = s.1 17 := B1.g 17 (by omega) (by omega)
  have e16 : (mj_sI (mj_sI h 13 k 11 (s.1 11 + 1)) 13 k 17 (s.1 17 + 1)).1 13 k 16 = s.1 16 := B2.g 16 (by omega) (by omega)
  have e13 : (mj_sI (mj_sI (mj_sI h 13 k 11 (s.1 11 + 1)) 13 k 17 (s.1 17 + 1)) 13 k 16 (s.1 16 + 1)).1 13 k 13 = s.1 13 := B3.g 13 (by omega) (by omega)
  obtain ⟨b1, b2⟩ := by_sh ⟨x, hx⟩
  have b1 : nI x >>> ((4 : Int32) &&& 31) = nI (x / 16) := b1
  have b2 : nI x &&& 15 = nI (x % 16) := b2
  have fin : ∀ (x1 x2 x3 : Int32) (h1 : mj_H), RS k h0 s1 w' h1 → cDoW k h0 s' w' (mj_R mg (d + 7) mq_178 (116, [(3, vI x3), (2, vI x2), (1, vI x1), (0, vR 13 k)], [], h1)) := by
    intro x1 x2 x3 h1 a1
    obtain ⟨h2, q2, a2⟩ := k_settle (d := d + 5) a1.f e2
    rw [q_178_116, q2, mj_xv_ret]
    exact ⟨_, rfl, a1.up a2⟩
  rw [q_178_0, g11, if_pos hi, hb, b1, b2, e17, e16, e13]
  unfold cByte at e
  by_cases c2 : x / 16 = 2
  · rw [if_pos c2] at e
    have e9 := Option.some.inj e
    cases e9
    rw [if_neg (fun z => z (by rw [c2]; rfl))]
    exact fin _ _ _ _ (a.up (B3.r 13 _ (by omega) (by omega)))
  · rw [if_neg c2] at e
    rw [if_pos (show ¬ nI (x / 16) = 2 from fun z => c2 ((nI_eq (b := 2) (by omega) (by omega)).mp z))]
    by_cases c6 : x / 16 = 6
    · rw [if_pos c6] at e
      have e9 := Option.some.inj e
      cases e9
      rw [if_neg (fun z => z (by rw [c6]; rfl))]
      exact fin _ _ _ _ (a.up (B3.r 13 _ (by omega) (by omega)))
    · rw [if_neg c6] at e
      rw [if_pos (show ¬ nI (x / 16) = 6 from fun z => c6 ((nI_eq (b := 6) (by omega) (by omega)).mp z))]
      have B4 := B3.r 13 0 (by omega) (by omega)
      by_cases c15 : x / 16 = 15
      · rw [if_pos c15] at e
        rw [if_neg (fun z => z (by rw [c15]; rfl))]
        by_cases q : (s.1 13 ||| nI (x % 16)).toNatClampNeg < 15
        · rw [if_pos q] at e
          by_cases q0 : s.1 13 ||| nI (x % 16) < 0
          · rw [if_pos q0] at e; cases e
          · rw [if_neg q0] at e
            obtain ⟨t, t1, t2⟩ := Option.map_eq_some_iff.mp e
            cases t2
            obtain ⟨n1, n2⟩ := n_cl q0
            generalize (s.1 13 ||| nI (x % 16)).toNatClampNeg = n at n1 n2 q t1
            rw [n1]
            have go : cDo k h s1 (mj_R mg (d + 6) mq_180 (0, [(0, vR 13 k), (1, vI (nI n))], [], mj_sI (mj_sI (mj_sI (mj_sI h 13 k 11 (s.1 11 + 1)) 13 k 17 (s.1 17 + 1)) 13 k 16 (s.1 16 + 1)) 13 k 13 0)) := by
              by_cases f : n = 14
              · subst f
                by_cases f2 : 0 ≤ s.1 9
                · exact k_opr (d := d + 2) B4 t1 (fun _ => f2)
                · exact k_op14 (d := d + 2) B4 (Int32.not_le.mp f2) t1
              · exact k_opr (d := d + 2) B4 t1 (fun z => (f z).elim)
            obtain ⟨h2, q2, a2⟩ := go
            rw [q2, mj_xv_ret]
            exact fin _ _ _ _ (a.up a2)
        · rw [if_neg q] at e
          have q0 : ¬ (s.1 13 ||| nI (x % 16)) < 0 := by
            intro z
            have e3 : (s.1 13 ||| nI (x % 16)).toNatClampNeg = (s.1 13 ||| nI (x % 16)).toInt.toNat := rfl
            have e4 : (s.1 13 ||| nI (x % 16)).toInt < 0 := Int32.lt_iff_toInt_lt.mp z
            omega
          obtain ⟨n1, n2⟩ := n_cl q0
          generalize (s.1 13 ||| nI (x % 16)).toNatClampNeg = n at n1 n2 q e
          rw [n1]
          obtain ⟨h2, q2, a2⟩ := k_op2 (d := d) (a.up B4) hl (by omega) n2 e
          rw [q2, mj_xv_ret]
          exact fin _ _ _ _ a2
      · rw [if_neg c15] at e
        rw [if_pos (show ¬ nI (x / 16) = 15 from fun z => c15 ((nI_eq (b := 15) (by omega) (by omega)).mp z))]
        obtain ⟨t, t1, t2⟩ := Option.map_eq_some_iff.mp e
        cases t2
        obtain ⟨h2, q2, a2⟩ := k_dir (d := d + 4) B4 hl t1
        rw [q2, mj_xv_ret]
        exact fin _ _ _ _ (a.up a2)
theorem k_step {cd : Nat → Nat} (a : RS k h0 s w h) (hl : s.1 15 = 0 ∨ s.1 15 = 1) (hb : ∀ x, x < 6000 → cd x < 256 → h.1 69 k x &&& 255 = nI (cd x)) (e : cStep cd s w = some (s', w')) : cDoW k h0 s' w' (mj_R mg (d + 7) mq_178 (0, [(0, vR 13 k)], [], h)) := by
  unfold cStep at e
  by_cases c : mj_in (s.1 11) 6000 ∧ cd (s.1 11).toNatClampNeg < 256
  · rw [if_pos c] at e
    obtain ⟨⟨t, v⟩, t1, t2⟩ := Option.bind_eq_some_iff.mp e
    obtain ⟨u, u1, u2⟩ := Option.map_eq_some_iff.mp t2
    cases u2
    have e3 : (s.1 11).toNatClampNeg = (s.1 11).toInt.toNat := rfl
    have i1 := c.1.1
    have i2 := c.1.2
    exact k_byte a hl c.1 (hb _ (by omega) c.2) c.2 t1 u1
  · rw [if_neg c] at e; cases e
end
