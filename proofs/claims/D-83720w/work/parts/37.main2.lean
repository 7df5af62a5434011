/-! the special operations in the main step; the returned answers of the small machine, whole -/
theorem mw_ml0a : ∀ cn, cn < 20 → ∀ q ∈ mw_ml cn, 366 ≤ q.2.1 → q.2.2.1 = 0 := by decide +kernel
theorem mw_ml0 (cn : Nat) (q : Nat × Nat × Nat × Nat) (h : q ∈ mw_ml cn) (h2 : 366 ≤ q.2.1) : q.2.2.1 = 0 := by
  rcases Nat.lt_or_ge cn 20 with z | z
  · exact mw_ml0a cn z q h h2
  · exfalso
    have : mw_ml cn = [] := by
      have b1 : ∀ k, k < 20 → Nat.ble cn k = false := fun k hk => by rw [← Bool.not_eq_true, Nat.ble_eq]; omega
      have b2 : ∀ k, k < 20 → Nat.beq cn k = false := fun k hk => by rw [← Bool.not_eq_true, Nat.beq_eq]; omega
      simp [mw_ml, mw_ml_0, mw_ml_1, mw_ml_2, b1, b2]
    rw [this] at h
    cases h
section Sound
variable {l : Launch} {dC : Nat → ClassId} {dI : Nat → Nat → Nat} {ad : Nat → Nat → Nat} {aV : Nat → Nat} {cA : Nat → ClassId} {E : State → Prop}
theorem mw_SP (hDD : ∀ h, va_D (mw_A ad) (mw_ws ad cA h)) (hEE : mw_ee ad aV E) (hEm : mw_EmP ad E) (n : Nat) (ih : mw_Main l dC dI ad cA E n) (d mi : Nat) (f : mj_F) (v : Option mj_V) (h' : mj_H) (P : mj_P) (hmi : mi < 366) (hP : mt_code mi f.1 = some P) (hsp : mw_spec P) (H : mj_ex mg (n + 1) d (mt_code mi) f = some (.inl (v, h'))) (p : Program) (e : Env) (s : State) (m : MethodId) (args : Array Value) (below : List Frame) (meth : Method) (c : Code) (X : mw_cx dC dI cA p s m args meth c mi) (hE : E s) : mw_W p l e (mw_rm d) s m args below meth c (MQ below (mw_Qc dC dI ad cA E v h') args s 0 0 (mw_A ad)) dC dI ad cA mi f := by
  obtain ⟨pc, lv, st, hh⟩ := f
  have H : mj_do (mj_nx mg (mt_code mi) (pc, lv, st, hh)) (mj_ex mg n d (mt_code mi)) (mj_down (mj_ex mg n) mg d) = some (.inl (v, h')) := H
  obtain ⟨o9, n9, a, b, c9, e9, v9⟩ := P
  have e1 : mj_nx mg (mt_code mi) (pc, lv, st, hh) = mj_i mg n9 a b c9 e9 v9 lv st hh o9 := by
    have hP : mt_code mi pc = some (o9, n9, a, b, c9, e9, v9) := hP
    simp only [mj_nx, hP]
  rw [e1] at H
  have hFL : ∀ cn x ci j nest, (x, ci, j, nest) ∈ mw_fl cn → mw_FL cn x ci j nest := fun cn x ci j nest h => mw_fl_in cn (x, ci, j, nest) h
  have go : ∀ {f : mj_F}, mj_ex mg n d (mt_code mi) f = some (.inl (v, h')) → mw_W p l e (mw_rm d) s m args below meth c (MQ below (mw_Qc dC dI ad cA E v h') args s 0 0 (mw_A ad)) dC dI ad cA mi f := fun hf => ih d mi _ v h' hmi hf p e s m args below meth c X hE
  have hOK := mw_ok_ok mi hmi
  have hR9 : 8 ≤ (mw_rm d).frames ∧ 512 ≤ (mw_rm d).locals := ⟨by simp only [mw_rm]; omega, by simp only [mw_rm]; omega⟩
  rcases hsp with h3 | h15 | h19 | h21 | h44 | ⟨h37, ha⟩
  · obtain rfl : o9 = 3 := h3
    obtain ⟨i, len, hd, hf⟩ := mw_OK_1 hOK hP rfl
    exact mw_o_cst X hE hEE hd hf (go (mw_do_gd (b := true) H).2)
  · obtain rfl : o9 = 15 := h15
    obtain ⟨i, len, hd, hf⟩ := mw_OK_0 hOK hP rfl
    have H : mj_do (mo_getD mg n9 a b c9 lv st hh) _ _ = _ := H
    unfold mo_getD at H
    split at H
    · rename_i g k r z1 z2
      obtain ⟨g1, H2⟩ := mw_do_gd H
      clear H
      rw [Bool.and_eq_true, decide_eq_true_eq] at g1
      have hz : ∃ x, mw_isF (mw_mc mi) x a b = true ∧ mw_fz a b = c9 + 4 := by
        have hf := hf
        simp only [mw_fit] at hf
        split at hf <;> simp only [Bool.and_eq_true, Nat.beq_eq, Bool.false_eq_true, beq_iff_eq] at hf
        exact ⟨_, hf.1.2, hf.2⟩
      obtain ⟨x9, hz⟩ := hz
      intro hok
      have hv : (g, k) ∈ mw_val := hok.2.1 _ List.mem_cons_self
      have hz2 := mw_fz_ge a b (by omega)
      obtain rfl : c9 = 16 := by omega
      obtain ⟨nest, q, hm, hq, hj, hN, hlt⟩ := mw_isF_spec hz.1
      have ha14 : a < 14 := by
        rcases Nat.lt_or_ge a 14 with z | z
        · exact z
        · have z1 : mw_cl.length ≤ a - 1 := by show 13 ≤ a - 1; omega
          rw [List.getElem?_eq_none_iff.mpr z1] at hq
          cases hq
      obtain ⟨rfl, rfl⟩ := mw_fz_20 a ha14 b (by rw [hN]; exact hj) hz2
      obtain ⟨g2, g3⟩ := mw_is_spec g1.1
      obtain ⟨rfl, rfl⟩ := Prod.mk.inj (mw_val_L (g, k) hv g2 g3)
      exact mw_o_getD X hFL hd hf g1.1 g1.2 ((hok.2.2 0 0 0).2 g1.2) (by decide) (go H2) hok
    · simp [mj_do] at H
  · obtain rfl : o9 = 19 := h19
    obtain ⟨i, len, hd, hf⟩ := mw_OK_0 hOK hP rfl
    have H : mj_do (mo_putD mg n9 a b c9 lv st hh) _ _ = _ := H
    unfold mo_putD at H
    split at H
    · obtain ⟨g1, H⟩ := mw_do_gd H
      rw [Bool.and_eq_true] at g1
      exact mw_o_putD X hDD hFL hd hf g1.1 g1.2 (go H)
    · simp [mj_do] at H
  · obtain rfl : o9 = 21 := h21
    obtain ⟨i, len, hd, hf⟩ := mw_OK_0 hOK hP rfl
    have H : mj_do (mo_ast mg n9 b lv st hh) _ _ = _ := H
    unfold mo_ast at H
    split at H
    · split at H
      · rename_i hg
        obtain ⟨g1, H⟩ := mw_do_gd H
        rw [Bool.and_eq_true, decide_eq_true_eq] at g1
        exact mw_o_astI X hDD hd hf hg g1.1 g1.2 (go H)
      · rename_i hg
        obtain ⟨g1, H⟩ := mw_do_gd H
        rw [Bool.and_eq_true, decide_eq_true_eq] at g1
        exact mw_o_astZ X hDD hd hf hg g1.1 g1.2 (go H)
      · rename_i hg
        obtain ⟨g1, H⟩ := mw_do_gd H
        rw [Bool.and_eq_true, decide_eq_true_eq] at g1
        exact mw_o_astB X hDD hd hf hg g1.1 g1.2 (go H)
      · simp [mj_do] at H
    · split at H
      · rename_i hg
        obtain ⟨g1, H⟩ := mw_do_gd H
        rw [Bool.and_eq_true, decide_eq_true_eq] at g1
        exact mw_o_astL X hDD hd hf hg g1.1 g1.2 (go H)
      · simp [mj_do] at H
    · split at H
      · rename_i hg
        obtain ⟨g1, H⟩ := mw_do_gd H
        rw [Bool.and_eq_true, Bool.and_eq_true, decide_eq_true_eq] at g1
        exact mw_o_astE X hE hEE hDD hd hf hg g1.1.1 g1.1.2 g1.2 (go H)
      · simp [mj_do] at H
    · simp [mj_do] at H
  · have h44 : 44 ≤ o9 := h44
    by_cases h0 : o9 = 44
    · subst h0
      have H : mj_do (mj_rt (Nat.ble (mj_wd st) 8) (.inr (a, hh))) _ _ = _ := H
      obtain ⟨-, e2⟩ := mw_do_rt H
      cases e2
    · have hsp1 : mw_sp o9 = 1 := by
        have q1 : Nat.beq o9 3 = false := by rw [← Bool.not_eq_true, Nat.beq_eq]; omega
        have q2 : Nat.beq o9 44 = false := by rw [← Bool.not_eq_true, Nat.beq_eq]; omega
        have q3 : Nat.ble 45 o9 = true := Nat.ble_eq_true_of_le (by omega)
        simp only [mw_sp, q1, q2, q3, cond_false, cond_true]
      obtain ⟨i, len, hd, hf⟩ := mw_OK_1 hOK hP hsp1
      match o9, h44, h0, hf, H with
      | 44, _, h0, _, _ => exact absurd rfl h0
      | 45, _, _, hf, H =>
        have H : mj_do (mo_sl mg n9 lv st hh) _ _ = _ := H
        unfold mo_sl at H
        split at H
        · obtain ⟨g1, H⟩ := mw_do_gd H
          rw [Bool.and_eq_true] at g1
          exact mw_o_sl X hE hEE hEm hR9 hd hf g1.1 g1.2 (go H)
        · simp [mj_do] at H
      | 46, _, _, hf, H =>
        have H : mj_do (mo_sc mg n9 lv st hh) _ _ = _ := H
        unfold mo_sc at H
        split at H
        · obtain ⟨g1, H⟩ := mw_do_gd H
          rw [Bool.and_eq_true, Bool.and_eq_true, decide_eq_true_eq] at g1
          exact mw_o_sc X hE hEE hEm hR9 hd hf g1.1.1 g1.1.2 g1.2 (go H)
        · simp [mj_do] at H
      | 47, _, _, hf, H =>
        have H : mj_do (mo_si mg n9 lv st hh) _ _ = _ := H
        unfold mo_si at H
        split at H
        · obtain ⟨g1, H⟩ := mw_do_gd H
          rw [Bool.and_eq_true] at g1
          exact mw_o_si X hE hEE hEm hR9 hd hf g1.1 g1.2 (go H)
        · simp [mj_do] at H
      | 48, _, _, hf, H =>
        have H : mj_do (mo_or n9 a lv st hh) _ _ = _ := H
        unfold mo_or at H
        split at H
        · obtain ⟨g1, H⟩ := mw_do_gd H
          rw [Bool.and_eq_true] at g1
          exact mw_o_or X hE hEE hEm hR9 hd hf g1.1 g1.2 (go H)
        · simp [mj_do] at H
      | 49, _, _, hf, H =>
        have H : mj_do (mo_wt n9 lv st hh) _ _ = _ := H
        unfold mo_wt at H
        split at H
        · obtain ⟨g1, H⟩ := mw_do_gd H
          exact mw_o_wt X hE hEE hd hf g1 (go H)
        · simp [mj_do] at H
      | z + 50, _, _, hf, _ => simp [mw_fitS] at hf
  · have h37 : o9 = 37 ∨ o9 = 38 := h37
    have ha : 366 ≤ a := ha
    have h0 : mw_sp o9 = 0 := by rcases h37 with rfl | rfl <;> rfl
    obtain ⟨i, len, hd, hf⟩ := mw_OK_0 hOK hP h0
    rcases h37 with rfl | rfl
    · exact mw_o_math X hR9 ha hd hf mw_ml0 H go
    · exfalso
      simp only [mw_fit] at hf
      split at hf <;> simp only [Bool.and_eq_true, Nat.beq_eq, Bool.false_eq_true, Nat.ble_eq, Bool.not_eq_true'] at hf
      obtain ⟨⟨⟨⟨⟨⟨⟨⟨-, -⟩, -⟩, hs⟩, -⟩, -⟩, -⟩, -⟩, ha2⟩ := hf
      have h3 : a = 366 ∨ a = 367 ∨ a = 368 := by omega
      rcases h3 with rfl | rfl | rfl <;> exact absurd hs (by decide +kernel)
/-- THE SMALL MACHINE's RETURNED ANSWERS ARE THE REAL ONE's -/
theorem mw_all_main (hDD : ∀ h, va_D (mw_A ad) (mw_ws ad cA h)) (hinj : ∀ g k k', (g, k) ∈ mw_val → (g, k') ∈ mw_val → ad g k = ad g k' → k = k') (hEE : mw_ee ad aV E) (hEm : mw_EmP ad E) (n : Nat) : mw_Main l dC dI ad cA E n :=
  mw_main hDD hinj (fun cn x ci j nest h => mw_fl_in cn (x, ci, j, nest) h) mw_kI_in mw_kL_in (fun cn x mj nest z h => mw_ml_in cn (x, mj, nest, z) h) mw_mf_ok hEm
    (fun mi hmi pc P hP hs => mw_OK_0 (mw_ok_ok mi hmi) hP (by
      have q1 : Nat.beq P.1 3 = false := by rw [← Bool.not_eq_true, Nat.beq_eq]; exact fun q => hs (Or.inl q)
      have q2 : ¬ 44 ≤ P.1 := fun q => hs (Or.inr (Or.inr (Or.inr (Or.inr (Or.inl q)))))
      have q3 : Nat.beq P.1 44 = false := by rw [← Bool.not_eq_true, Nat.beq_eq]; omega
      have q4 : Nat.ble 45 P.1 = false := by rw [← Bool.not_eq_true, Nat.ble_eq]; omega
      simp only [mw_sp, q1, q3, q4, cond_false]))
    (fun n ih d mi f v h' P hmi hP hsp H p e s m args below meth c X hE => mw_SP hDD hEE hEm n ih d mi f v h' P hmi hP hsp H p e s m args below meth c X hE) n
end Sound
