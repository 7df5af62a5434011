/-! the main induction for thrown answers -/
section Thr
variable {l : Launch} {dC : Nat → ClassId} {dI : Nat → Nat → Nat} {ad : Nat → Nat → Nat} {aV : Nat → Nat} {cA : Nat → ClassId} {E : State → Prop}
theorem mw_thr_step (hDD : ∀ h, va_D (mw_A ad) (mw_ws ad cA h)) (hinj : ∀ g k k', (g, k) ∈ mw_val → (g, k') ∈ mw_val → ad g k = ad g k' → k = k')
    (hFL : ∀ cn x ci j nest, (x, ci, j, nest) ∈ mw_fl cn → mw_FL cn x ci j nest) (hkI : ∀ cn x v, mw_kI cn x = some v → Cond.constant (mw_on cn) x v ∈ mw_good) (hkL : ∀ cn x v, mw_kL cn x = some v → Cond.constantLong (mw_on cn) x (Int64.ofNat v) ∈ mw_good)
    (hEm : ∀ u U : State, u.WarmedH U.vm → (∀ q, q < u.heap.size → ¬ mw_A ad q → U.heap[q]? = u.heap[q]?) → E u → E U)
    {n d mi : Nat} {pc : Nat} {lv : mj_L} {st : List mj_V} {hh : mj_H} {r0 : Nat × mj_H} {Q : State → Prop} {R : Room} {o9 n9 a b c9 e9 len : Nat} {v9 : Int32} {i : Instr} (hmi : mi < 366) (hd : decode (mw_b mi) pc = .ok (i, len)) (hf : mw_fit mi pc i len (o9, n9, a, b, c9, e9, v9) = true) (hns : ¬ mw_spec (o9, n9, a, b, c9, e9, v9)) (hnc : o9 ≠ 37 ∧ o9 ≠ 38)
    (H : mj_do (mj_i mg n9 a b c9 e9 v9 lv st hh o9) (mj_ex mg n d (mt_code mi)) (mj_down (mj_ex mg n) mg d) = some (.inr r0))
    {p : Program} {e : Env} {s : State} {m : MethodId} {args : Array Value} {below : List Frame} {meth : Method} {c : Code} (X : mw_cx dC dI cA p s m args meth c mi) (hE : E s) (go : ∀ {f : mj_F}, mj_ex mg n d (mt_code mi) f = some (.inr r0) → mw_W p l e R s m args below meth c Q dC dI ad cA mi f) : mw_W p l e R s m args below meth c Q dC dI ad cA mi (pc, lv, st, hh) := by
  have hmi9 : mi < 369 := by omega
  match o9, hf, H, hns, hnc with
  | 0, hf, H, _, _ =>
    have H : mj_do (mo_load n9 a b lv st hh) _ _ = _ := H
    unfold mo_load at H
    split at H
    · simp [mj_do] at H
    · rename_i x hg
      obtain ⟨g1, H⟩ := mw_do_gd H
      exact mw_o_load X hd hf hg g1 (go H)
  | 1, hf, H, _, _ => exact mw_o_const X hkI hd hf (go (mw_do_gd (b := true) H).2)
  | 2, hf, H, _, _ => exact mw_o_lconst X hkL hd hf (go (mw_do_gd (b := true) H).2)
  | 4, hf, H, _, _ =>
    have H : mj_do (mo_st1 n9 a b lv st hh) _ _ = _ := H
    unfold mo_st1 at H
    split at H
    · obtain ⟨g1, H⟩ := mw_do_gd H
      exact mw_o_storeI X hd hf g1 (go H)
    · obtain ⟨g1, H⟩ := mw_do_gd H
      exact mw_o_storeA X hd hf g1 (go H)
    · simp [mj_do] at H
  | 5, hf, H, _, _ =>
    have H : mj_do (mo_st2 n9 a lv st hh) _ _ = _ := H
    unfold mo_st2 at H
    split at H
    · exact mw_o_storeL X hd hf (go (mw_do_gd (b := true) H).2)
    · simp [mj_do] at H
  | 6, hf, H, _, _ =>
    have H : mj_do (mo_inc n9 a v9 lv st hh) _ _ = _ := H
    unfold mo_inc at H
    split at H
    · rename_i x hg
      exact mw_o_inc X hd hf hg (go (mw_do_gd (b := true) H).2)
    · simp [mj_do] at H
  | 7, hf, H, _, _ => exact mw_o_goto X hd hf (go (mw_do_gd (b := true) H).2)
  | 8, hf, H, _, _ =>
    have H : mj_do (mo_if n9 a b lv st hh) _ _ = _ := H
    unfold mo_if at H
    split at H
    · obtain ⟨-, H1, H2⟩ := mw_do_br H
      exact mw_o_if X hd hf (fun q => go (H1 q)) (fun q => go (H2 q))
    · simp [mj_do] at H
  | 9, hf, H, _, _ =>
    have H : mj_do (mo_icmp n9 a b lv st hh) _ _ = _ := H
    unfold mo_icmp at H
    split at H
    · obtain ⟨-, H1, H2⟩ := mw_do_br H
      exact mw_o_icmp X hd hf (fun q => go (H1 q)) (fun q => go (H2 q))
    · simp [mj_do] at H
  | 10, hf, H, _, _ =>
    have H : mj_do (mo_acmp n9 a lv st hh) _ _ = _ := H
    unfold mo_acmp at H
    split at H
    · obtain ⟨hg, H1, H2⟩ := mw_do_br H
      have hg := Nat.eq_of_beq_eq_true hg
      subst hg
      exact mw_o_acmp X hinj hd hf (fun q => go (H1 (decide_eq_true q))) (fun q => go (H2 (decide_eq_false q)))
    · simp [mj_do] at H
  | 11, hf, H, _, _ =>
    have H : mj_do (mo_acmn n9 a lv st hh) _ _ = _ := H
    unfold mo_acmn at H
    split at H
    · obtain ⟨hg, H1, H2⟩ := mw_do_br H
      have hg := Nat.eq_of_beq_eq_true hg
      subst hg
      exact mw_o_acmn X hinj hd hf (fun q => go (H1 (decide_eq_true q))) (fun q => go (H2 (decide_eq_false q)))
    · simp [mj_do] at H
  | 12, hf, H, _, _ =>
    have H : mj_do (mo_getI mg n9 a b lv st hh) _ _ = _ := H
    unfold mo_getI at H
    split at H
    · obtain ⟨g1, H⟩ := mw_do_gd H
      exact mw_o_getI X hFL hd hf g1 (go H)
    · simp [mj_do] at H
  | 13, hf, H, _, _ =>
    have H : mj_do (mo_getL mg n9 a b lv st hh) _ _ = _ := H
    unfold mo_getL at H
    split at H
    · obtain ⟨g1, H⟩ := mw_do_gd H
      exact mw_o_getL X hFL hd hf g1 (go H)
    · simp [mj_do] at H
  | 14, hf, H, _, _ =>
    have H : mj_do (mo_getS mg n9 a b lv st hh) _ _ = _ := H
    unfold mo_getS at H
    split at H
    · obtain ⟨g1, H⟩ := mw_do_gd H
      exact mw_o_getS X hFL hd hf g1 (go H)
    · simp [mj_do] at H
  | 16, hf, H, _, _ =>
    have H : mj_do (mo_putI mg n9 a b lv st hh) _ _ = _ := H
    unfold mo_putI at H
    split at H
    · obtain ⟨g1, H⟩ := mw_do_gd H
      exact mw_o_putI X hDD hFL hd hf g1 (go H)
    · simp [mj_do] at H
  | 17, hf, H, _, _ =>
    have H : mj_do (mo_putZ mg n9 a b lv st hh) _ _ = _ := H
    unfold mo_putZ at H
    split at H
    · obtain ⟨g1, H⟩ := mw_do_gd H
      simp only [Bool.and_eq_true, decide_eq_true_eq] at g1
      exact mw_o_putZ X hDD hFL hd hf g1.1 g1.2 (go H)
    · simp [mj_do] at H
  | 18, hf, H, _, _ =>
    have H : mj_do (mo_putL mg n9 a b lv st hh) _ _ = _ := H
    unfold mo_putL at H
    split at H
    · obtain ⟨g1, H⟩ := mw_do_gd H
      exact mw_o_putL X hDD hFL hd hf g1 (go H)
    · simp [mj_do] at H
  | 20, hf, H, _, _ =>
    have H : mj_do (mo_ald mg n9 b lv st hh) _ _ = _ := H
    unfold mo_ald at H
    split at H
    · split at H
      · rename_i hg
        obtain ⟨g1, H⟩ := mw_do_gd H
        simp only [Bool.and_eq_true, decide_eq_true_eq] at g1
        exact mw_o_aldI X hd hf hg g1.1 g1.2 (go H)
      · rename_i hg
        obtain ⟨g1, H⟩ := mw_do_gd H
        simp only [Bool.and_eq_true, decide_eq_true_eq] at g1
        exact mw_o_aldZ X hd hf hg g1.1 g1.2 (go H)
      · rename_i hg
        obtain ⟨g1, H⟩ := mw_do_gd H
        simp only [Bool.and_eq_true, decide_eq_true_eq] at g1
        exact mw_o_aldB X hd hf hg g1.1 g1.2 (go H)
      · rename_i hg
        obtain ⟨g1, H⟩ := mw_do_gd H
        simp only [Bool.and_eq_true, decide_eq_true_eq] at g1
        exact mw_o_aldL X hd hf hg g1.1 g1.2 (go H)
      · rename_i hg
        obtain ⟨g1, H⟩ := mw_do_gd H
        simp only [Bool.and_eq_true, decide_eq_true_eq] at g1
        exact mw_o_aldS X hd hf hg g1.1 g1.2 (go H)
      · rename_i hg
        obtain ⟨g1, H⟩ := mw_do_gd H
        simp only [Bool.and_eq_true, decide_eq_true_eq] at g1
        exact mw_o_aldD X hd hf hg g1.1 g1.2.1 g1.2.2 (go H)
      · simp [mj_do] at H
    · simp [mj_do] at H
  | 22, hf, H, _, _ =>
    have H : mj_do (mo_bi n9 b lv st hh) _ _ = _ := H
    unfold mo_bi at H
    split at H
    · exact mw_o_bi X hd hf (go (mw_do_gd (b := true) H).2)
    · simp [mj_do] at H
  | 23, hf, H, _, _ =>
    have H : mj_do (mo_div n9 lv st hh) _ _ = _ := H
    unfold mo_div at H
    split at H
    · obtain ⟨g1, H⟩ := mw_do_gd H
      exact mw_o_div X hd hf (of_decide_eq_true g1) (go H)
    · simp [mj_do] at H
  | 24, hf, H, _, _ =>
    have H : mj_do (mo_rem n9 lv st hh) _ _ = _ := H
    unfold mo_rem at H
    split at H
    · obtain ⟨g1, H⟩ := mw_do_gd H
      exact mw_o_rem X hd hf (of_decide_eq_true g1) (go H)
    · simp [mj_do] at H
  | 25, hf, H, _, _ =>
    have H : mj_do (mo_neg n9 lv st hh) _ _ = _ := H
    unfold mo_neg at H
    split at H
    · exact mw_o_neg X hd hf (go (mw_do_gd (b := true) H).2)
    · simp [mj_do] at H
  | 26, hf, H, _, _ =>
    have H : mj_do (mo_bl n9 b lv st hh) _ _ = _ := H
    unfold mo_bl at H
    split at H
    · exact mw_o_bl X hd hf (go (mw_do_gd (b := true) H).2)
    · simp [mj_do] at H
  | 27, hf, H, _, _ =>
    have H : mj_do (mo_lshl n9 lv st hh) _ _ = _ := H
    unfold mo_lshl at H
    split at H
    · exact mw_o_lshl X hd hf (go (mw_do_gd (b := true) H).2)
    · simp [mj_do] at H
  | 28, hf, H, _, _ =>
    have H : mj_do (mo_lcmp n9 lv st hh) _ _ = _ := H
    unfold mo_lcmp at H
    split at H
    · exact mw_o_lcmp X hd hf (go (mw_do_gd (b := true) H).2)
    · simp [mj_do] at H
  | 29, hf, H, _, _ =>
    have H : mj_do (mo_i2l n9 lv st hh) _ _ = _ := H
    unfold mo_i2l at H
    split at H
    · exact mw_o_i2l X hd hf (go (mw_do_gd (b := true) H).2)
    · simp [mj_do] at H
  | 30, hf, H, _, _ =>
    have H : mj_do (mo_l2i n9 lv st hh) _ _ = _ := H
    unfold mo_l2i at H
    split at H
    · exact mw_o_l2i X hd hf (go (mw_do_gd (b := true) H).2)
    · simp [mj_do] at H
  | 31, hf, H, _, _ =>
    have H : mj_do (mo_i2b n9 lv st hh) _ _ = _ := H
    unfold mo_i2b at H
    split at H
    · exact mw_o_i2b X hd hf (go (mw_do_gd (b := true) H).2)
    · simp [mj_do] at H
  | 32, hf, H, _, _ =>
    have H : mj_do (mo_dup n9 lv st hh) _ _ = _ := H
    unfold mo_dup at H
    split at H
    · exact mw_o_dup X hd hf rfl (go (mw_do_gd (b := true) H).2)
    · exact mw_o_dup X hd hf rfl (go (mw_do_gd (b := true) H).2)
    · simp [mj_do] at H
  | 33, hf, H, _, _ =>
    have H : mj_do (mo_dup2 n9 lv st hh) _ _ = _ := H
    unfold mo_dup2 at H
    split at H
    · exact mw_o_dup2 X hd hf rfl rfl (go (mw_do_gd (b := true) H).2)
    · simp [mj_do] at H
  | 34, hf, H, _, _ =>
    have H : mj_do (mo_pop n9 lv st hh) _ _ = _ := H
    unfold mo_pop at H
    split at H
    · exact mw_o_pop X hd hf rfl (go (mw_do_gd (b := true) H).2)
    · exact mw_o_pop X hd hf rfl (go (mw_do_gd (b := true) H).2)
    · simp [mj_do] at H
  | 35, hf, H, _, _ =>
    have H : mj_do (mo_len mg n9 lv st hh) _ _ = _ := H
    unfold mo_len at H
    split at H
    · obtain ⟨g1, H⟩ := mw_do_gd H
      simp only [Bool.and_eq_true, Nat.ble_eq] at g1
      exact mw_o_len X hd hf g1.1 g1.2 (go H)
    · simp [mj_do] at H
  | 36, hf, H, _, _ =>
    have H : mj_do (mo_sw mg a c9 lv st hh) _ _ = _ := H
    unfold mo_sw at H
    split at H
    · exact mw_o_sw X hd hf (go H)
    · simp [mj_do] at H
  | 39, hf, H, _, _ =>
    have H : mj_do (mo_rv st hh) _ _ = _ := H
    unfold mo_rv at H
    split at H
    · obtain ⟨-, e1⟩ := mw_do_rt H
      cases e1
    · simp [mj_do] at H
  | 40, hf, H, _, _ =>
    have H : mj_do (mo_ri st hh) _ _ = _ := H
    unfold mo_ri at H
    split at H
    · obtain ⟨-, e1⟩ := mw_do_rt H
      cases e1
    · simp [mj_do] at H
  | 41, hf, H, _, _ =>
    have H : mj_do (mo_rz st hh) _ _ = _ := H
    unfold mo_rz at H
    split at H
    · obtain ⟨-, e1⟩ := mw_do_rt H
      cases e1
    · simp [mj_do] at H
  | 42, hf, H, _, _ =>
    have H : mj_do (mo_rl st hh) _ _ = _ := H
    unfold mo_rl at H
    split at H
    · obtain ⟨-, e1⟩ := mw_do_rt H
      cases e1
    · simp [mj_do] at H
  | 43, hf, H, _, _ =>
    have H : mj_do (mo_ra st hh) _ _ = _ := H
    unfold mo_ra at H
    split at H
    · obtain ⟨-, e1⟩ := mw_do_rt H
      cases e1
    · simp [mj_do] at H
  | 3, _, _, hns, _ => exact absurd (Or.inl rfl) hns
  | 15, _, _, hns, _ => exact absurd (Or.inr (Or.inl rfl)) hns
  | 19, _, _, hns, _ => exact absurd (Or.inr (Or.inr (Or.inl rfl))) hns
  | 21, _, _, hns, _ => exact absurd (Or.inr (Or.inr (Or.inr (Or.inl rfl)))) hns
  | 37, _, _, _, hnc => exact absurd rfl hnc.1
  | 38, _, _, _, hnc => exact absurd rfl hnc.2
  | z + 44, _, _, hns, _ => exact absurd (Or.inr (Or.inr (Or.inr (Or.inr (Or.inl (Nat.le_add_left 44 z)))))) hns
theorem mw_thr_SP (hDD : ∀ h, va_D (mw_A ad) (mw_ws ad cA h)) (hEE : mw_ee ad aV E) (hEm : mw_EmP ad E) {n d mi : Nat} {f : mj_F} {r0 : Nat × mj_H} {Q : State → Prop} {R : Room} (hR9 : 8 ≤ R.frames ∧ 512 ≤ R.locals) {P : mj_P} (hmi : mi < 366) (hP : mt_code mi f.1 = some P) (hsp : mw_spec P) (H : mj_ex mg (n + 1) d (mt_code mi) f = some (.inr r0)) {p : Program} {e : Env} {s : State} {m : MethodId} {args : Array Value} {below : List Frame} {meth : Method} {c : Code} (X : mw_cx dC dI cA p s m args meth c mi) (hE : E s) (go : ∀ {f : mj_F}, mj_ex mg n d (mt_code mi) f = some (.inr r0) → mw_W p l e R s m args below meth c Q dC dI ad cA mi f)
    (thr : ∀ {pc : Nat} {lv : mj_L} {st : List mj_V} {hh : mj_H} {a : Nat}, mj_wd st ≤ 8 → r0 = (a, hh) → (∃ x y, decode (mw_b mi) pc = .ok (.new x, 3) ∧ decode (mw_b mi) (pc + 3) = .ok (.dup, 1) ∧ decode (mw_b mi) (pc + 4) = .ok (.invokespecial y, 3) ∧ decode (mw_b mi) (pc + 7) = .ok (.athrow, 1) ∧ mw_isX (mw_mc mi) x y a = true) → mw_W p l e R s m args below meth c Q dC dI ad cA mi (pc, lv, st, hh)) : mw_W p l e R s m args below meth c Q dC dI ad cA mi f := by
  obtain ⟨pc, lv, st, hh⟩ := f
  have H : mj_do (mj_nx mg (mt_code mi) (pc, lv, st, hh)) (mj_ex mg n d (mt_code mi)) (mj_down (mj_ex mg n) mg d) = some (.inr r0) := H
  obtain ⟨o9, n9, a, b, c9, e9, v9⟩ := P
  have e1 : mj_nx mg (mt_code mi) (pc, lv, st, hh) = mj_i mg n9 a b c9 e9 v9 lv st hh o9 := by
    have hP : mt_code mi pc = some (o9, n9, a, b, c9, e9, v9) := hP
    simp only [mj_nx, hP]
  rw [e1] at H
  have hFL : ∀ cn x ci j nest, (x, ci, j, nest) ∈ mw_fl cn → mw_FL cn x ci j nest := fun cn x ci j nest h => mw_fl_in cn (x, ci, j, nest) h
  have hOK := mw_ok_ok mi hmi
  rcases hsp with h3 | h15 | h19 | h21 | h44 | ⟨h37, ha⟩
  · obtain rfl : o9 = 3 := h3
    obtain ⟨i, len, hd, hf⟩ := mw_OK_1 hOK hP rfl
    exact mw_o_cst X hE hEE hd hf (go (mw_do_gd (b := true) H).2)
  · obtain rfl : o9 = 15 := h15
    obtain ⟨i, len, hd, hf⟩ := mw_OK_0 hOK hP rfl
    have H : mj_do (mo_getD mg n9 a b c9 lv st hh) _ _ = _ := H
    unfold mo_getD at H
    split at H
    · rename_i g k r z1 z2
      obtain ⟨g1, H2⟩ := mw_do_gd H
      clear H
      rw [Bool.and_eq_true, decide_eq_true_eq] at g1
      have hz : ∃ x, mw_isF (mw_mc mi) x a b = true ∧ mw_fz a b = c9 + 4 := by
        have hf := hf
        simp only [mw_fit] at hf
        split at hf <;> simp only [Bool.and_eq_true, Nat.beq_eq, Bool.false_eq_true, beq_iff_eq] at hf
        exact ⟨_, hf.1.2, hf.2⟩
      obtain ⟨x9, hz⟩ := hz
      intro hok
      have hv : (g, k) ∈ mw_val := hok.2.1 _ List.mem_cons_self
      have hz2 := mw_fz_ge a b (by omega)
      obtain rfl : c9 = 16 := by omega
      obtain ⟨nest, q, hm, hq, hj, hN, hlt⟩ := mw_isF_spec hz.1
      have ha14 : a < 14 := by
        rcases Nat.lt_or_ge a 14 with z | z
        · exact z
        · have z1 : mw_cl.length ≤ a - 1 := by show 13 ≤ a - 1; omega
          rw [List.getElem?_eq_none_iff.mpr z1] at hq
          cases hq
      obtain ⟨rfl, rfl⟩ := mw_fz_20 a ha14 b (by rw [hN]; exact hj) hz2
      obtain ⟨g2, g3⟩ := mw_is_spec g1.1
      obtain ⟨rfl, rfl⟩ := Prod.mk.inj (mw_val_L (g, k) hv g2 g3)
      exact mw_o_getD X hFL hd hf g1.1 g1.2 ((hok.2.2 0 0 0).2 g1.2) (by decide) (go H2) hok
    · simp [mj_do] at H
  · obtain rfl : o9 = 19 := h19
    obtain ⟨i, len, hd, hf⟩ := mw_OK_0 hOK hP rfl
    have H : mj_do (mo_putD mg n9 a b c9 lv st hh) _ _ = _ := H
    unfold mo_putD at H
    split at H
    · obtain ⟨g1, H⟩ := mw_do_gd H
      rw [Bool.and_eq_true] at g1
      exact mw_o_putD X hDD hFL hd hf g1.1 g1.2 (go H)
    · simp [mj_do] at H
  · obtain rfl : o9 = 21 := h21
    obtain ⟨i, len, hd, hf⟩ := mw_OK_0 hOK hP rfl
    have H : mj_do (mo_ast mg n9 b lv st hh) _ _ = _ := H
    unfold mo_ast at H
    split at H
    · split at H
      · rename_i hg
        obtain ⟨g1, H⟩ := mw_do_gd H
        rw [Bool.and_eq_true, decide_eq_true_eq] at g1
        exact mw_o_astI X hDD hd hf hg g1.1 g1.2 (go H)
      · rename_i hg
        obtain ⟨g1, H⟩ := mw_do_gd H
        rw [Bool.and_eq_true, decide_eq_true_eq] at g1
        exact mw_o_astZ X hDD hd hf hg g1.1 g1.2 (go H)
      · rename_i hg
        obtain ⟨g1, H⟩ := mw_do_gd H
        rw [Bool.and_eq_true, decide_eq_true_eq] at g1
        exact mw_o_astB X hDD hd hf hg g1.1 g1.2 (go H)
      · simp [mj_do] at H
    · split at H
      · rename_i hg
        obtain ⟨g1, H⟩ := mw_do_gd H
        rw [Bool.and_eq_true, decide_eq_true_eq] at g1
        exact mw_o_astL X hDD hd hf hg g1.1 g1.2 (go H)
      · simp [mj_do] at H
    · split at H
      · rename_i hg
        obtain ⟨g1, H⟩ := mw_do_gd H
        rw [Bool.and_eq_true, Bool.and_eq_true, decide_eq_true_eq] at g1
        exact mw_o_astE X hE hEE hDD hd hf hg g1.1.1 g1.1.2 g1.2 (go H)
      · simp [mj_do] at H
    · simp [mj_do] at H
  · have h44 : 44 ≤ o9 := h44
    by_cases h0 : o9 = 44
    · subst h0
      have H : mj_do (mj_rt (Nat.ble (mj_wd st) 8) (.inr (a, hh))) _ _ = _ := H
      obtain ⟨g1, e2⟩ := mw_do_rt H
      exact thr (Nat.le_of_ble_eq_true g1) (Sum.inr.inj e2).symm (mw_OK_2 hOK hP rfl)
    · have hsp1 : mw_sp o9 = 1 := by
        have q1 : Nat.beq o9 3 = false := by rw [← Bool.not_eq_true, Nat.beq_eq]; omega
        have q2 : Nat.beq o9 44 = false := by rw [← Bool.not_eq_true, Nat.beq_eq]; omega
        have q3 : Nat.ble 45 o9 = true := Nat.ble_eq_true_of_le (by omega)
        simp only [mw_sp, q1, q2, q3, cond_false, cond_true]
      obtain ⟨i, len, hd, hf⟩ := mw_OK_1 hOK hP hsp1
      match o9, h44, h0, hf, H with
      | 44, _, h0, _, _ => exact absurd rfl h0
      | 45, _, _, hf, H =>
        have H : mj_do (mo_sl mg n9 lv st hh) _ _ = _ := H
        unfold mo_sl at H
        split at H
        · obtain ⟨g1, H⟩ := mw_do_gd H
          rw [Bool.and_eq_true] at g1
          exact mw_o_sl X hE hEE hEm hR9 hd hf g1.1 g1.2 (go H)
        · simp [mj_do] at H
      | 46, _, _, hf, H =>
        have H : mj_do (mo_sc mg n9 lv st hh) _ _ = _ := H
        unfold mo_sc at H
        split at H
        · obtain ⟨g1, H⟩ := mw_do_gd H
          rw [Bool.and_eq_true, Bool.and_eq_true, decide_eq_true_eq] at g1
          exact mw_o_sc X hE hEE hEm hR9 hd hf g1.1.1 g1.1.2 g1.2 (go H)
        · simp [mj_do] at H
      | 47, _, _, hf, H =>
        have H : mj_do (mo_si mg n9 lv st hh) _ _ = _ := H
        unfold mo_si at H
        split at H
        · obtain ⟨g1, H⟩ := mw_do_gd H
          rw [Bool.and_eq_true] at g1
          exact mw_o_si X hE hEE hEm hR9 hd hf g1.1 g1.2 (go H)
        · simp [mj_do] at H
      | 48, _, _, hf, H =>
        have H : mj_do (mo_or n9 a lv st hh) _ _ = _ := H
        unfold mo_or at H
        split at H
        · obtain ⟨g1, H⟩ := mw_do_gd H
          rw [Bool.and_eq_true] at g1
          exact mw_o_or X hE hEE hEm hR9 hd hf g1.1 g1.2 (go H)
        · simp [mj_do] at H
      | 49, _, _, hf, H =>
        have H : mj_do (mo_wt n9 lv st hh) _ _ = _ := H
        unfold mo_wt at H
        split at H
        · obtain ⟨g1, H⟩ := mw_do_gd H
          exact mw_o_wt X hE hEE hd hf g1 (go H)
        · simp [mj_do] at H
      | z + 50, _, _, hf, _ => simp [mw_fitS] at hf
  · have h37 : o9 = 37 ∨ o9 = 38 := h37
    have ha : 366 ≤ a := ha
    have h0 : mw_sp o9 = 0 := by rcases h37 with rfl | rfl <;> rfl
    obtain ⟨i, len, hd, hf⟩ := mw_OK_0 hOK hP h0
    rcases h37 with rfl | rfl
    · exact mw_o_math X hR9 ha hd hf mw_ml0 H go
    · exfalso
      simp only [mw_fit] at hf
      split at hf <;> simp only [Bool.and_eq_true, Nat.beq_eq, Bool.false_eq_true, Nat.ble_eq, Bool.not_eq_true'] at hf
      obtain ⟨⟨⟨⟨⟨⟨⟨⟨-, -⟩, -⟩, hs⟩, -⟩, -⟩, -⟩, -⟩, ha2⟩ := hf
      have h3 : a = 366 ∨ a = 367 ∨ a = 368 := by omega
      rcases h3 with rfl | rfl | rfl <;> exact absurd hs (by decide +kernel)
end Thr
