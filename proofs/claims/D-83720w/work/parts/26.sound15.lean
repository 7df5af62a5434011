/-! the whole -/
section Sound
variable {l : Launch} {dC : Nat → ClassId} {dI : Nat → Nat → Nat} {ad : Nat → Nat → Nat} {cA : Nat → ClassId} {E : State → Prop}
/-- the small machine's answer within n steps is the real machine's -/
def mw_Main (l : Launch) (dC : Nat → ClassId) (dI : Nat → Nat → Nat) (ad : Nat → Nat → Nat) (cA : Nat → ClassId) (E : State → Prop) (n : Nat) : Prop := ∀ (d mi : Nat) (f : mj_F) (v : Option mj_V) (h' : mj_H), mi < 366 → mj_ex mg n d (mt_code mi) f = some (.inl (v, h')) → ∀ (p : Program) (e : Env) (s : State) (m : MethodId) (args : Array Value) (below : List Frame) (meth : Method) (c : Code), mw_cx dC dI cA p s m args meth c mi → E s → mw_W p l e (mw_rm d) s m args below meth c (MQ below (mw_Qc dC dI ad cA E v h') args s 0 0 (mw_A ad)) dC dI ad cA mi f
/-- operations that are left to rows of their own: references to constants, the reader's word, elements that are constants, throws, texts, ordinals; calls of Math -/
def mw_spec (P : mj_P) : Prop := P.1 = 3 ∨ P.1 = 15 ∨ P.1 = 19 ∨ P.1 = 21 ∨ 44 ≤ P.1 ∨ ((P.1 = 37 ∨ P.1 = 38) ∧ 366 ≤ P.2.2.1)
theorem mw_main_step (hDD : ∀ h, va_D (mw_A ad) (mw_ws ad cA h)) (hinj : ∀ g k k', (g, k) ∈ mw_val → (g, k') ∈ mw_val → ad g k = ad g k' → k = k')
    (hFL : ∀ cn x ci j nest, (x, ci, j, nest) ∈ mw_fl cn → mw_FL cn x ci j nest) (hkI : ∀ cn x v, mw_kI cn x = some v → Cond.constant (mw_on cn) x v ∈ mw_good) (hkL : ∀ cn x v, mw_kL cn x = some v → Cond.constantLong (mw_on cn) x (Int64.ofNat v) ∈ mw_good)
    (hEm : ∀ u U : State, u.WarmedH U.vm → (∀ q, q < u.heap.size → ¬ mw_A ad q → U.heap[q]? = u.heap[q]?) → E u → E U)
    {n d mi : Nat} {pc : Nat} {lv : mj_L} {st : List mj_V} {hh : mj_H} {v : Option mj_V} {h' : mj_H} {o9 n9 a b c9 e9 len : Nat} {v9 : Int32} {i : Instr} (hmi : mi < 366) (ih : mw_Main l dC dI ad cA E n) (hd : decode (mw_b mi) pc = .ok (i, len)) (hf : mw_fit mi pc i len (o9, n9, a, b, c9, e9, v9) = true) (hns : ¬ mw_spec (o9, n9, a, b, c9, e9, v9)) (hnc : o9 ≠ 37 ∧ o9 ≠ 38)
    (H : mj_do (mj_i mg n9 a b c9 e9 v9 lv st hh o9) (mj_ex mg n d (mt_code mi)) (mj_down (mj_ex mg n) mg d) = some (.inl (v, h')))
    {p : Program} {e : Env} {s : State} {m : MethodId} {args : Array Value} {below : List Frame} {meth : Method} {c : Code} (X : mw_cx dC dI cA p s m args meth c mi) (hE : E s) : mw_W p l e (mw_rm d) s m args below meth c (MQ below (mw_Qc dC dI ad cA E v h') args s 0 0 (mw_A ad)) dC dI ad cA mi (pc, lv, st, hh) := by
  have go : ∀ {f : mj_F}, mj_ex mg n d (mt_code mi) f = some (.inl (v, h')) → mw_W p l e (mw_rm d) s m args below meth c (MQ below (mw_Qc dC dI ad cA E v h') args s 0 0 (mw_A ad)) dC dI ad cA mi f := fun hf => ih d mi _ v h' hmi hf p e s m args below meth c X hE
  have hmi9 : mi < 369 := by omega
  match o9, hf, H, hns, hnc with
  | 0, hf, H, _, _ =>
    have H : mj_do (mo_load n9 a b lv st hh) _ _ = _ := H
    unfold mo_load at H
    split at H
    · simp [mj_do] at H
    · rename_i x hg
      obtain ⟨g1, H⟩ := mw_do_gd H
      exact mw_o_load X hd hf hg g1 (go H)
  | 1, hf, H, _, _ => exact mw_o_const X hkI hd hf (go (mw_do_gd (b := true) H).2)
  | 2, hf, H, _, _ => exact mw_o_lconst X hkL hd hf (go (mw_do_gd (b := true) H).2)
  | 4, hf, H, _, _ =>
    have H : mj_do (mo_st1 n9 a b lv st hh) _ _ = _ := H
    unfold mo_st1 at H
    split at H
    · obtain ⟨g1, H⟩ := mw_do_gd H
      exact mw_o_storeI X hd hf g1 (go H)
    · obtain ⟨g1, H⟩ := mw_do_gd H
      exact mw_o_storeA X hd hf g1 (go H)
    · simp [mj_do] at H
  | 5, hf, H, _, _ =>
    have H : mj_do (mo_st2 n9 a lv st hh) _ _ = _ := H
    unfold mo_st2 at H
    split at H
    · exact mw_o_storeL X hd hf (go (mw_do_gd (b := true) H).2)
    · simp [mj_do] at H
  | 6, hf, H, _, _ =>
    have H : mj_do (mo_inc n9 a v9 lv st hh) _ _ = _ := H
    unfold mo_inc at H
    split at H
    · rename_i x hg
      exact mw_o_inc X hd hf hg (go (mw_do_gd (b := true) H).2)
    · simp [mj_do] at H
  | 7, hf, H, _, _ => exact mw_o_goto X hd hf (go (mw_do_gd (b := true) H).2)
  | 8, hf, H, _, _ =>
    have H : mj_do (mo_if n9 a b lv st hh) _ _ = _ := H
    unfold mo_if at H
    split at H
    · obtain ⟨-, H1, H2⟩ := mw_do_br H
      exact mw_o_if X hd hf (fun q => go (H1 q)) (fun q => go (H2 q))
    · simp [mj_do] at H
  | 9, hf, H, _, _ =>
    have H : mj_do (mo_icmp n9 a b lv st hh) _ _ = _ := H
    unfold mo_icmp at H
    split at H
    · obtain ⟨-, H1, H2⟩ := mw_do_br H
      exact mw_o_icmp X hd hf (fun q => go (H1 q)) (fun q => go (H2 q))
    · simp [mj_do] at H
  | 10, hf, H, _, _ =>
    have H : mj_do (mo_acmp n9 a lv st hh) _ _ = _ := H
    unfold mo_acmp at H
    split at H
    · obtain ⟨hg, H1, H2⟩ := mw_do_br H
      have hg := Nat.eq_of_beq_eq_true hg
      subst hg
      exact mw_o_acmp X hinj hd hf (fun q => go (H1 (decide_eq_true q))) (fun q => go (H2 (decide_eq_false q)))
    · simp [mj_do] at H
  | 11, hf, H, _, _ =>
    have H : mj_do (mo_acmn n9 a lv st hh) _ _ = _ := H
    unfold mo_acmn at H
    split at H
    · obtain ⟨hg, H1, H2⟩ := mw_do_br H
      have hg := Nat.eq_of_beq_eq_true hg
      subst hg
      exact mw_o_acmn X hinj hd hf (fun q => go (H1 (decide_eq_true q))) (fun q => go (H2 (decide_eq_false q)))
    · simp [mj_do] at H
  | 12, hf, H, _, _ =>
    have H : mj_do (mo_getI mg n9 a b lv st hh) _ _ = _ := H
    unfold mo_getI at H
    split at H
    · obtain ⟨g1, H⟩ := mw_do_gd H
      exact mw_o_getI X hFL hd hf g1 (go H)
    · simp [mj_do] at H
  | 13, hf, H, _, _ =>
    have H : mj_do (mo_getL mg n9 a b lv st hh) _ _ = _ := H
    unfold mo_getL at H
    split at H
    · obtain ⟨g1, H⟩ := mw_do_gd H
      exact mw_o_getL X hFL hd hf g1 (go H)
    · simp [mj_do] at H
  | 14, hf, H, _, _ =>
    have H : mj_do (mo_getS mg n9 a b lv st hh) _ _ = _ := H
    unfold mo_getS at H
    split at H
    · obtain ⟨g1, H⟩ := mw_do_gd H
      exact mw_o_getS X hFL hd hf g1 (go H)
    · simp [mj_do] at H
  | 16, hf, H, _, _ =>
    have H : mj_do (mo_putI mg n9 a b lv st hh) _ _ = _ := H
    unfold mo_putI at H
    split at H
    · obtain ⟨g1, H⟩ := mw_do_gd H
      exact mw_o_putI X hDD hFL hd hf g1 (go H)
    · simp [mj_do] at H
  | 17, hf, H, _, _ =>
    have H : mj_do (mo_putZ mg n9 a b lv st hh) _ _ = _ := H
    unfold mo_putZ at H
    split at H
    · obtain ⟨g1, H⟩ := mw_do_gd H
      simp only [Bool.and_eq_true, decide_eq_true_eq] at g1
      exact mw_o_putZ X hDD hFL hd hf g1.1 g1.2 (go H)
    · simp [mj_do] at H
  | 18, hf, H, _, _ =>
    have H : mj_do (mo_putL mg n9 a b lv st hh) _ _ = _ := H
    unfold mo_putL at H
    split at H
    · obtain ⟨g1, H⟩ := mw_do_gd H
      exact mw_o_putL X hDD hFL hd hf g1 (go H)
    · simp [mj_do] at H
  | 20, hf, H, _, _ =>
    have H : mj_do (mo_ald mg n9 b lv st hh) _ _ = _ := H
    unfold mo_ald at H
    split at H
    · split at H
      · rename_i hg
        obtain ⟨g1, H⟩ := mw_do_gd H
        simp only [Bool.and_eq_true, decide_eq_true_eq] at g1
        exact mw_o_aldI X hd hf hg g1.1 g1.2 (go H)
      · rename_i hg
        obtain ⟨g1, H⟩ := mw_do_gd H
        simp only [Bool.and_eq_true, decide_eq_true_eq] at g1
        exact mw_o_aldZ X hd hf hg g1.1 g1.2 (go H)
      · rename_i hg
        obtain ⟨g1, H⟩ := mw_do_gd H
        simp only [Bool.and_eq_true, decide_eq_true_eq] at g1
        exact mw_o_aldB X hd hf hg g1.1 g1.2 (go H)
      · rename_i hg
        obtain ⟨g1, H⟩ := mw_do_gd H
        simp only [Bool.and_eq_true, decide_eq_true_eq] at g1
        exact mw_o_aldL X hd hf hg g1.1 g1.2 (go H)
      · rename_i hg
        obtain ⟨g1, H⟩ := mw_do_gd H
        simp only [Bool.and_eq_true, decide_eq_true_eq] at g1
        exact mw_o_aldS X hd hf hg g1.1 g1.2 (go H)
      · rename_i hg
        obtain ⟨g1, H⟩ := mw_do_gd H
        simp only [Bool.and_eq_true, decide_eq_true_eq] at g1
        exact mw_o_aldD X hd hf hg g1.1 g1.2.1 g1.2.2 (go H)
      · simp [mj_do] at H
    · simp [mj_do] at H
  | 22, hf, H, _, _ =>
    have H : mj_do (mo_bi n9 b lv st hh) _ _ = _ := H
    unfold mo_bi at H
    split at H
    · exact mw_o_bi X hd hf (go (mw_do_gd (b := true) H).2)
    · simp [mj_do] at H
  | 23, hf, H, _, _ =>
    have H : mj_do (mo_div n9 lv st hh) _ _ = _ := H
    unfold mo_div at H
    split at H
    · obtain ⟨g1, H⟩ := mw_do_gd H
      exact mw_o_div X hd hf (of_decide_eq_true g1) (go H)
    · simp [mj_do] at H
  | 24, hf, H, _, _ =>
    have H : mj_do (mo_rem n9 lv st hh) _ _ = _ := H
    unfold mo_rem at H
    split at H
    · obtain ⟨g1, H⟩ := mw_do_gd H
      exact mw_o_rem X hd hf (of_decide_eq_true g1) (go H)
    · simp [mj_do] at H
  | 25, hf, H, _, _ =>
    have H : mj_do (mo_neg n9 lv st hh) _ _ = _ := H
    unfold mo_neg at H
    split at H
    · exact mw_o_neg X hd hf (go (mw_do_gd (b := true) H).2)
    · simp [mj_do] at H
  | 26, hf, H, _, _ =>
    have H : mj_do (mo_bl n9 b lv st hh) _ _ = _ := H
    unfold mo_bl at H
    split at H
    · exact mw_o_bl X hd hf (go (mw_do_gd (b := true) H).2)
    · simp [mj_do] at H
  | 27, hf, H, _, _ =>
    have H : mj_do (mo_lshl n9 lv st hh) _ _ = _ := H
    unfold mo_lshl at H
    split at H
    · exact mw_o_lshl X hd hf (go (mw_do_gd (b := true) H).2)
    · simp [mj_do] at H
  | 28, hf, H, _, _ =>
    have H : mj_do (mo_lcmp n9 lv st hh) _ _ = _ := H
    unfold mo_lcmp at H
    split at H
    · exact mw_o_lcmp X hd hf (go (mw_do_gd (b := true) H).2)
    · simp [mj_do] at H
  | 29, hf, H, _, _ =>
    have H : mj_do (mo_i2l n9 lv st hh) _ _ = _ := H
    unfold mo_i2l at H
    split at H
    · exact mw_o_i2l X hd hf (go (mw_do_gd (b := true) H).2)
    · simp [mj_do] at H
  | 30, hf, H, _, _ =>
    have H : mj_do (mo_l2i n9 lv st hh) _ _ = _ := H
    unfold mo_l2i at H
    split at H
    · exact mw_o_l2i X hd hf (go (mw_do_gd (b := true) H).2)
    · simp [mj_do] at H
  | 31, hf, H, _, _ =>
    have H : mj_do (mo_i2b n9 lv st hh) _ _ = _ := H
    unfold mo_i2b at H
    split at H
    · exact mw_o_i2b X hd hf (go (mw_do_gd (b := true) H).2)
    · simp [mj_do] at H
  | 32, hf, H, _, _ =>
    have H : mj_do (mo_dup n9 lv st hh) _ _ = _ := H
    unfold mo_dup at H
    split at H
    · exact mw_o_dup X hd hf rfl (go (mw_do_gd (b := true) H).2)
    · exact mw_o_dup X hd hf rfl (go (mw_do_gd (b := true) H).2)
    · simp [mj_do] at H
  | 33, hf, H, _, _ =>
    have H : mj_do (mo_dup2 n9 lv st hh) _ _ = _ := H
    unfold mo_dup2 at H
    split at H
    · exact mw_o_dup2 X hd hf rfl rfl (go (mw_do_gd (b := true) H).2)
    · simp [mj_do] at H
  | 34, hf, H, _, _ =>
    have H : mj_do (mo_pop n9 lv st hh) _ _ = _ := H
    unfold mo_pop at H
    split at H
    · exact mw_o_pop X hd hf rfl (go (mw_do_gd (b := true) H).2)
    · exact mw_o_pop X hd hf rfl (go (mw_do_gd (b := true) H).2)
    · simp [mj_do] at H
  | 35, hf, H, _, _ =>
    have H : mj_do (mo_len mg n9 lv st hh) _ _ = _ := H
    unfold mo_len at H
    split at H
    · obtain ⟨g1, H⟩ := mw_do_gd H
      simp only [Bool.and_eq_true, Nat.ble_eq] at g1
      exact mw_o_len X hd hf g1.1 g1.2 (go H)
    · simp [mj_do] at H
  | 36, hf, H, _, _ =>
    have H : mj_do (mo_sw mg a c9 lv st hh) _ _ = _ := H
    unfold mo_sw at H
    split at H
    · exact mw_o_sw X hd hf (go H)
    · simp [mj_do] at H
  | 39, hf, H, _, _ =>
    have H : mj_do (mo_rv st hh) _ _ = _ := H
    unfold mo_rv at H
    split at H
    · obtain ⟨-, e1⟩ := mw_do_rt H
      cases e1
      exact mw_o_rv X hmi9 hE hEm hd hf
    · simp [mj_do] at H
  | 40, hf, H, _, _ =>
    have H : mj_do (mo_ri st hh) _ _ = _ := H
    unfold mo_ri at H
    split at H
    · obtain ⟨-, e1⟩ := mw_do_rt H
      cases e1
      exact mw_o_ri X hmi9 hE hEm hd hf
    · simp [mj_do] at H
  | 41, hf, H, _, _ =>
    have H : mj_do (mo_rz st hh) _ _ = _ := H
    unfold mo_rz at H
    split at H
    · obtain ⟨g1, e1⟩ := mw_do_rt H
      cases e1
      exact mw_o_rz X hmi9 hE hEm hd hf (of_decide_eq_true g1)
    · simp [mj_do] at H
  | 42, hf, H, _, _ =>
    have H : mj_do (mo_rl st hh) _ _ = _ := H
    unfold mo_rl at H
    split at H
    · obtain ⟨-, e1⟩ := mw_do_rt H
      cases e1
      exact mw_o_rl X hmi9 hE hEm hd hf
    · simp [mj_do] at H
  | 43, hf, H, _, _ =>
    have H : mj_do (mo_ra st hh) _ _ = _ := H
    unfold mo_ra at H
    split at H
    · obtain ⟨-, e1⟩ := mw_do_rt H
      cases e1
      exact mw_o_ra X hmi9 hE hEm hd hf
    · simp [mj_do] at H
  | 3, _, _, hns, _ => exact absurd (Or.inl rfl) hns
  | 15, _, _, hns, _ => exact absurd (Or.inr (Or.inl rfl)) hns
  | 19, _, _, hns, _ => exact absurd (Or.inr (Or.inr (Or.inl rfl))) hns
  | 21, _, _, hns, _ => exact absurd (Or.inr (Or.inr (Or.inr (Or.inl rfl)))) hns
  | 37, _, _, _, hnc => exact absurd rfl hnc.1
  | 38, _, _, _, hnc => exact absurd rfl hnc.2
  | z + 44, _, _, hns, _ => exact absurd (Or.inr (Or.inr (Or.inr (Or.inr (Or.inl (Nat.le_add_left 44 z)))))) hns
end Sound
