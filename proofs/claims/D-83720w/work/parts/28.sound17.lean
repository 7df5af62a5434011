section Sound
variable {l : Launch} {dC : Nat → ClassId} {dI : Nat → Nat → Nat} {ad : Nat → Nat → Nat} {cA : Nat → ClassId} {E : State → Prop}
theorem mw_main_cv (hML : ∀ cn x mj nest z, (x, mj, nest, z) ∈ mw_ml cn → mw_ML cn x mj nest) (hMF : ∀ mj, mj < 366 → mw_MF mj)
    (hEm : ∀ u U : State, u.WarmedH U.vm → (∀ q, q < u.heap.size → ¬ mw_A ad q → U.heap[q]? = u.heap[q]?) → E u → E U)
    {n d mi : Nat} {pc : Nat} {lv : mj_L} {st : List mj_V} {hh : mj_H} {v : Option mj_V} {h' : mj_H} {n9 a b c9 e9 len : Nat} {v9 : Int32} {i : Instr} (hmi : mi < 366) (ha : a < 366) (ih : mw_Main l dC dI ad cA E n) (hd : decode (mw_b mi) pc = .ok (i, len)) (hf : mw_fit mi pc i len (38, n9, a, b, c9, e9, v9) = true)
    (H : mj_do (mo_cv mg n9 a b c9 e9 v9 lv st hh) (mj_ex mg n d (mt_code mi)) (mj_down (mj_ex mg n) mg d) = some (.inl (v, h')))
    {p : Program} {e : Env} {s : State} {m : MethodId} {args : Array Value} {below : List Frame} {meth : Method} {c : Code} (X : mw_cx dC dI cA p s m args meth c mi) (hE : E s) : mw_W p l e (mw_rm d) s m args below meth c (MQ below (mw_Qc dC dI ad cA E v h') args s 0 0 (mw_A ad)) dC dI ad cA mi (pc, lv, st, hh) := by
  unfold mo_cv at H
  split at H
  · rename_i g k as r hpop
    obtain ⟨g1, H9⟩ := mw_do_call H
    clear H
    have H := H9
    clear H9
    obtain ⟨hst, hlen⟩ := mj_pop_st hpop
    subst hst
    simp only [Bool.and_eq_true, Nat.ble_eq, Nat.beq_eq] at g1
    simp only [mw_fit] at hf
    split at hf <;> simp only [Bool.and_eq_true, Nat.beq_eq, Bool.false_eq_true, Nat.ble_eq, Bool.not_eq_true'] at hf
    rename_i x
    obtain ⟨⟨⟨⟨⟨⟨⟨⟨h1, h2⟩, hm⟩, hs⟩, hb9⟩, hc9⟩, he9⟩, hw⟩, -⟩ := hf
    subst h1 h2 he9
    obtain ⟨nest, z, hin⟩ := mw_isM_spec hm
    have hlink := hML _ _ _ _ _ hin
    obtain ⟨f1, f2, -, f4⟩ := hMF a ha
    obtain ⟨f5, f6, f7, f8⟩ := f4 hs
    cases d with
    | zero => exact (mj_ca_none H).elim
    | succ d =>
      have H : mj_ca c9 (mj_ex mg n d (mt_code a) (0, mj_args 0 (.inr (.inr (g, k)) :: as), [], hh)) (mj_ex mg n (d + 1) (mt_code mi)) (pc + 3, lv, r, hh) = some (.inl (v, h')) := H
      cases hx : mj_ex mg n d (mt_code a) (0, mj_args 0 (.inr (.inr (g, k)) :: as), [], hh) with
      | none => rw [hx] at H; exact (mj_ca_none H).elim
      | some o =>
        rw [hx] at H
        rcases o with ⟨v1, h1⟩ | q
        · have H := mj_ca_ret H
          intro hok ls HH locs hl hP hS
          have hoa : ∀ w ∈ (.inr (.inr (g, k)) :: as : List mj_V), mw_vd w := fun w hw => hok.2.1 w (List.mem_append_left _ (List.mem_reverse.mpr hw))
          have hor : ∀ w ∈ r, mw_vd w := fun w hw => hok.2.1 w (List.mem_append_right _ hw)
          have hM := mw_met (l := l) (dC := dC) (dI := dI) (ad := ad) (cA := cA) (E := E) (d := d) (v := v1) (h' := h1) ha (by show mj_cat (.inr (.inr (g, k))) + mj_wd as ≤ _; rw [g1.2]; exact hw) hoa hok.2.2 (fun p e s m args below meth c X hE => ih d a _ v1 h1 ha hx p e s m args below meth c X hE)
          have hrun := mw_runV (e := e) (below := below) (r := r) X hE hEm hd ha f5 f6 f2 f1 hlink (hoa _ List.mem_cons_self) g1.1.1 f7 f8 hM (by simp at hlen; omega) g1.1.2 hl.1 hP hS
          have hst : (((.inr (.inr (g, k)) :: as : List mj_V).reverse ++ r).map (mw_v ad)) = (as.map (mw_v ad)).reverse ++ .ref (ad g k) :: r.map (mw_v ad) := by simp [mw_v]
          show W _ _ _ _ _ _ _ _ _ _ _ _ _ _ _ (F0 m pc ls (((.inr (.inr (g, k)) :: as : List mj_V).reverse ++ r).map (mw_v ad)))
          rw [hst]
          exact mw_after hrun hS hl hok.1 hor (ih (d + 1) mi _ v h' hmi H p e s m args below meth c X hE)
        · cases mj_ca_thr H
  · simp [mj_do] at H
/-- the induction; hOK: every entry fits its instruction; hSP: the operations that have rows of their own -/
theorem mw_main (hDD : ∀ h, va_D (mw_A ad) (mw_ws ad cA h)) (hinj : ∀ g k k', (g, k) ∈ mw_val → (g, k') ∈ mw_val → ad g k = ad g k' → k = k')
    (hFL : ∀ cn x ci j nest, (x, ci, j, nest) ∈ mw_fl cn → mw_FL cn x ci j nest) (hkI : ∀ cn x v, mw_kI cn x = some v → Cond.constant (mw_on cn) x v ∈ mw_good) (hkL : ∀ cn x v, mw_kL cn x = some v → Cond.constantLong (mw_on cn) x (Int64.ofNat v) ∈ mw_good)
    (hML : ∀ cn x mj nest z, (x, mj, nest, z) ∈ mw_ml cn → mw_ML cn x mj nest) (hMF : ∀ mj, mj < 366 → mw_MF mj)
    (hEm : ∀ u U : State, u.WarmedH U.vm → (∀ q, q < u.heap.size → ¬ mw_A ad q → U.heap[q]? = u.heap[q]?) → E u → E U)
    (hOK : ∀ mi, mi < 366 → ∀ pc P, mt_code mi pc = some P → ¬ mw_spec P → ∃ i len, decode (mw_b mi) pc = .ok (i, len) ∧ mw_fit mi pc i len P = true)
    (hSP : ∀ n, mw_Main l dC dI ad cA E n → ∀ (d mi : Nat) (f : mj_F) (v : Option mj_V) (h' : mj_H) (P : mj_P), mi < 366 → mt_code mi f.1 = some P → mw_spec P → mj_ex mg (n + 1) d (mt_code mi) f = some (.inl (v, h')) → ∀ (p : Program) (e : Env) (s : State) (m : MethodId) (args : Array Value) (below : List Frame) (meth : Method) (c : Code), mw_cx dC dI cA p s m args meth c mi → E s → mw_W p l e (mw_rm d) s m args below meth c (MQ below (mw_Qc dC dI ad cA E v h') args s 0 0 (mw_A ad)) dC dI ad cA mi f) :
    ∀ n, mw_Main l dC dI ad cA E n
  | 0 => fun d mi f v h' _ h => by cases h
  | n + 1 => by
    have ih := mw_main hDD hinj hFL hkI hkL hML hMF hEm hOK hSP n
    intro d mi f v h' hmi H p e s m args below meth c X hE
    by_cases hsp : ∃ P, mt_code mi f.1 = some P ∧ mw_spec P
    · obtain ⟨P, h1, h2⟩ := hsp
      exact hSP n ih d mi f v h' P hmi h1 h2 H p e s m args below meth c X hE
    · obtain ⟨pc, lv, st, hh⟩ := f
      have H : mj_do (mj_nx mg (mt_code mi) (pc, lv, st, hh)) (mj_ex mg n d (mt_code mi)) (mj_down (mj_ex mg n) mg d) = some (.inl (v, h')) := H
      cases hP : mt_code mi pc with
      | none =>
        have e1 : mj_nx mg (mt_code mi) (pc, lv, st, hh) = none := by simp only [mj_nx, hP]
        rw [e1] at H
        cases H
      | some P =>
        have hns : ¬ mw_spec P := fun q => hsp ⟨P, hP, q⟩
        obtain ⟨i, len, hd, hf⟩ := hOK mi hmi pc P hP hns
        obtain ⟨o9, n9, a, b, c9, e9, v9⟩ := P
        have e1 : mj_nx mg (mt_code mi) (pc, lv, st, hh) = mj_i mg n9 a b c9 e9 v9 lv st hh o9 := by simp only [mj_nx, hP]
        rw [e1] at H
        by_cases h37 : o9 = 37
        · subst h37
          have ha : a < 366 := Nat.not_le.mp fun q => hns (Or.inr (Or.inr (Or.inr (Or.inr (Or.inr ⟨Or.inl rfl, q⟩)))))
          exact mw_main_cs hML hMF hEm hmi ha ih hd hf H X hE
        · by_cases h38 : o9 = 38
          · subst h38
            have ha : a < 366 := Nat.not_le.mp fun q => hns (Or.inr (Or.inr (Or.inr (Or.inr (Or.inr ⟨Or.inr rfl, q⟩)))))
            exact mw_main_cv hML hMF hEm hmi ha ih hd hf H X hE
          · exact mw_main_step hDD hinj hFL hkI hkL hEm hmi ih hd hf hns ⟨h37, h38⟩ H X hE
end Sound
