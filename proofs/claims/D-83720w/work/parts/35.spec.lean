/-! the operations with rows of their own -/
theorem mw_val_E0 : ∀ g, g < 3 → ∀ k, k < (mw_en (16 + g)).length → (16 + g, k) ∈ mw_val ∧ k < 23 := by decide +kernel
theorem mw_val_E (g : Nat) (h : g < 19) (h1 : 16 ≤ g) (k : Nat) (hk : k < (mw_en g).length) : (g, k) ∈ mw_val ∧ k < 23 := by
  have e : 16 + (g - 16) = g := by omega
  have := mw_val_E0 (g - 16) (by omega) k (by rw [e]; exact hk)
  rw [e] at this
  exact this
theorem mw_val_T : ∀ k, k < 27 → (9, k) ∈ mw_val := by decide +kernel
theorem mw_val_9 : ∀ q ∈ mw_val, q.1 = 9 → q.2 < 27 := by decide +kernel
theorem mw_val_G : ∀ q ∈ mw_val, 16 ≤ q.1 → q.1 ≤ 18 → q.2 < (mw_en q.1).length := by decide +kernel
theorem mw_val_6 : ∀ q ∈ mw_val, (mt_grp q.1).1 = 6 → q ∈ mw_all ∧ ((mt_grp q.1).2 = 17 ∨ (mt_grp q.1).2 = 18) := by decide +kernel
theorem mw_val_L : ∀ q ∈ mw_val, (mt_grp q.1).1 = 0 → (mt_grp q.1).2 = 5 → q = (6, 0) := by decide +kernel
theorem mw_fz_20 : ∀ a, a < 14 → ∀ b, b < mw_nf a → mw_fz a b = 20 → a = 5 ∧ b = 12 := by decide +kernel
theorem mw_fz_ge (a b : Nat) (h : 4 ≤ mw_fz a b) : mw_fz a b = 20 := by
  revert h
  unfold mw_fz
  split
  · split <;> simp
  · simp
theorem mw_isE_spec {cn x g k : Nat} (h : mw_isE cn x g k = true) : (∃ z, (x, g, k, z) ∈ mw_el cn) ∧ 16 ≤ g ∧ g ≤ 18 ∧ k < (mw_en g).length := by
  unfold mw_isE at h
  split at h
  · rename_i q hq
    have hm := mw_find_mem hq
    simp only [Bool.and_eq_true, Nat.beq_eq, Nat.ble_eq] at h
    obtain ⟨⟨⟨⟨h1, h2⟩, h3⟩, h4⟩, h5⟩ := h
    obtain ⟨q1, q2, q3⟩ := q
    dsimp only at h1 h2
    subst h1 h2
    exact ⟨⟨q3, hm⟩, h3, h4, h5⟩
  · cases h
theorem mw_isT_spec {cn x k : Nat} (h : mw_isT cn x k = true) : (∃ z1 z2, (x, k, z1, z2) ∈ mw_tl cn) ∧ k < 27 := by
  unfold mw_isT at h
  split at h
  · rename_i q hq
    have hm := mw_find_mem hq
    simp only [Bool.and_eq_true, Nat.beq_eq, Nat.ble_eq] at h
    obtain ⟨q1, q2, q3⟩ := q
    obtain ⟨h1, h2⟩ := h
    dsimp only at h1
    subst h1
    exact ⟨⟨q2, q3, hm⟩, h2⟩
  · cases h
theorem mw_isJ_spec {cn x z : Nat} (h : mw_isJ cn x z = true) : ∃ z1 z2, (x, z, z1, z2) ∈ mw_jl cn := by
  unfold mw_isJ at h
  split at h
  · rename_i q hq
    have hm := mw_find_mem hq
    obtain ⟨q1, q2, q3⟩ := q
    have h1 := Nat.eq_of_beq_eq_true h
    dsimp only at h1
    subst h1
    exact ⟨q2, q3, hm⟩
  · cases h
section Sound
variable {p : Program} {l : Launch} {e : Env} {R : Room} {s : State} {m : MethodId} {args : Array Value} {below : List Frame} {meth : Method} {c : Code} {Q : State → Prop} {dC : Nat → ClassId} {dI : Nat → Nat → Nat} {ad : Nat → Nat → Nat} {aV : Nat → Nat} {cA : Nat → ClassId} {E : State → Prop} {mi : Nat} {pc n a b c9 e9 len d : Nat} {v9 : Int32} {i : Instr} {lv : mj_L} {st : List mj_V} {h : mj_H}
theorem mw_ldcW (hexec : p.tables.exec = Jvm.exec) {cc : ByteArray} (hb : c.code = cc) {own tx : String} {index q : Nat} (hown : s.vm.findClass own = some m.cls) (hZ : vk_R own index tx q s) (hdg : decode cc pc = .ok (.ldc_w index, 3)) {H : Heap} {locs : List Loc} {cells slots : Nat} {ls : Array Slot} {rest : List Value}
    (k : W p l e R s m args below meth c H locs cells slots Q (F0 m (pc + 3) ls (.ref q :: rest))) : W p l e R s m args below meth c H locs cells slots Q (F0 m pc ls rest) := by
  intro T hT X
  obtain ⟨t, a1, b1⟩ := k T hT X
  refine ⟨t, ?_, b1⟩
  obtain ⟨kk, cf, i0, a', hk, hcf, hcp, -, hr, hev'⟩ := Cond.stringRef_spec hown hZ.1
  cases hZ.2.symm.trans hev'
  obtain ⟨k', hk', he⟩ := X.warmed.alike.2.2 _ _ hk
  have hr' : k'.resolved[index]? = some (some (.string q)) := by
    rcases X.warmed.entry hk hk' index with h | ⟨h, -⟩
    · rw [h]; exact hr
    · rw [hr] at h; cases h
  have hdg' : decode c.code (F0 m pc ls rest).pc = .ok (.ldc_w index, 3) := by rw [hb]; exact hdg
  jvm_step X.here [hexec, hdg', ldc_w.wp_string (e := e) (s := T) (f := F0 m pc ls rest) X.here.top hk' (by rw [he]; exact hcf) hcp hr']
  exact a1
theorem mw_o_cst (X : mw_cx dC dI cA p s m args meth c mi) (hE : E s) (hEE : mw_ee ad aV E) (hd : decode (mw_b mi) pc = .ok (i, len)) (hf : mw_fitS mi pc i len (3, n, a, b, c9, e9, v9) = true)
    (kk : mw_W p l e R s m args below meth c Q dC dI ad cA mi (n, lv, .inr (.inr (a, b)) :: st, h)) : mw_W p l e R s m args below meth c Q dC dI ad cA mi (pc, lv, st, h) := by
  intro hok ls H locs hl hP hS
  obtain ⟨hx, hb, -, -, -, hown, hts, -⟩ := X
  obtain ⟨e1, -, -, e4, -⟩ := hEE s hE
  simp only [mw_fitS] at hf
  split at hf <;> simp only [Bool.and_eq_true, Nat.beq_eq, Bool.false_eq_true] at hf
  · rename_i x
    obtain ⟨⟨h1, h2⟩, h3⟩ := hf
    subst h1 h2
    obtain ⟨⟨z, hm⟩, g1, g2, g3⟩ := mw_isE_spec h3
    have kk := kk (mw_okf_st hok (fun v hv => by rcases List.mem_cons.mp hv with rfl | hv; exact (mw_val_E a (by omega) g1 b g3).1; exact hok.2.1 v hv)) ls H locs hl hP hS
    exact va_gets hx hb ((e1 a g1 g2).1 b g3).1 hS hown (hts _ (mw_el_in _ _ hm)) (fun _ q => q) hd kk
  · rename_i x
    obtain ⟨⟨⟨h1, h2⟩, h3⟩, h4⟩ := hf
    subst h1 h2 h3
    obtain ⟨⟨z1, z2, hm⟩, g1⟩ := mw_isT_spec h4
    have kk := kk (mw_okf_st hok (fun v hv => by rcases List.mem_cons.mp hv with rfl | hv; exact mw_val_T b g1; exact hok.2.1 v hv)) ls H locs hl hP hS
    exact mw_ldcW hx hb hown (e4 _ _ _ _ _ hm) hd kk
theorem mw_o_wt (X : mw_cx dC dI cA p s m args meth c mi) (hE : E s) (hEE : mw_ee ad aV E) (hd : decode (mw_b mi) pc = .ok (i, len)) (hf : mw_fitS mi pc i len (49, n, a, b, c9, e9, v9) = true) {g k : Nat} (hg : Nat.beq g 16 = true)
    (kk : mw_W p l e R s m args below meth c Q dC dI ad cA mi (n, lv, .inr (.inr (9, k)) :: st, h)) : mw_W p l e R s m args below meth c Q dC dI ad cA mi (pc, lv, .inr (.inr (g, k)) :: st, h) := by
  intro hok ls H locs hl hP hS
  obtain ⟨hx, hb, -, -, -, hown, hts, hK⟩ := X
  obtain ⟨-, -, e3, -⟩ := hEE s hE
  obtain rfl : g = 16 := Nat.eq_of_beq_eq_true hg
  have hk : k < 23 := mw_val_G (16, k) (hok.2.1 _ List.mem_cons_self) (Nat.le_refl 16) (by show 16 ≤ 18; decide)
  simp only [mw_fitS] at hf
  split at hf <;> simp only [Bool.and_eq_true, Nat.beq_eq, Bool.false_eq_true] at hf
  · rename_i x
    obtain ⟨⟨h1, h2⟩, h3⟩ := hf
    subst h1 h2
    obtain ⟨z1, z2, hm⟩ := mw_isJ_spec h3
    have kk := kk (mw_okf_st hok (fun v hv => by rcases List.mem_cons.mp hv with rfl | hv; exact mw_val_T k (by omega); exact hok.2.1 v (List.mem_cons_of_mem _ hv))) ls H locs hl hP hS
    obtain ⟨cf, kc, fi, f, cell, q1, q2, q3, q4, q5, q6⟩ := (e3 k hk).kept hS.2.1
    have hl9 := va_any (A' := args) rfl (hK.2 _ ((mw_jl_in _ _ hm).2 rfl))
    exact va_Wgetf hx hb hown hl9 q1 q2 q3 q4 q5 rfl rfl hd kk
theorem mw_hv_sR (hh : mw_hv h) {g k j k2 : Nat} (h1 : (mt_grp g).1 = 6 → ((mt_grp g).2, k2) ∈ mw_val) (h2 : g = 6 → k = 0 → j = 12 → (16, k2) ∈ mw_val) : mw_hv (mj_sR h g k j (k2 + 1)) := by
  intro g' k' j'
  have e : ∀ g' k' j', (mj_sR h g k j (k2 + 1)).2.2 g' k' j' = if g' = g ∧ k' = k ∧ j' = j then k2 + 1 else h.2.2 g' k' j' := by
    intro g' k' j'
    by_cases hg : g' = g
    · by_cases hk : k' = k
      · by_cases hj : j' = j
        · simp [mj_sR, va_up, hg, hk, hj]
        · simp [mj_sR, va_up, hg, hk, hj]
      · simp [mj_sR, va_up, hg, hk]
    · simp [mj_sR, va_up, hg]
  rw [e, e]
  refine ⟨fun q1 q2 => ?_, fun q2 => ?_⟩
  · split
    · rename_i z
      obtain ⟨rfl, -, -⟩ := z
      exact h1 q1
    · rename_i z
      rw [if_neg z] at q2
      exact (hh g' k' j').1 q1 q2
  · split
    · rename_i z
      exact h2 z.1.symm z.2.1.symm z.2.2.symm
    · rename_i z
      rw [if_neg z] at q2
      exact (hh g' k' j').2 q2
theorem mw_o_putD (X : mw_cx dC dI cA p s m args meth c mi) (hDD : ∀ h, va_D (mw_A ad) (mw_ws ad cA h)) (hFL : ∀ cn x ci j nest, (x, ci, j, nest) ∈ mw_fl cn → mw_FL cn x ci j nest) (hd : decode (mw_b mi) pc = .ok (i, len)) (hf : mw_fit mi pc i len (19, n, a, b, c9, e9, v9) = true) {g k g2 k2 : Nat} (hi : mo_is mg a g = true) (hg2 : Nat.beq g2 c9 = true)
    (kk : mw_W p l e R s m args below meth c Q dC dI ad cA mi (n, lv, st, mj_sR h g k b (k2 + 1))) : mw_W p l e R s m args below meth c Q dC dI ad cA mi (pc, lv, .inr (.inr (g2, k2)) :: .inr (.inr (g, k)) :: st, h) := by
  intro hok ls H locs hl hP hS
  simp only [mw_fit] at hf
  split at hf <;> simp only [Bool.and_eq_true, Nat.beq_eq, Bool.false_eq_true, beq_iff_eq] at hf
  · obtain ⟨⟨⟨⟨h2, h3⟩, hF⟩, hnf⟩, hz⟩ := hf
    subst h2 h3
    have hv : (g, k) ∈ mw_val := hok.2.1 _ (List.mem_cons_of_mem _ List.mem_cons_self)
    have hv2 : (g2, k2) ∈ mw_val := hok.2.1 _ List.mem_cons_self
    obtain rfl : g2 = c9 := Nat.eq_of_beq_eq_true hg2
    have hz2 := mw_fz_ge a b (by omega)
    obtain rfl : g2 = 16 := by omega
    obtain ⟨nest, q, hm, hq, hj, hN, hlt⟩ := mw_isF_spec hF
    have ha14 : a < 14 := by
      rcases Nat.lt_or_ge a 14 with z | z
      · exact z
      · have z1 : mw_cl.length ≤ a - 1 := by show 13 ≤ a - 1; omega
        rw [List.getElem?_eq_none_iff.mpr z1] at hq
        cases hq
    obtain ⟨rfl, rfl⟩ := mw_fz_20 a ha14 b (by rw [hN]; exact hj) hz2
    obtain ⟨g1, g3⟩ := mw_is_spec hi
    obtain ⟨rfl, rfl⟩ := Prod.mk.inj (mw_val_L (g, k) hv g1 g3)
    have hh' : mw_hv (mj_sR h 6 0 12 (k2 + 1)) := mw_hv_sR hok.2.2 (fun q => absurd q (by decide)) (fun _ _ _ => hv2)
    have kk := fun H1 locs1 p1 s1 => kk ⟨hok.1, fun v hv => hok.2.1 v (List.mem_cons_of_mem _ (List.mem_cons_of_mem _ hv)), hh'⟩ ls H1 locs1 hl p1 s1
    refine mw_putF X hDD hFL hd hF hi hv hnf (mw_range_set (v := .ref (ad 16 k2)) ?_ ?_) mj_sR_off (ty := .object "LinkedCores$Word") ?_ rfl rfl hP hS kk
    · unfold mw_fv
      rw [hz2]
      show va_rf (mw_or ad 16 ((mj_sR h 6 0 12 (k2 + 1)).2.2 6 0 12)) = _
      simp [mj_sR_at, va_up, mw_or, va_rf]
    · intro j hj
      unfold mw_fv
      have e9 : (mj_sR h 6 0 12 (k2 + 1)).2.2 6 0 j = h.2.2 6 0 j := by simp [mj_sR_at, va_up, hj]
      have e8 : (mj_sR h 6 0 12 (k2 + 1)).1 = h.1 := rfl
      have e7 : (mj_sR h 6 0 12 (k2 + 1)).2.1 = h.2.1 := rfl
      rw [e9, e8, e7]
    · intro q hq
      have : q = ("LinkedCores$Lexer", mw_F5, 17) := by
        have := hq
        exact (Option.some.inj this).symm
      subst this
      decide +kernel
theorem mw_o_astE (X : mw_cx dC dI cA p s m args meth c mi) (hE : E s) (hEE : mw_ee ad aV E) (hDD : ∀ h, va_D (mw_A ad) (mw_ws ad cA h)) (hd : decode (mw_b mi) pc = .ok (i, len)) (hf : mw_fit mi pc i len (21, n, a, b, c9, e9, v9) = true) {g k g2 k2 : Nat} {x : Int32} (hg : (mt_grp g).1 = 6) (hbb : Nat.beq b 5 = true) (hg2 : Nat.beq g2 (mt_grp g).2 = true) (hin : mj_in x (mg.len g k))
    (kk : mw_W p l e R s m args below meth c Q dC dI ad cA mi (n, lv, st, (mj_sR h g k x.toNatClampNeg (k2 + 1)))) : mw_W p l e R s m args below meth c Q dC dI ad cA mi (pc, lv, .inr (.inr (g2, k2)) :: .inl x :: .inr (.inr (g, k)) :: st, h) := by
  intro hok ls H locs hl hP hS
  obtain ⟨hx, hb, -, -, -, hown, hts, hK⟩ := X
  obtain ⟨e1, -⟩ := hEE s hE
  have hv : (g, k) ∈ mw_val := hok.2.1 _ (List.mem_cons_of_mem _ (List.mem_cons_of_mem _ List.mem_cons_self))
  have hv2 : (g2, k2) ∈ mw_val := hok.2.1 _ List.mem_cons_self
  obtain ⟨hall, h78⟩ := mw_val_6 (g, k) hv hg
  dsimp only at h78
  obtain rfl : g2 = (mt_grp g).2 := Nat.eq_of_beq_eq_true hg2
  have hh' : mw_hv (mj_sR h g k x.toNatClampNeg (k2 + 1)) := mw_hv_sR hok.2.2 (fun _ => hv2) (fun q => by subst q; exact absurd hg (by decide))
  have kk := fun H1 locs1 p1 s1 => kk ⟨hok.1, fun v hv => hok.2.1 v (List.mem_cons_of_mem _ (List.mem_cons_of_mem _ (List.mem_cons_of_mem _ hv))), hh'⟩ ls H1 locs1 hl p1 s1
  have he := mw_at (ad := ad) (cA := cA) (h := h) hall
  dsimp only at he
  have hcell : ∀ h, mw_cell ad cA h g k = .inl (cA (mt_grp g).2, mt_len g k, .inr (.inr (.inr (.inr (fun i => mw_or ad (mt_grp g).2 (h.2.2 g k i)))))) := by intro h; unfold mw_cell; rw [hg]; rfl
  rw [hcell] at he
  have hws := mw_ws_set (ad := ad) (cA := cA) (h := h) (h' := (mj_sR h g k x.toNatClampNeg (k2 + 1))) hall mj_sR_off
  dsimp only at hws
  rw [hcell, mj_sR_at] at hws
  have e5 : (fun i => mw_or ad (mt_grp g).2 (va_up (h.2.2 g k) x.toNatClampNeg (k2 + 1) i)) = va_up (fun i => mw_or ad (mt_grp g).2 (h.2.2 g k i)) x.toNatClampNeg (some (ad (mt_grp g).2 k2)) := by
    funext i
    by_cases hi : i = x.toNatClampNeg
    · simp [va_up, hi, mw_or]
    · simp [va_up, hi]
  rw [e5] at hws
  have hbb : b = 5 := Nat.eq_of_beq_eq_true hbb
  have hk2 := mw_val_G _ hv2 (by dsimp only; omega) (by dsimp only; omega)
  have hO := ((e1 (mt_grp g).2 (by omega) (by omega)).1 k2 hk2).2.1
  have hAny : va_Any (mw_ec (mt_grp g).2) s H (ad (mt_grp g).2 k2) := by
    obtain ⟨cell, q1, q2, q3⟩ := va_Orecv hO hS
    obtain ⟨kC, hkC, -⟩ := Vm.findClass_spec q3
    refine ⟨cell, q1, q2, ⟨kC, hkC⟩, fun comp hc => ?_⟩
    cases hc.symm.trans q3
    exact va_asg _ _
  have hty : ∃ t0 : Nat, (mw_tys cA)[t0]? = some (cA (mt_grp g).2, FieldType.object (mw_ec (mt_grp g).2)) := by
    rcases h78 with z | z
    · rw [z]; exact ⟨7, rfl⟩
    · rw [z]; exact ⟨8, rfl⟩
  obtain ⟨t0, ht0⟩ := hty
  simp only [mw_fit] at hf
  split at hf <;> simp only [Bool.and_eq_true, Nat.beq_eq, Bool.false_eq_true] at hf <;> obtain ⟨⟨h1, h2⟩, h3⟩ := hf <;> first
    | omega
    | (subst h2 h3
       refine va_astqM hx hb hK.1 hP (hDD h) hS _ t0 he ht0 hAny (mw_vp_in hin) hd (fun H1 locs1 p1 _ s1 => ?_)
       rw [hws] at p1
       exact kk H1 locs1 p1 s1)
/-- calls of the JDK's members over texts -/
theorem mw_o_sl (X : mw_cx dC dI cA p s m args meth c mi) (hE : E s) (hEE : mw_ee ad aV E) (hEm : mw_EmP ad E) (hR : 8 ≤ R.frames ∧ 512 ≤ R.locals) (hd : decode (mw_b mi) pc = .ok (i, len)) (hf : mw_fitS mi pc i len (45, n, a, b, c9, e9, v9) = true) {g k : Nat} (hg : Nat.beq g 9 = true) (hw : Nat.ble (mj_wd st) 8 = true)
    (kk : mw_W p l e R s m args below meth c Q dC dI ad cA mi (n, lv, .inl (nI (mt_sln k)) :: st, h)) : mw_W p l e R s m args below meth c Q dC dI ad cA mi (pc, lv, .inr (.inr (g, k)) :: st, h) := by
  intro hok ls H locs hl hP hS
  obtain ⟨hx, hb, hml, -, -, hown, hts, hK⟩ := X
  obtain ⟨-, e2, -⟩ := hEE s hE
  obtain rfl : g = 9 := Nat.eq_of_beq_eq_true hg
  have hk : k < 27 := mw_val_9 (9, k) (hok.2.1 _ List.mem_cons_self) rfl
  simp only [mw_fitS] at hf
  split at hf <;> simp only [Bool.and_eq_true, Nat.beq_eq, Bool.false_eq_true] at hf
  · rename_i x
    obtain ⟨⟨h1, h2⟩, h3⟩ := hf
    subst h1 h2
    obtain ⟨z1, z2, hm⟩ := mw_isJ_spec h3
    refine mw_jafter (rest := st.map (mw_v ad)) (mw_jrunV (As := []) (b := ad 9 k) (cc := mw_b mi) (own := mw_on (mw_mc mi)) (nL := mw_l mi) ⟨hx, hb, hml, hown, hts, hK⟩ hE hEm (jd_length hEE hEm hok.2.2 hk) ⟨rfl, rfl⟩ (mw_good_of (mw_tm3 (List.mem_of_getElem? (i := 239) rfl)) rfl) (mw_good_of (mw_tm3 (List.mem_of_getElem? (i := 237) rfl)) rfl) (mw_good_of (mw_tm3 (List.mem_of_getElem? (i := 238) rfl)) rfl) (mw_good_of (mw_tm1 (List.mem_of_getElem? (i := 21) rfl)) rfl) ((mw_jl_in _ _ hm).1 (by show (1 : Nat) ≠ 49; decide)) (e2 k hk).1 (n := 0) (by decide +kernel) rfl (by simp only [jr]; omega) (by rw [mw_wd_sum]; exact Nat.le_of_ble_eq_true hw) hl.1 hd hP hS) hS (fun H1 locs1 hP1 hS1 => ?_)
    exact kk (mw_okf_st hok (fun v hv => by rcases List.mem_cons.mp hv with rfl | hv; trivial; exact hok.2.1 v (List.mem_cons_of_mem _ hv))) ls H1 locs1 hl hP1 hS1
theorem mw_in_nat {x : Int32} {N : Nat} (h : mj_in x N) : ∃ j : Nat, j < N ∧ j < 2 ^ 31 ∧ x = nI j := by
  have h0 : ¬ x < 0 := by
    intro q
    have := Int32.lt_iff_toInt_lt.mp q
    have e : (0 : Int32).toInt = 0 := rfl
    have := h.1
    omega
  obtain ⟨j, hj, rfl⟩ := nI_of h0
  have := h.2
  rw [nI_toInt hj] at this
  exact ⟨j, by omega, hj, rfl⟩
theorem mw_o_sc (X : mw_cx dC dI cA p s m args meth c mi) (hE : E s) (hEE : mw_ee ad aV E) (hEm : mw_EmP ad E) (hR : 8 ≤ R.frames ∧ 512 ≤ R.locals) (hd : decode (mw_b mi) pc = .ok (i, len)) (hf : mw_fitS mi pc i len (46, n, a, b, c9, e9, v9) = true) {g k : Nat} {x0 : Int32} (hg : Nat.beq g 9 = true) (hw : Nat.ble (mj_wd st) 8 = true) (hin : mj_in x0 (mt_sln k))
    (kk : mw_W p l e R s m args below meth c Q dC dI ad cA mi (n, lv, .inl (nI (mt_sch k x0.toNatClampNeg)) :: st, h)) : mw_W p l e R s m args below meth c Q dC dI ad cA mi (pc, lv, .inl x0 :: .inr (.inr (g, k)) :: st, h) := by
  intro hok ls H locs hl hP hS
  obtain ⟨hx, hb, hml, -, -, hown, hts, hK⟩ := X
  obtain ⟨-, e2, -⟩ := hEE s hE
  obtain rfl : g = 9 := Nat.eq_of_beq_eq_true hg
  have hk : k < 27 := mw_val_9 (9, k) (hok.2.1 _ (List.mem_cons_of_mem _ List.mem_cons_self)) rfl
  obtain ⟨j, hj, hj2, rfl⟩ := mw_in_nat hin
  rw [nI_clamp hj2] at kk
  simp only [mw_fitS] at hf
  split at hf <;> simp only [Bool.and_eq_true, Nat.beq_eq, Bool.false_eq_true] at hf
  · rename_i x
    obtain ⟨⟨h1, h2⟩, h3⟩ := hf
    subst h1 h2
    obtain ⟨z1, z2, hm⟩ := mw_isJ_spec h3
    refine mw_jafter (rest := st.map (mw_v ad)) (mw_jrunV (As := [.int (nI j)]) (b := ad 9 k) (cc := mw_b mi) (own := mw_on (mw_mc mi)) (nL := mw_l mi) ⟨hx, hb, hml, hown, hts, hK⟩ hE hEm (jd_charAt hEE hEm hok.2.2 hk hj) ⟨rfl, rfl⟩ (mw_good_of (mw_tm4 (List.mem_of_getElem? (i := 9) rfl)) rfl) (mw_good_of (mw_tm4 (List.mem_of_getElem? (i := 7) rfl)) rfl) (mw_good_of (mw_tm4 (List.mem_of_getElem? (i := 8) rfl)) rfl) (mw_good_of (mw_tm1 (List.mem_of_getElem? (i := 21) rfl)) rfl) ((mw_jl_in _ _ hm).1 (by show (2 : Nat) ≠ 49; decide)) (e2 k hk).1 (n := 1) (by decide +kernel) rfl (by simp only [jr]; omega) (by rw [mw_wd_sum]; exact Nat.le_of_ble_eq_true hw) hl.1 hd hP hS) hS (fun H1 locs1 hP1 hS1 => ?_)
    exact kk (mw_okf_st hok (fun v hv => by rcases List.mem_cons.mp hv with rfl | hv; trivial; exact hok.2.1 v (List.mem_cons_of_mem _ (List.mem_cons_of_mem _ hv)))) ls H1 locs1 hl hP1 hS1
theorem mw_o_si (X : mw_cx dC dI cA p s m args meth c mi) (hE : E s) (hEE : mw_ee ad aV E) (hEm : mw_EmP ad E) (hR : 8 ≤ R.frames ∧ 512 ≤ R.locals) (hd : decode (mw_b mi) pc = .ok (i, len)) (hf : mw_fitS mi pc i len (47, n, a, b, c9, e9, v9) = true) {g k : Nat} {x0 : Int32} (hg : Nat.beq g 9 = true) (hw : Nat.ble (mj_wd st) 8 = true)
    (kk : mw_W p l e R s m args below meth c Q dC dI ad cA mi (n, lv, .inl (mj_ix (mt_sch k) x0 (mt_sln k) 0) :: st, h)) : mw_W p l e R s m args below meth c Q dC dI ad cA mi (pc, lv, .inl x0 :: .inr (.inr (g, k)) :: st, h) := by
  intro hok ls H locs hl hP hS
  obtain ⟨hx, hb, hml, -, -, hown, hts, hK⟩ := X
  obtain ⟨-, e2, -⟩ := hEE s hE
  obtain rfl : g = 9 := Nat.eq_of_beq_eq_true hg
  have hk : k < 27 := mw_val_9 (9, k) (hok.2.1 _ (List.mem_cons_of_mem _ List.mem_cons_self)) rfl
  simp only [mw_fitS] at hf
  split at hf <;> simp only [Bool.and_eq_true, Nat.beq_eq, Bool.false_eq_true] at hf
  · rename_i x
    obtain ⟨⟨h1, h2⟩, h3⟩ := hf
    subst h1 h2
    obtain ⟨z1, z2, hm⟩ := mw_isJ_spec h3
    refine mw_jafter (rest := st.map (mw_v ad)) (mw_jrunV (As := [.int x0]) (b := ad 9 k) (cc := mw_b mi) (own := mw_on (mw_mc mi)) (nL := mw_l mi) ⟨hx, hb, hml, hown, hts, hK⟩ hE hEm (jd_indexOf hEE hEm hok.2.2 hk) ⟨rfl, rfl⟩ (mw_good_of (mw_tm10 (List.mem_of_getElem? (i := 234) rfl)) rfl) (mw_good_of (mw_tm10 (List.mem_of_getElem? (i := 232) rfl)) rfl) (mw_good_of (mw_tm10 (List.mem_of_getElem? (i := 233) rfl)) rfl) (mw_good_of (mw_tm1 (List.mem_of_getElem? (i := 21) rfl)) rfl) ((mw_jl_in _ _ hm).1 (by show (3 : Nat) ≠ 49; decide)) (e2 k hk).1 (n := 1) (by decide +kernel) rfl (by simp only [jr]; omega) (by rw [mw_wd_sum]; exact Nat.le_of_ble_eq_true hw) hl.1 hd hP hS) hS (fun H1 locs1 hP1 hS1 => ?_)
    exact kk (mw_okf_st hok (fun v hv => by rcases List.mem_cons.mp hv with rfl | hv; trivial; exact hok.2.1 v (List.mem_cons_of_mem _ (List.mem_cons_of_mem _ hv)))) ls H1 locs1 hl hP1 hS1
theorem mw_o_or (X : mw_cx dC dI cA p s m args meth c mi) (hE : E s) (hEE : mw_ee ad aV E) (hEm : mw_EmP ad E) (hR : 8 ≤ R.frames ∧ 512 ≤ R.locals) (hd : decode (mw_b mi) pc = .ok (i, len)) (hf : mw_fitS mi pc i len (48, n, a, b, c9, e9, v9) = true) {g k : Nat} (hg : Nat.beq g a = true) (hw : Nat.ble (mj_wd st) 8 = true)
    (kk : mw_W p l e R s m args below meth c Q dC dI ad cA mi (n, lv, .inl (nI k) :: st, h)) : mw_W p l e R s m args below meth c Q dC dI ad cA mi (pc, lv, .inr (.inr (g, k)) :: st, h) := by
  intro hok ls H locs hl hP hS
  obtain ⟨hx, hb, hml, -, -, hown, hts, hK⟩ := X
  obtain ⟨e1, -⟩ := hEE s hE
  obtain rfl : g = a := Nat.eq_of_beq_eq_true hg
  simp only [mw_fitS] at hf
  split at hf <;> simp only [Bool.and_eq_true, Nat.beq_eq, Bool.false_eq_true, Nat.ble_eq] at hf
  · rename_i x
    obtain ⟨⟨⟨⟨h1, h2⟩, h3⟩, h4⟩, h5⟩ := hf
    subst h1 h2
    obtain ⟨z1, z2, hm⟩ := mw_isJ_spec h3
    have hk := mw_val_G (g, k) (hok.2.1 _ List.mem_cons_self) h4 (by dsimp only; omega)
    have hk2 := (mw_val_E g (by omega) h4 k hk).2
    have hlink := (mw_jl_in _ _ hm).1 (by show g ≠ 49; omega)
    have hO := ((e1 g h4 (by omega)).1 k hk).2.1
    have hM := jd_ordinal (l := l) (dC := dC) (dI := dI) (cA := cA) hEE hEm hok.2.2 h4 (by omega) hk hk2
    have hpre : PreV s H (mw_ec g) (ad g k) (mw_PV dC dI ad cA E [.ref (ad g k)] h) [] := ⟨mw_blindV hEm, va_Orecv hO hS, fun U hU hW => ⟨rfl, by rw [hU]; exact hP, mw_K.moved hW hK, hEm s U hW (fun q h1 h2 => by rw [hU]; exact hS.2.1 q h1 h2) hE⟩⟩
    have kk := fun H1 locs1 hP1 hS1 => kk (mw_okf_st hok (fun v hv => by rcases List.mem_cons.mp hv with rfl | hv; trivial; exact hok.2.1 v (List.mem_cons_of_mem _ hv))) ls H1 locs1 hl hP1 hS1
    have hgg : g = 16 ∨ g = 17 := by omega
    rcases hgg with rfl | rfl
    · have hcw : va_CU R s args (mw_on (mw_mc mi)) "LinkedCores$Word" "java/lang/Enum" x ⟨"LinkedCores$Word", "ordinal", "()I"⟩ ⟨"java/lang/Enum", "ordinal", "()I"⟩ prog_20_method_2_code 1 (Option.some Jvm.ClassFile.FieldType.int) (jw ⟨"java/lang/Enum", "ordinal", "()I"⟩ prog_20_method_2_code 1 (Option.some Jvm.ClassFile.FieldType.int)) (jr 0) 0 0 0 := by
        refine va_cwU 0 hts ?_ rfl rfl rfl rfl (by decide +kernel) (by simp only [jr]; omega)
        intro w hw
        rcases List.mem_append.mp hw with hw | hw
        · refine mw_good_good _ ?_
          simp only [List.mem_cons, List.not_mem_nil, or_false] at hw
          rcases hw with rfl | rfl | rfl | rfl | rfl
          · exact hlink
          · exact (mw_good_of (mw_tm5 (List.mem_of_getElem? (i := 115) rfl)) rfl)
          · exact (mw_good_of (mw_tm5 (List.mem_of_getElem? (i := 117) rfl)) rfl)
          · exact (mw_good_of (mw_tm5 (List.mem_of_getElem? (i := 118) rfl)) rfl)
          · exact (mw_good_of (mw_tm1 (List.mem_of_getElem? (i := 6) rfl)) rfl)
        · exact jw_good (mw_good_of (mw_tm5 (List.mem_of_getElem? (i := 119) rfl)) rfl) _ hw
      exact mw_jafter (rest := st.map (mw_v ad)) (va_runU ⟨hx, hb, hml, hown, hts⟩ hM hcw hpre rfl rfl hl.1 rfl (lv_room (by rw [mw_wd_sum]; exact Nat.le_of_ble_eq_true hw)) hd ⟨Nat.zero_le _, Nat.zero_le _⟩) hS kk
    · have hcw : va_CU R s args (mw_on (mw_mc mi)) "LinkedCores$What" "java/lang/Enum" x ⟨"LinkedCores$What", "ordinal", "()I"⟩ ⟨"java/lang/Enum", "ordinal", "()I"⟩ prog_20_method_2_code 1 (Option.some Jvm.ClassFile.FieldType.int) (jw ⟨"java/lang/Enum", "ordinal", "()I"⟩ prog_20_method_2_code 1 (Option.some Jvm.ClassFile.FieldType.int)) (jr 0) 0 0 0 := by
        refine va_cwU 0 hts ?_ rfl rfl rfl rfl (by decide +kernel) (by simp only [jr]; omega)
        intro w hw
        rcases List.mem_append.mp hw with hw | hw
        · refine mw_good_good _ ?_
          simp only [List.mem_cons, List.not_mem_nil, or_false] at hw
          rcases hw with rfl | rfl | rfl | rfl | rfl
          · exact hlink
          · exact (mw_good_of (mw_tm5 (List.mem_of_getElem? (i := 219) rfl)) rfl)
          · exact (mw_good_of (mw_tm5 (List.mem_of_getElem? (i := 220) rfl)) rfl)
          · exact (mw_good_of (mw_tm5 (List.mem_of_getElem? (i := 118) rfl)) rfl)
          · exact (mw_good_of (mw_tm1 (List.mem_of_getElem? (i := 6) rfl)) rfl)
        · exact jw_good (mw_good_of (mw_tm5 (List.mem_of_getElem? (i := 119) rfl)) rfl) _ hw
      exact mw_jafter (rest := st.map (mw_v ad)) (va_runU ⟨hx, hb, hml, hown, hts⟩ hM hcw hpre rfl rfl hl.1 rfl (lv_room (by rw [mw_wd_sum]; exact Nat.le_of_ble_eq_true hw)) hd ⟨Nat.zero_le _, Nat.zero_le _⟩) hS kk
end Sound
