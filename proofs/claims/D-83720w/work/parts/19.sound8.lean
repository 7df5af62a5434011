theorem mw_val_arr : ∀ q ∈ mw_val, 1 ≤ (mt_grp q.1).1 → (mt_grp q.1).1 ≤ 6 → q ∈ mw_all := by decide +kernel
theorem mw_val_ix : ∀ q ∈ mw_all, (mt_grp q.1).1 = 5 → ∀ j, j < mt_len q.1 q.2 → ((mt_grp q.1).2, j) ∈ mw_val := by decide +kernel
theorem mw_tys_el : ∀ q ∈ mw_all, 5 ≤ (mt_grp q.1).1 → (mt_grp q.1).2 = 12 ∨ (mt_grp q.1).2 = 13 ∨ (mt_grp q.1).2 = 16 ∨ (mt_grp q.1).2 = 17 ∨ (mt_grp q.1).2 = 18 := by decide +kernel
theorem mw_nar_z (x : Int32) : vp_nar .boolean x = x &&& 1 := rfl
theorem mw_vp_in {i : Int32} {n : Nat} (h : mj_in i n) : vp_in i n := vp_in_iff.mpr h
theorem mw_clamp_lt {i : Int32} {n : Nat} (h : mj_in i n) : i.toNatClampNeg < n := by
  have h1 := mw_vp_in h
  exact Nat.not_le.mp fun q => h1 (Or.inr q)
section Sound
variable {p : Program} {l : Launch} {e : Env} {R : Room} {s : State} {m : MethodId} {args : Array Value} {below : List Frame} {meth : Method} {c : Code} {Q : State → Prop} {dC : Nat → ClassId} {dI : Nat → Nat → Nat} {ad : Nat → Nat → Nat} {cA : Nat → ClassId} {mi : Nat} {pc n a b c9 e9 len : Nat} {v9 : Int32} {i : Instr} {lv : mj_L} {st : List mj_V} {h : mj_H}
theorem mw_o_putL (X : mw_cx dC dI cA p s m args meth c mi) (hDD : ∀ h, va_D (mw_A ad) (mw_ws ad cA h)) (hFL : ∀ cn x ci j nest, (x, ci, j, nest) ∈ mw_fl cn → mw_FL cn x ci j nest) (hd : decode (mw_b mi) pc = .ok (i, len)) (hf : mw_fit mi pc i len (18, n, a, b, c9, e9, v9) = true) {g k : Nat} {x : Int64} (hi : mo_is mg a g = true)
    (kk : mw_W p l e R s m args below meth c Q dC dI ad cA mi (n, lv, st, (mj_sL h g k b x))) : mw_W p l e R s m args below meth c Q dC dI ad cA mi (pc, lv, .inr (.inl x) :: .inr (.inr (g, k)) :: st, h) := by
  intro hok ls H locs hl hP hS
  have kk := fun H1 locs1 p1 s1 => kk ⟨hok.1, fun v hv => hok.2.1 v (List.mem_cons_of_mem _ (List.mem_cons_of_mem _ hv)), hok.2.2⟩ ls H1 locs1 hl p1 s1
  simp only [mw_fit] at hf
  split at hf <;> simp only [Bool.and_eq_true, Nat.beq_eq, Bool.false_eq_true, beq_iff_eq] at hf
  · obtain ⟨⟨⟨⟨h2, h3⟩, hF⟩, hnf⟩, hz⟩ := hf
    subst h2 h3
    refine mw_putF X hDD hFL hd hF hi (hok.2.1 _ (List.mem_cons_of_mem _ List.mem_cons_self)) hnf (mw_obj_sL hz) mj_sL_off (ty := .long) ?_ ?_ ?_ hP hS kk
    · intro q hq
      unfold mw_fz at hz
      rw [hq] at hz
      dsimp only at hz
      split at hz
      · omega
      · omega
      · rename_i e9; rw [e9]; decide +kernel
      · omega
      · omega
    · rfl
    · rfl
theorem mw_o_aldI (X : mw_cx dC dI cA p s m args meth c mi) (hd : decode (mw_b mi) pc = .ok (i, len)) (hf : mw_fit mi pc i len (20, n, a, b, c9, e9, v9) = true) {g k : Nat} {x : Int32} (hg : (mt_grp g).1 = 1) (hbb : Nat.beq b 1 = true) (hin : mj_in x (mg.len g k))
    (kk : mw_W p l e R s m args below meth c Q dC dI ad cA mi (n, lv, .inl (h.1 g k x.toNatClampNeg) :: st, h)) : mw_W p l e R s m args below meth c Q dC dI ad cA mi (pc, lv, .inl x :: .inr (.inr (g, k)) :: st, h) := by
  intro hok ls H locs hl hP hS
  obtain ⟨hx, hb, -, -, -, hown, hts, hK⟩ := X
  have kk := kk ⟨hok.1, fun v hv => by rcases List.mem_cons.mp hv with rfl | hv; trivial; exact hok.2.1 v (List.mem_cons_of_mem _ (List.mem_cons_of_mem _ hv)), hok.2.2⟩ ls H locs hl hP hS
  have hall := mw_val_arr (g, k) (hok.2.1 _ (List.mem_cons_of_mem _ List.mem_cons_self)) (by dsimp only; omega) (by dsimp only; omega)
  have he := mw_at (ad := ad) (cA := cA) (h := h) hall
  dsimp only at he
  have hcell : mw_cell ad cA h g k = .inl (cA 0, mt_len g k, .inl (h.1 g k)) := by unfold mw_cell; rw [hg]; rfl
  rw [hcell] at he
  have hbb : b = 1 := Nat.eq_of_beq_eq_true hbb
  simp only [mw_fit] at hf
  split at hf <;> simp only [Bool.and_eq_true, Nat.beq_eq, Bool.false_eq_true] at hf <;> obtain ⟨⟨h1, h2⟩, h3⟩ := hf <;> first
    | omega
    | (subst h2 h3
       exact va_iald hx hb hK.1 hP _ 0 he rfl (mw_vp_in hin) hd kk)
theorem mw_o_aldZ (X : mw_cx dC dI cA p s m args meth c mi) (hd : decode (mw_b mi) pc = .ok (i, len)) (hf : mw_fit mi pc i len (20, n, a, b, c9, e9, v9) = true) {g k : Nat} {x : Int32} (hg : (mt_grp g).1 = 2) (hbb : Nat.beq b 2 = true) (hin : mj_in x (mg.len g k))
    (kk : mw_W p l e R s m args below meth c Q dC dI ad cA mi (n, lv, .inl (h.1 g k x.toNatClampNeg) :: st, h)) : mw_W p l e R s m args below meth c Q dC dI ad cA mi (pc, lv, .inl x :: .inr (.inr (g, k)) :: st, h) := by
  intro hok ls H locs hl hP hS
  obtain ⟨hx, hb, -, -, -, hown, hts, hK⟩ := X
  have kk := kk ⟨hok.1, fun v hv => by rcases List.mem_cons.mp hv with rfl | hv; trivial; exact hok.2.1 v (List.mem_cons_of_mem _ (List.mem_cons_of_mem _ hv)), hok.2.2⟩ ls H locs hl hP hS
  have hall := mw_val_arr (g, k) (hok.2.1 _ (List.mem_cons_of_mem _ List.mem_cons_self)) (by dsimp only; omega) (by dsimp only; omega)
  have he := mw_at (ad := ad) (cA := cA) (h := h) hall
  dsimp only at he
  have hcell : mw_cell ad cA h g k = .inl (cA 1, mt_len g k, .inl (h.1 g k)) := by unfold mw_cell; rw [hg]; rfl
  rw [hcell] at he
  have hbb : b = 2 := Nat.eq_of_beq_eq_true hbb
  simp only [mw_fit] at hf
  split at hf <;> simp only [Bool.and_eq_true, Nat.beq_eq, Bool.false_eq_true] at hf <;> obtain ⟨⟨h1, h2⟩, h3⟩ := hf <;> first
    | omega
    | (subst h2 h3
       exact va_zald hx hb hK.1 hP _ 1 he rfl (mw_vp_in hin) hd kk)
theorem mw_o_aldB (X : mw_cx dC dI cA p s m args meth c mi) (hd : decode (mw_b mi) pc = .ok (i, len)) (hf : mw_fit mi pc i len (20, n, a, b, c9, e9, v9) = true) {g k : Nat} {x : Int32} (hg : (mt_grp g).1 = 3) (hbb : Nat.beq b 2 = true) (hin : mj_in x (mg.len g k))
    (kk : mw_W p l e R s m args below meth c Q dC dI ad cA mi (n, lv, .inl (h.1 g k x.toNatClampNeg) :: st, h)) : mw_W p l e R s m args below meth c Q dC dI ad cA mi (pc, lv, .inl x :: .inr (.inr (g, k)) :: st, h) := by
  intro hok ls H locs hl hP hS
  obtain ⟨hx, hb, -, -, -, hown, hts, hK⟩ := X
  have kk := kk ⟨hok.1, fun v hv => by rcases List.mem_cons.mp hv with rfl | hv; trivial; exact hok.2.1 v (List.mem_cons_of_mem _ (List.mem_cons_of_mem _ hv)), hok.2.2⟩ ls H locs hl hP hS
  have hall := mw_val_arr (g, k) (hok.2.1 _ (List.mem_cons_of_mem _ List.mem_cons_self)) (by dsimp only; omega) (by dsimp only; omega)
  have he := mw_at (ad := ad) (cA := cA) (h := h) hall
  dsimp only at he
  have hcell : mw_cell ad cA h g k = .inl (cA 2, mt_len g k, .inl (h.1 g k)) := by unfold mw_cell; rw [hg]; rfl
  rw [hcell] at he
  have hbb : b = 2 := Nat.eq_of_beq_eq_true hbb
  simp only [mw_fit] at hf
  split at hf <;> simp only [Bool.and_eq_true, Nat.beq_eq, Bool.false_eq_true] at hf <;> obtain ⟨⟨h1, h2⟩, h3⟩ := hf <;> first
    | omega
    | (subst h2 h3
       exact va_bald hx hb hK.1 hP _ 2 he rfl (mw_vp_in hin) hd kk)
theorem mw_o_aldL (X : mw_cx dC dI cA p s m args meth c mi) (hd : decode (mw_b mi) pc = .ok (i, len)) (hf : mw_fit mi pc i len (20, n, a, b, c9, e9, v9) = true) {g k : Nat} {x : Int32} (hg : (mt_grp g).1 = 4) (hbb : Nat.beq b 4 = true) (hin : mj_in x (mg.len g k))
    (kk : mw_W p l e R s m args below meth c Q dC dI ad cA mi (n, lv, .inr (.inl (h.2.1 g k x.toNatClampNeg)) :: st, h)) : mw_W p l e R s m args below meth c Q dC dI ad cA mi (pc, lv, .inl x :: .inr (.inr (g, k)) :: st, h) := by
  intro hok ls H locs hl hP hS
  obtain ⟨hx, hb, -, -, -, hown, hts, hK⟩ := X
  have kk := kk ⟨hok.1, fun v hv => by rcases List.mem_cons.mp hv with rfl | hv; trivial; exact hok.2.1 v (List.mem_cons_of_mem _ (List.mem_cons_of_mem _ hv)), hok.2.2⟩ ls H locs hl hP hS
  have hall := mw_val_arr (g, k) (hok.2.1 _ (List.mem_cons_of_mem _ List.mem_cons_self)) (by dsimp only; omega) (by dsimp only; omega)
  have he := mw_at (ad := ad) (cA := cA) (h := h) hall
  dsimp only at he
  have hcell : mw_cell ad cA h g k = .inl (cA 3, mt_len g k, .inr (.inl (h.2.1 g k))) := by unfold mw_cell; rw [hg]; rfl
  rw [hcell] at he
  have hbb : b = 4 := Nat.eq_of_beq_eq_true hbb
  simp only [mw_fit] at hf
  split at hf <;> simp only [Bool.and_eq_true, Nat.beq_eq, Bool.false_eq_true] at hf <;> obtain ⟨⟨h1, h2⟩, h3⟩ := hf <;> first
    | omega
    | (subst h2 h3
       exact va_lald hx hb hK.1 hP _ 3 he rfl (mw_vp_in hin) hd kk)
theorem mw_o_astI (X : mw_cx dC dI cA p s m args meth c mi) (hDD : ∀ h, va_D (mw_A ad) (mw_ws ad cA h)) (hd : decode (mw_b mi) pc = .ok (i, len)) (hf : mw_fit mi pc i len (21, n, a, b, c9, e9, v9) = true) {g k : Nat} {x : Int32} {y : Int32} (hg : (mt_grp g).1 = 1) (hbb : Nat.beq b 1 = true) (hin : mj_in x (mg.len g k))
    (kk : mw_W p l e R s m args below meth c Q dC dI ad cA mi (n, lv, st, (mj_sI h g k x.toNatClampNeg y))) : mw_W p l e R s m args below meth c Q dC dI ad cA mi (pc, lv, .inl y :: .inl x :: .inr (.inr (g, k)) :: st, h) := by
  intro hok ls H locs hl hP hS
  obtain ⟨hx, hb, -, -, -, hown, hts, hK⟩ := X
  have kk := fun H1 locs1 p1 s1 => kk ⟨hok.1, fun v hv => hok.2.1 v (List.mem_cons_of_mem _ (List.mem_cons_of_mem _ (List.mem_cons_of_mem _ hv))), hok.2.2⟩ ls H1 locs1 hl p1 s1
  have hall := mw_val_arr (g, k) (hok.2.1 _ (List.mem_cons_of_mem _ (List.mem_cons_of_mem _ List.mem_cons_self))) (by dsimp only; omega) (by dsimp only; omega)
  have he := mw_at (ad := ad) (cA := cA) (h := h) hall
  dsimp only at he
  have hcell : ∀ h, mw_cell ad cA h g k = .inl (cA 0, mt_len g k, .inl (h.1 g k)) := by intro h; unfold mw_cell; rw [hg]; rfl
  rw [hcell] at he
  have hws := mw_ws_set (ad := ad) (cA := cA) (h := h) (h' := (mj_sI h g k x.toNatClampNeg y)) hall mj_sI_off
  dsimp only at hws
  rw [hcell, mj_sI_at] at hws
  have hbb : b = 1 := Nat.eq_of_beq_eq_true hbb
  simp only [mw_fit] at hf
  split at hf <;> simp only [Bool.and_eq_true, Nat.beq_eq, Bool.false_eq_true] at hf <;> obtain ⟨⟨h1, h2⟩, h3⟩ := hf <;> first
    | omega
    | (subst h2 h3
       refine va_iast hx hb hK.1 hP (hDD h) hS _ 0 he rfl (mw_vp_in hin) hd (fun H1 locs1 p1 _ s1 => ?_)
       rw [hws] at p1
       exact kk H1 locs1 p1 s1)
theorem mw_o_astZ (X : mw_cx dC dI cA p s m args meth c mi) (hDD : ∀ h, va_D (mw_A ad) (mw_ws ad cA h)) (hd : decode (mw_b mi) pc = .ok (i, len)) (hf : mw_fit mi pc i len (21, n, a, b, c9, e9, v9) = true) {g k : Nat} {x : Int32} {y : Int32} (hg : (mt_grp g).1 = 2) (hbb : Nat.beq b 2 = true) (hin : mj_in x (mg.len g k))
    (kk : mw_W p l e R s m args below meth c Q dC dI ad cA mi (n, lv, st, (mj_sI h g k x.toNatClampNeg (y &&& 1)))) : mw_W p l e R s m args below meth c Q dC dI ad cA mi (pc, lv, .inl y :: .inl x :: .inr (.inr (g, k)) :: st, h) := by
  intro hok ls H locs hl hP hS
  obtain ⟨hx, hb, -, -, -, hown, hts, hK⟩ := X
  have kk := fun H1 locs1 p1 s1 => kk ⟨hok.1, fun v hv => hok.2.1 v (List.mem_cons_of_mem _ (List.mem_cons_of_mem _ (List.mem_cons_of_mem _ hv))), hok.2.2⟩ ls H1 locs1 hl p1 s1
  have hall := mw_val_arr (g, k) (hok.2.1 _ (List.mem_cons_of_mem _ (List.mem_cons_of_mem _ List.mem_cons_self))) (by dsimp only; omega) (by dsimp only; omega)
  have he := mw_at (ad := ad) (cA := cA) (h := h) hall
  dsimp only at he
  have hcell : ∀ h, mw_cell ad cA h g k = .inl (cA 1, mt_len g k, .inl (h.1 g k)) := by intro h; unfold mw_cell; rw [hg]; rfl
  rw [hcell] at he
  have hws := mw_ws_set (ad := ad) (cA := cA) (h := h) (h' := (mj_sI h g k x.toNatClampNeg (y &&& 1))) hall mj_sI_off
  dsimp only at hws
  rw [hcell, mj_sI_at] at hws
  have hbb : b = 2 := Nat.eq_of_beq_eq_true hbb
  simp only [mw_fit] at hf
  split at hf <;> simp only [Bool.and_eq_true, Nat.beq_eq, Bool.false_eq_true] at hf <;> obtain ⟨⟨h1, h2⟩, h3⟩ := hf <;> first
    | omega
    | (subst h2 h3
       refine va_zast hx hb hK.1 hP (hDD h) hS _ 1 he rfl (mw_vp_in hin) hd (fun H1 locs1 p1 _ s1 => ?_)
       rw [mw_nar_z] at p1
       rw [hws] at p1
       exact kk H1 locs1 p1 s1)
theorem mw_o_astB (X : mw_cx dC dI cA p s m args meth c mi) (hDD : ∀ h, va_D (mw_A ad) (mw_ws ad cA h)) (hd : decode (mw_b mi) pc = .ok (i, len)) (hf : mw_fit mi pc i len (21, n, a, b, c9, e9, v9) = true) {g k : Nat} {x : Int32} {y : Int32} (hg : (mt_grp g).1 = 3) (hbb : Nat.beq b 2 = true) (hin : mj_in x (mg.len g k))
    (kk : mw_W p l e R s m args below meth c Q dC dI ad cA mi (n, lv, st, (mj_sI h g k x.toNatClampNeg y.toInt8.toInt32))) : mw_W p l e R s m args below meth c Q dC dI ad cA mi (pc, lv, .inl y :: .inl x :: .inr (.inr (g, k)) :: st, h) := by
  intro hok ls H locs hl hP hS
  obtain ⟨hx, hb, -, -, -, hown, hts, hK⟩ := X
  have kk := fun H1 locs1 p1 s1 => kk ⟨hok.1, fun v hv => hok.2.1 v (List.mem_cons_of_mem _ (List.mem_cons_of_mem _ (List.mem_cons_of_mem _ hv))), hok.2.2⟩ ls H1 locs1 hl p1 s1
  have hall := mw_val_arr (g, k) (hok.2.1 _ (List.mem_cons_of_mem _ (List.mem_cons_of_mem _ List.mem_cons_self))) (by dsimp only; omega) (by dsimp only; omega)
  have he := mw_at (ad := ad) (cA := cA) (h := h) hall
  dsimp only at he
  have hcell : ∀ h, mw_cell ad cA h g k = .inl (cA 2, mt_len g k, .inl (h.1 g k)) := by intro h; unfold mw_cell; rw [hg]; rfl
  rw [hcell] at he
  have hws := mw_ws_set (ad := ad) (cA := cA) (h := h) (h' := (mj_sI h g k x.toNatClampNeg y.toInt8.toInt32)) hall mj_sI_off
  dsimp only at hws
  rw [hcell, mj_sI_at] at hws
  have hbb : b = 2 := Nat.eq_of_beq_eq_true hbb
  simp only [mw_fit] at hf
  split at hf <;> simp only [Bool.and_eq_true, Nat.beq_eq, Bool.false_eq_true] at hf <;> obtain ⟨⟨h1, h2⟩, h3⟩ := hf <;> first
    | omega
    | (subst h2 h3
       refine va_bast hx hb hK.1 hP (hDD h) hS _ 2 he rfl (mw_vp_in hin) hd (fun H1 locs1 p1 _ s1 => ?_)
       rw [vp_nar_byte] at p1
       rw [hws] at p1
       exact kk H1 locs1 p1 s1)
theorem mw_o_astL (X : mw_cx dC dI cA p s m args meth c mi) (hDD : ∀ h, va_D (mw_A ad) (mw_ws ad cA h)) (hd : decode (mw_b mi) pc = .ok (i, len)) (hf : mw_fit mi pc i len (21, n, a, b, c9, e9, v9) = true) {g k : Nat} {x : Int32} {y : Int64} (hg : (mt_grp g).1 = 4) (hbb : Nat.beq b 4 = true) (hin : mj_in x (mg.len g k))
    (kk : mw_W p l e R s m args below meth c Q dC dI ad cA mi (n, lv, st, (mj_sL h g k x.toNatClampNeg y))) : mw_W p l e R s m args below meth c Q dC dI ad cA mi (pc, lv, .inr (.inl y) :: .inl x :: .inr (.inr (g, k)) :: st, h) := by
  intro hok ls H locs hl hP hS
  obtain ⟨hx, hb, -, -, -, hown, hts, hK⟩ := X
  have kk := fun H1 locs1 p1 s1 => kk ⟨hok.1, fun v hv => hok.2.1 v (List.mem_cons_of_mem _ (List.mem_cons_of_mem _ (List.mem_cons_of_mem _ hv))), hok.2.2⟩ ls H1 locs1 hl p1 s1
  have hall := mw_val_arr (g, k) (hok.2.1 _ (List.mem_cons_of_mem _ (List.mem_cons_of_mem _ List.mem_cons_self))) (by dsimp only; omega) (by dsimp only; omega)
  have he := mw_at (ad := ad) (cA := cA) (h := h) hall
  dsimp only at he
  have hcell : ∀ h, mw_cell ad cA h g k = .inl (cA 3, mt_len g k, .inr (.inl (h.2.1 g k))) := by intro h; unfold mw_cell; rw [hg]; rfl
  rw [hcell] at he
  have hws := mw_ws_set (ad := ad) (cA := cA) (h := h) (h' := (mj_sL h g k x.toNatClampNeg y)) hall mj_sL_off
  dsimp only at hws
  rw [hcell, mj_sL_at] at hws
  have hbb : b = 4 := Nat.eq_of_beq_eq_true hbb
  simp only [mw_fit] at hf
  split at hf <;> simp only [Bool.and_eq_true, Nat.beq_eq, Bool.false_eq_true] at hf <;> obtain ⟨⟨h1, h2⟩, h3⟩ := hf <;> first
    | omega
    | (subst h2 h3
       refine va_last hx hb hK.1 hP (hDD h) hS _ 3 he rfl (mw_vp_in hin) hd (fun H1 locs1 p1 _ s1 => ?_)
       rw [hws] at p1
       exact kk H1 locs1 p1 s1)
end Sound
