/-- the place of an array's class among the kinds -/
theorem mw_tys_at (cA : Nat → ClassId) {el : Nat} (h : el = 12 ∨ el = 13 ∨ el = 16 ∨ el = 17 ∨ el = 18) : ∃ (t : Nat) (C : String), (mw_tys cA)[t]? = some (cA el, .object C) := by
  rcases h with rfl | rfl | rfl | rfl | rfl
  · exact ⟨4, _, rfl⟩
  · exact ⟨5, _, rfl⟩
  · exact ⟨6, _, rfl⟩
  · exact ⟨7, _, rfl⟩
  · exact ⟨8, _, rfl⟩
section Sound
variable {p : Program} {l : Launch} {e : Env} {R : Room} {s : State} {m : MethodId} {args : Array Value} {below : List Frame} {meth : Method} {c : Code} {Q : State → Prop} {dC : Nat → ClassId} {dI : Nat → Nat → Nat} {ad : Nat → Nat → Nat} {cA : Nat → ClassId} {mi : Nat} {pc n a b c9 e9 len : Nat} {v9 : Int32} {i : Instr} {lv : mj_L} {st : List mj_V} {h : mj_H}
theorem mw_o_aldS (X : mw_cx dC dI cA p s m args meth c mi) (hd : decode (mw_b mi) pc = .ok (i, len)) (hf : mw_fit mi pc i len (20, n, a, b, c9, e9, v9) = true) {g k : Nat} {x : Int32} (hg : (mt_grp g).1 = 5) (hbb : Nat.beq b 5 = true) (hin : mj_in x (mg.len g k))
    (kk : mw_W p l e R s m args below meth c Q dC dI ad cA mi (n, lv, .inr (.inr ((mg.grp g).2, x.toNatClampNeg)) :: st, h)) : mw_W p l e R s m args below meth c Q dC dI ad cA mi (pc, lv, .inl x :: .inr (.inr (g, k)) :: st, h) := by
  intro hok ls H locs hl hP hS
  obtain ⟨hx, hb, -, -, -, hown, hts, hK⟩ := X
  have hall := mw_val_arr (g, k) (hok.2.1 _ (List.mem_cons_of_mem _ List.mem_cons_self)) (by dsimp only; omega) (by dsimp only; omega)
  have hvv : ((mt_grp g).2, x.toNatClampNeg) ∈ mw_val := mw_val_ix (g, k) hall hg _ (mw_clamp_lt hin)
  have kk := kk ⟨hok.1, fun v hv => by rcases List.mem_cons.mp hv with rfl | hv; exact hvv; exact hok.2.1 v (List.mem_cons_of_mem _ (List.mem_cons_of_mem _ hv)), hok.2.2⟩ ls H locs hl hP hS
  have he := mw_at (ad := ad) (cA := cA) (h := h) hall
  dsimp only at he
  have hcell : mw_cell ad cA h g k = .inl (cA (mt_grp g).2, mt_len g k, .inr (.inr (.inr (.inr (fun i => some (ad (mt_grp g).2 i)))))) := by unfold mw_cell; rw [hg]; rfl
  rw [hcell] at he
  obtain ⟨t, C, ht⟩ := mw_tys_at cA (mw_tys_el (g, k) hall (by dsimp only; omega))
  have hbb : b = 5 := Nat.eq_of_beq_eq_true hbb
  simp only [mw_fit] at hf
  split at hf <;> simp only [Bool.and_eq_true, Nat.beq_eq, Bool.false_eq_true] at hf <;> obtain ⟨⟨h1, h2⟩, h3⟩ := hf <;> first
    | omega
    | (subst h2 h3
       refine va_aldq hx hb hK.1 hP _ t he ht (mw_vp_in hin) hd ?_
       show W p l e R s m args below meth c H locs 0 0 Q (F0 m (pc + 1) ls (.ref (ad (mt_grp g).2 x.toNatClampNeg) :: st.map (mw_v ad)))
       exact kk)
theorem mw_o_aldD (X : mw_cx dC dI cA p s m args meth c mi) (hd : decode (mw_b mi) pc = .ok (i, len)) (hf : mw_fit mi pc i len (20, n, a, b, c9, e9, v9) = true) {g k : Nat} {x : Int32} (hg : (mt_grp g).1 = 6) (hbb : Nat.beq b 5 = true) (hin : mj_in x (mg.len g k)) (h0 : 0 < h.2.2 g k x.toNatClampNeg)
    (kk : mw_W p l e R s m args below meth c Q dC dI ad cA mi (n, lv, .inr (.inr ((mg.grp g).2, h.2.2 g k x.toNatClampNeg - 1)) :: st, h)) : mw_W p l e R s m args below meth c Q dC dI ad cA mi (pc, lv, .inl x :: .inr (.inr (g, k)) :: st, h) := by
  intro hok ls H locs hl hP hS
  obtain ⟨hx, hb, -, -, -, hown, hts, hK⟩ := X
  have hall := mw_val_arr (g, k) (hok.2.1 _ (List.mem_cons_of_mem _ List.mem_cons_self)) (by dsimp only; omega) (by dsimp only; omega)
  have hvv : ((mt_grp g).2, h.2.2 g k x.toNatClampNeg - 1) ∈ mw_val := (hok.2.2 g k x.toNatClampNeg).1 hg h0
  have kk := kk ⟨hok.1, fun v hv => by rcases List.mem_cons.mp hv with rfl | hv; exact hvv; exact hok.2.1 v (List.mem_cons_of_mem _ (List.mem_cons_of_mem _ hv)), hok.2.2⟩ ls H locs hl hP hS
  have he := mw_at (ad := ad) (cA := cA) (h := h) hall
  dsimp only at he
  have hcell : mw_cell ad cA h g k = .inl (cA (mt_grp g).2, mt_len g k, .inr (.inr (.inr (.inr (fun i => mw_or ad (mt_grp g).2 (h.2.2 g k i)))))) := by unfold mw_cell; rw [hg]; rfl
  rw [hcell] at he
  obtain ⟨t, C, ht⟩ := mw_tys_at cA (mw_tys_el (g, k) hall (by dsimp only; omega))
  have hbb : b = 5 := Nat.eq_of_beq_eq_true hbb
  simp only [mw_fit] at hf
  split at hf <;> simp only [Bool.and_eq_true, Nat.beq_eq, Bool.false_eq_true] at hf <;> obtain ⟨⟨h1, h2⟩, h3⟩ := hf <;> first
    | omega
    | (subst h2 h3
       refine va_aldq hx hb hK.1 hP _ t he ht (mw_vp_in hin) hd ?_
       have e1 : va_rf (mw_or ad (mt_grp g).2 (h.2.2 g k x.toNatClampNeg)) = .ref (ad (mt_grp g).2 (h.2.2 g k x.toNatClampNeg - 1)) := by simp only [mw_or, show ¬ h.2.2 g k x.toNatClampNeg = 0 by omega, if_false, va_rf]
       rw [e1]
       exact kk)
theorem mw_o_len (X : mw_cx dC dI cA p s m args meth c mi) (hd : decode (mw_b mi) pc = .ok (i, len)) (hf : mw_fit mi pc i len (35, n, a, b, c9, e9, v9) = true) {g k : Nat} (hg1 : 1 ≤ (mt_grp g).1) (hg6 : (mt_grp g).1 ≤ 6)
    (kk : mw_W p l e R s m args below meth c Q dC dI ad cA mi (n, lv, .inl (nI (mg.len g k)) :: st, h)) : mw_W p l e R s m args below meth c Q dC dI ad cA mi (pc, lv, .inr (.inr (g, k)) :: st, h) := by
  intro hok ls H locs hl hP hS
  obtain ⟨hx, hb, -, -, -, hown, hts, hK⟩ := X
  have kk := kk ⟨hok.1, fun v hv => by rcases List.mem_cons.mp hv with rfl | hv; trivial; exact hok.2.1 v (List.mem_cons_of_mem _ hv), hok.2.2⟩ ls H locs hl hP hS
  have hall := mw_val_arr (g, k) (hok.2.1 _ List.mem_cons_self) hg1 hg6
  have he := mw_at (ad := ad) (cA := cA) (h := h) hall
  dsimp only at he
  have hcell : ∃ (cB : ClassId) (z : (Nat → Int32) ⊕ (Nat → Int64) ⊕ (Nat → UInt32) ⊕ (Nat → UInt64) ⊕ (Nat → Option Nat)) (t : Nat) (ty : FieldType), mw_cell ad cA h g k = .inl (cB, mt_len g k, z) ∧ (mw_tys cA)[t]? = some (cB, ty) := by
    rcases (by omega : (mt_grp g).1 = 1 ∨ (mt_grp g).1 = 2 ∨ (mt_grp g).1 = 3 ∨ (mt_grp g).1 = 4 ∨ (mt_grp g).1 = 5 ∨ (mt_grp g).1 = 6) with hg | hg | hg | hg | hg | hg
    · exact ⟨_, _, 0, _, by unfold mw_cell; rw [hg]; rfl, rfl⟩
    · exact ⟨_, _, 1, _, by unfold mw_cell; rw [hg]; rfl, rfl⟩
    · exact ⟨_, _, 2, _, by unfold mw_cell; rw [hg]; rfl, rfl⟩
    · exact ⟨_, _, 3, _, by unfold mw_cell; rw [hg]; rfl, rfl⟩
    · obtain ⟨t, C, ht⟩ := mw_tys_at cA (mw_tys_el (g, k) hall (by dsimp only; omega))
      exact ⟨_, _, t, _, by unfold mw_cell; rw [hg]; rfl, ht⟩
    · obtain ⟨t, C, ht⟩ := mw_tys_at cA (mw_tys_el (g, k) hall (by dsimp only; omega))
      exact ⟨_, _, t, _, by unfold mw_cell; rw [hg]; rfl, ht⟩
  obtain ⟨cB, z, t, ty, hc, ht⟩ := hcell
  rw [hc] at he
  simp only [mw_fit] at hf
  split at hf <;> simp only [Bool.and_eq_true, Nat.beq_eq, Bool.false_eq_true] at hf
  · obtain ⟨h2, h3⟩ := hf
    subst h2 h3
    exact va_alen hx hb hK.1 hP _ t he ht rfl hd kk
theorem mw_o_acmp (X : mw_cx dC dI cA p s m args meth c mi) (hinj : ∀ g k k', (g, k) ∈ mw_val → (g, k') ∈ mw_val → ad g k = ad g k' → k = k') (hd : decode (mw_b mi) pc = .ok (i, len)) (hf : mw_fit mi pc i len (10, n, a, b, c9, e9, v9) = true) {g k k' : Nat}
    (kt : k = k' → mw_W p l e R s m args below meth c Q dC dI ad cA mi (a, lv, st, h)) (kf : ¬ k = k' → mw_W p l e R s m args below meth c Q dC dI ad cA mi (n, lv, st, h)) : mw_W p l e R s m args below meth c Q dC dI ad cA mi (pc, lv, .inr (.inr (g, k')) :: .inr (.inr (g, k)) :: st, h) := by
  intro hok ls H locs hl hP hS
  obtain ⟨hx, hb, -, -, -, -, -, -⟩ := X
  have hok' : ∀ z, mw_okf (z, lv, st, h) := fun z => ⟨hok.1, fun v hv => hok.2.1 v (List.mem_cons_of_mem _ (List.mem_cons_of_mem _ hv)), hok.2.2⟩
  have v1 : (g, k') ∈ mw_val := hok.2.1 _ List.mem_cons_self
  have v2 : (g, k) ∈ mw_val := hok.2.1 _ (List.mem_cons_of_mem _ List.mem_cons_self)
  simp only [mw_fit] at hf
  split at hf <;> simp only [Bool.and_eq_true, Nat.beq_eq, Bool.false_eq_true, decide_eq_true_eq] at hf
  · obtain ⟨⟨h1, h2⟩, h3⟩ := hf
    subst h2 h3
    exact lv_acmp_eq (rx := some (ad g k)) (ry := some (ad g k')) hx hb hd h1 (fun q => kt (hinj _ _ _ v2 v1 (Option.some.inj q)) (hok' _) ls H locs hl hP hS) (fun q => kf (fun q2 => q (by rw [q2])) (hok' _) ls H locs hl hP hS)
theorem mw_o_acmn (X : mw_cx dC dI cA p s m args meth c mi) (hinj : ∀ g k k', (g, k) ∈ mw_val → (g, k') ∈ mw_val → ad g k = ad g k' → k = k') (hd : decode (mw_b mi) pc = .ok (i, len)) (hf : mw_fit mi pc i len (11, n, a, b, c9, e9, v9) = true) {g k k' : Nat}
    (kt : k = k' → mw_W p l e R s m args below meth c Q dC dI ad cA mi (n, lv, st, h)) (kf : ¬ k = k' → mw_W p l e R s m args below meth c Q dC dI ad cA mi (a, lv, st, h)) : mw_W p l e R s m args below meth c Q dC dI ad cA mi (pc, lv, .inr (.inr (g, k')) :: .inr (.inr (g, k)) :: st, h) := by
  intro hok ls H locs hl hP hS
  obtain ⟨hx, hb, -, -, -, -, -, -⟩ := X
  have hok' : ∀ z, mw_okf (z, lv, st, h) := fun z => ⟨hok.1, fun v hv => hok.2.1 v (List.mem_cons_of_mem _ (List.mem_cons_of_mem _ hv)), hok.2.2⟩
  have v1 : (g, k') ∈ mw_val := hok.2.1 _ List.mem_cons_self
  have v2 : (g, k) ∈ mw_val := hok.2.1 _ (List.mem_cons_of_mem _ List.mem_cons_self)
  simp only [mw_fit] at hf
  split at hf <;> simp only [Bool.and_eq_true, Nat.beq_eq, Bool.false_eq_true, decide_eq_true_eq] at hf
  · obtain ⟨⟨h1, h2⟩, h3⟩ := hf
    subst h2 h3
    exact lv_acmp_ne (rx := some (ad g k)) (ry := some (ad g k')) hx hb hd h1 (fun q => kf (fun q2 => q (by rw [q2])) (hok' _) ls H locs hl hP hS) (fun q => kt (hinj _ _ _ v2 v1 (Option.some.inj q)) (hok' _) ls H locs hl hP hS)
end Sound
