theorem mw_ref_val : ∀ q ∈ mw_all, (mt_grp q.1).1 = 0 → ∀ j, j < mw_nf (mt_grp q.1).2 → mw_fz (mt_grp q.1).2 j = 3 → mt_ref q.1 q.2 j ∈ mw_val := by decide +kernel
section Sound
variable {p : Program} {l : Launch} {e : Env} {R : Room} {s : State} {m : MethodId} {args : Array Value} {below : List Frame} {meth : Method} {c : Code} {Q : State → Prop} {dC : Nat → ClassId} {dI : Nat → Nat → Nat} {ad : Nat → Nat → Nat} {cA : Nat → ClassId} {mi : Nat} {pc n a b c9 e9 len : Nat} {v9 : Int32} {i : Instr} {lv : mj_L} {st : List mj_V} {h : mj_H}
theorem mw_o_getS (X : mw_cx dC dI cA p s m args meth c mi) (hFL : ∀ cn x ci j nest, (x, ci, j, nest) ∈ mw_fl cn → mw_FL cn x ci j nest) (hd : decode (mw_b mi) pc = .ok (i, len)) (hf : mw_fit mi pc i len (14, n, a, b, c9, e9, v9) = true) {g k : Nat} (hi : mo_is mg a g = true)
    (kk : mw_W p l e R s m args below meth c Q dC dI ad cA mi (n, lv, .inr (.inr (mg.ref g k b)) :: st, h)) : mw_W p l e R s m args below meth c Q dC dI ad cA mi (pc, lv, .inr (.inr (g, k)) :: st, h) := by
  intro hok ls H locs hl hP hS
  simp only [mw_fit] at hf
  split at hf <;> simp only [Bool.and_eq_true, Nat.beq_eq, Bool.false_eq_true, beq_iff_eq] at hf
  · obtain ⟨⟨⟨h2, h3⟩, hF⟩, hz⟩ := hf
    subst h2 h3
    have hv : (g, k) ∈ mw_val := hok.2.1 _ List.mem_cons_self
    obtain ⟨nest, q, hm, hq, hj, hN, hlt⟩ := mw_isF_spec hF
    obtain ⟨g1, g2⟩ := mw_is_spec hi
    have hall := mw_val_all (g, k) hv g1 (by rw [g2]; exact hlt)
    have hr := mw_ref_val (g, k) hall g1 b (by rw [g2, hN]; exact hj) (by rw [g2]; exact hz)
    have kk := kk ⟨hok.1, fun v hv => by rcases List.mem_cons.mp hv with rfl | hv; exact hr; exact hok.2.1 v (List.mem_cons_of_mem _ hv), hok.2.2⟩ ls H locs hl hP hS
    refine mw_getF X hFL hd hF hi hv hP ?_
    have e1 : mw_fv ad h a g k b = .ref (ad (mt_ref g k b).1 (mt_ref g k b).2) := by simp only [mw_fv, hz]
    rw [e1]
    exact kk
theorem mw_o_getD (X : mw_cx dC dI cA p s m args meth c mi) (hFL : ∀ cn x ci j nest, (x, ci, j, nest) ∈ mw_fl cn → mw_FL cn x ci j nest) (hd : decode (mw_b mi) pc = .ok (i, len)) (hf : mw_fit mi pc i len (15, n, a, b, c9, e9, v9) = true) {g k : Nat} (hi : mo_is mg a g = true) (h0 : 0 < h.2.2 g k b) (hval : (c9, h.2.2 g k b - 1) ∈ mw_val) (hc9 : 0 < c9)
    (kk : mw_W p l e R s m args below meth c Q dC dI ad cA mi (n, lv, .inr (.inr (c9, h.2.2 g k b - 1)) :: st, h)) : mw_W p l e R s m args below meth c Q dC dI ad cA mi (pc, lv, .inr (.inr (g, k)) :: st, h) := by
  intro hok ls H locs hl hP hS
  have kk := kk ⟨hok.1, fun v hv => by rcases List.mem_cons.mp hv with rfl | hv; exact hval; exact hok.2.1 v (List.mem_cons_of_mem _ hv), hok.2.2⟩ ls H locs hl hP hS
  simp only [mw_fit] at hf
  split at hf <;> simp only [Bool.and_eq_true, Nat.beq_eq, Bool.false_eq_true, beq_iff_eq] at hf
  · obtain ⟨⟨⟨h2, h3⟩, hF⟩, hz⟩ := hf
    subst h2 h3
    refine mw_getF X hFL hd hF hi (hok.2.1 _ List.mem_cons_self) hP ?_
    have e1 : mw_fv ad h a g k b = .ref (ad c9 (h.2.2 g k b - 1)) := by
      unfold mw_fv
      rw [hz]
      split
      · omega
      · omega
      · omega
      · rename_i q9 _ _ _ _
        simp only [mw_or, Nat.add_sub_cancel, show ¬ h.2.2 g k b = 0 by omega, if_false, va_rf]
    rw [e1]
    exact kk
theorem mw_putF (X : mw_cx dC dI cA p s m args meth c mi) (hDD : ∀ h, va_D (mw_A ad) (mw_ws ad cA h)) (hFL : ∀ cn x ci j nest, (x, ci, j, nest) ∈ mw_fl cn → mw_FL cn x ci j nest) {x g k : Nat} (hd : decode (mw_b mi) pc = .ok (.putfield x, 3)) (hF : mw_isF (mw_mc mi) x a b = true) (hi : mo_is mg a g = true) (hv : (g, k) ∈ mw_val) (hnf : mw_nfin a b = true) {h' : mj_H} {v : Value} (hset : (List.range (mw_nf a)).map (mw_fv ad h' a g k) = ((List.range (mw_nf a)).map (mw_fv ad h a g k)).set b v) (hoff : ∀ g' k', (g', k') ≠ (g, k) → h.1 g' k' = h'.1 g' k' ∧ h.2.1 g' k' = h'.2.1 g' k' ∧ h.2.2 g' k' = h'.2.2 g' k')
    {ty : FieldType} (hty : ∀ q : vw_C, mw_cl[a - 1]? = some q → parseFieldDescriptor (q.2.1 b).2.2.1 = some ty) (hnr : narrow ty v = v) (hft : fits ty v = true) {ls : Array Slot} {H : Heap} {locs : List Loc} {rest : List Value} (hP : va_P (dC, dI) mw_cl (mw_ws ad cA h) H) (hS : va_S (mw_A ad) s.heap H locs)
    (kk : ∀ (H1 : Heap) (locs1 : List Loc), va_P (dC, dI) mw_cl (mw_ws ad cA h') H1 → va_S (mw_A ad) s.heap H1 locs1 → W p l e R s m args below meth c H1 locs1 0 0 Q (F0 m (pc + 3) ls rest)) : W p l e R s m args below meth c H locs 0 0 Q (F0 m pc ls (v :: .ref (ad g k) :: rest)) := by
  obtain ⟨hx, hb, -, -, -, hown, hts, hK⟩ := X
  obtain ⟨nest, q, hm, hq, hj, hN, hlt⟩ := mw_isF_spec hF
  obtain ⟨h1, h2⟩ := mw_is_spec hi
  have hall := mw_val_all (g, k) hv h1 (by rw [h2]; exact hlt)
  have he := mw_at (ad := ad) (cA := cA) (h := h) hall
  dsimp only at he
  rw [mw_cell_obj h1 h2] at he
  have hws : (mw_ws ad cA h).set (mw_pos0 g + k) (ad g k, .inr (a - 1, ((List.range (mw_nf a)).map (mw_fv ad h a g k)).set b v)) = mw_ws ad cA h' := by
    rw [← hset, ← mw_cell_obj (ad := ad) (cA := cA) (h := h') (k := k) h1 h2]
    exact mw_ws_set hall hoff
  have hlen : b < ((List.range (mw_nf a)).map (mw_fv ad h a g k)).length := by simp [hN, hj]
  have hty := hty q hq
  have hfin : (q.2.1 b).2.2.2 = false := by
    unfold mw_nfin at hnf
    rw [hq] at hnf
    simpa using hnf
  obtain ⟨hin, ⟨ty0, hty0⟩, hnm⟩ := mw_clok hq
  obtain ⟨C, T, N⟩ := q
  obtain ⟨f0, f1⟩ := hFL _ _ _ _ _ hm _ hq
  by_cases h0 : nest = 0
  · refine va_put hx hb hts hin ty0 hty0 hnm hown hK.1 hP (hDD h) hS _ he hq b hj (hts _ (f0 h0)) (fun _ h9 => h9) hfin hty hnr hft hlen hd (fun H1 locs1 p1 _ s1 => ?_)
    rw [hws] at p1
    exact kk H1 locs1 p1 s1
  · refine va_putN hx hb hts hin ty0 hty0 hnm hown hK.1 hP (hDD h) hS _ he hq b hj (va_Nw.use rfl (hK.2 _ (f1 h0))) (fun _ h9 => h9) hfin hty hnr hft hlen hd (fun H1 locs1 p1 _ s1 => ?_)
    rw [hws] at p1
    exact kk H1 locs1 p1 s1
theorem mw_o_putI (X : mw_cx dC dI cA p s m args meth c mi) (hDD : ∀ h, va_D (mw_A ad) (mw_ws ad cA h)) (hFL : ∀ cn x ci j nest, (x, ci, j, nest) ∈ mw_fl cn → mw_FL cn x ci j nest) (hd : decode (mw_b mi) pc = .ok (i, len)) (hf : mw_fit mi pc i len (16, n, a, b, c9, e9, v9) = true) {g k : Nat} {x : Int32} (hi : mo_is mg a g = true)
    (kk : mw_W p l e R s m args below meth c Q dC dI ad cA mi (n, lv, st, (mj_sI h g k b x))) : mw_W p l e R s m args below meth c Q dC dI ad cA mi (pc, lv, .inl x :: .inr (.inr (g, k)) :: st, h) := by
  intro hok ls H locs hl hP hS
  have kk := fun H1 locs1 p1 s1 => kk ⟨hok.1, fun v hv => hok.2.1 v (List.mem_cons_of_mem _ (List.mem_cons_of_mem _ hv)), hok.2.2⟩ ls H1 locs1 hl p1 s1
  simp only [mw_fit] at hf
  split at hf <;> simp only [Bool.and_eq_true, Nat.beq_eq, Bool.false_eq_true, beq_iff_eq] at hf
  · obtain ⟨⟨⟨⟨⟨h2, h3⟩, hF⟩, hnf⟩, hz⟩, hI⟩ := hf
    subst h2 h3
    refine mw_putF X hDD hFL hd hF hi (hok.2.1 _ (List.mem_cons_of_mem _ List.mem_cons_self)) hnf (mw_obj_sI hz) mj_sI_off (ty := .int) ?_ ?_ ?_ hP hS kk
    · intro q hq
      unfold mw_fI at hI
      rw [hq] at hI
      rw [of_decide_eq_true hI]
      decide +kernel
    · rfl
    · rfl
theorem mw_o_putZ (X : mw_cx dC dI cA p s m args meth c mi) (hDD : ∀ h, va_D (mw_A ad) (mw_ws ad cA h)) (hFL : ∀ cn x ci j nest, (x, ci, j, nest) ∈ mw_fl cn → mw_FL cn x ci j nest) (hd : decode (mw_b mi) pc = .ok (i, len)) (hf : mw_fit mi pc i len (17, n, a, b, c9, e9, v9) = true) {g k : Nat} {x : Int32} (hi : mo_is mg a g = true) (hx01 : x = 0 ∨ x = 1)
    (kk : mw_W p l e R s m args below meth c Q dC dI ad cA mi (n, lv, st, (mj_sI h g k b x))) : mw_W p l e R s m args below meth c Q dC dI ad cA mi (pc, lv, .inl x :: .inr (.inr (g, k)) :: st, h) := by
  intro hok ls H locs hl hP hS
  have kk := fun H1 locs1 p1 s1 => kk ⟨hok.1, fun v hv => hok.2.1 v (List.mem_cons_of_mem _ (List.mem_cons_of_mem _ hv)), hok.2.2⟩ ls H1 locs1 hl p1 s1
  simp only [mw_fit] at hf
  split at hf <;> simp only [Bool.and_eq_true, Nat.beq_eq, Bool.false_eq_true, beq_iff_eq] at hf
  · obtain ⟨⟨⟨⟨⟨h2, h3⟩, hF⟩, hnf⟩, hz⟩, hI⟩ := hf
    subst h2 h3
    refine mw_putF X hDD hFL hd hF hi (hok.2.1 _ (List.mem_cons_of_mem _ List.mem_cons_self)) hnf (mw_obj_sI hz) mj_sI_off (ty := .boolean) ?_ ?_ ?_ hP hS kk
    · intro q hq
      unfold mw_fZ at hI
      rw [hq] at hI
      rw [of_decide_eq_true hI]
      decide +kernel
    · rcases hx01 with rfl | rfl <;> decide +kernel
    · rcases hx01 with rfl | rfl <;> decide +kernel
end Sound
