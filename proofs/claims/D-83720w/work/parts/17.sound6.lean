theorem mw_clok {i : Nat} {q : vw_C} (h : mw_cl[i]? = some q) : (∀ w ∈ u_ws q.1 q.2.1 q.2.2, w ∈ mw_good) ∧ (∃ ty : Nat → FieldType, ∀ k, k < q.2.2 → parseFieldDescriptor (q.2.1 k).2.2.1 = some (ty k)) ∧ (∀ a, a < q.2.2 → ∀ b, b < q.2.2 → a ≠ b → (q.2.1 a).2.1 ≠ (q.2.1 b).2.1) := by
  match i, h with
  | 0, h => cases Option.some.inj h; exact ⟨mw_i1, ⟨_, mw_o1⟩, mw_n1⟩
  | 1, h => cases Option.some.inj h; exact ⟨mw_i2, ⟨_, mw_o2⟩, mw_n2⟩
  | 2, h => cases Option.some.inj h; exact ⟨mw_i3, ⟨_, mw_o3⟩, mw_n3⟩
  | 3, h => cases Option.some.inj h; exact ⟨mw_i4, ⟨_, mw_o4⟩, mw_n4⟩
  | 4, h => cases Option.some.inj h; exact ⟨mw_i5, ⟨_, mw_o5⟩, mw_n5⟩
  | 5, h => cases Option.some.inj h; exact ⟨mw_i6, ⟨_, mw_o6⟩, mw_n6⟩
  | 6, h => cases Option.some.inj h; exact ⟨mw_i7, ⟨_, mw_o7⟩, mw_n7⟩
  | 7, h => cases Option.some.inj h; exact ⟨mw_i8, ⟨_, mw_o8⟩, mw_n8⟩
  | 8, h => cases Option.some.inj h; exact ⟨mw_i9, ⟨_, mw_o9⟩, mw_n9⟩
  | 9, h => cases Option.some.inj h; exact ⟨mw_i10, ⟨_, mw_o10⟩, mw_n10⟩
  | 10, h => cases Option.some.inj h; exact ⟨mw_i11, ⟨_, mw_o11⟩, mw_n11⟩
  | 11, h => cases Option.some.inj h; exact ⟨mw_i12, ⟨_, mw_o12⟩, mw_n12⟩
  | 12, h => cases Option.some.inj h; exact ⟨mw_i13, ⟨_, mw_o13⟩, mw_n13⟩
  | n + 13, h => simp [mw_cl] at h
/-- what the lists of links promise -/
def mw_FL (cn x ci j nest : Nat) : Prop := ∀ q : vw_C, mw_cl[ci - 1]? = some q → (nest = 0 → Cond.fieldLink (mw_on cn) x (q.2.1 j).1 (q.2.1 j).2.1 (q.2.1 j).2.2.1 ∈ mw_good) ∧ (nest ≠ 0 → Cond.fieldLinkNest (mw_on cn) x (q.2.1 j).1 (q.2.1 j).2.1 (q.2.1 j).2.2.1 "LinkedCores" ∈ mw_nst)
theorem mw_val_all : ∀ q ∈ mw_val, (mt_grp q.1).1 = 0 → (mt_grp q.1).2 < 100 → q ∈ mw_all := by decide +kernel
theorem mw_isF_spec {cn x ci j : Nat} (h : mw_isF cn x ci j = true) : ∃ (nest : Nat) (q : vw_C), (x, ci, j, nest) ∈ mw_fl cn ∧ mw_cl[ci - 1]? = some q ∧ j < q.2.2 ∧ mw_nf ci = q.2.2 ∧ ci < 100 := by
  unfold mw_isF at h
  split at h
  · rename_i r hr
    simp only [Bool.and_eq_true, Nat.beq_eq, Nat.ble_eq] at h
    obtain ⟨⟨⟨h1, h2⟩, h3⟩, h4⟩ := h
    have hm := mw_find_mem hr
    obtain ⟨r1, r2, r3⟩ := r
    dsimp only at h1 h2
    subst h1 h2
    unfold mw_nf at h3
    split at h3
    · rename_i q hq
      refine ⟨r3, q, hm, hq, h3, by unfold mw_nf; rw [hq], ?_⟩
      have := (List.getElem?_eq_some_iff.mp hq).1
      have hl : mw_cl.length = 13 := rfl
      omega
    · omega
  · cases h
section Sound
variable {p : Program} {l : Launch} {e : Env} {R : Room} {s : State} {m : MethodId} {args : Array Value} {below : List Frame} {meth : Method} {c : Code} {Q : State → Prop} {dC : Nat → ClassId} {dI : Nat → Nat → Nat} {ad : Nat → Nat → Nat} {cA : Nat → ClassId} {mi : Nat} {pc n a b c9 e9 len : Nat} {v9 : Int32} {i : Instr} {lv : mj_L} {st : List mj_V} {h : mj_H}
theorem mw_is_spec {g : Nat} (hi : mo_is mg a g = true) : (mt_grp g).1 = 0 ∧ (mt_grp g).2 = a := by
  have h : (Nat.beq (mt_grp g).1 0 && Nat.beq (mt_grp g).2 a) = true := hi
  simpa only [Bool.and_eq_true, Nat.beq_eq] using h
theorem mw_cell_obj {g k : Nat} (h1 : (mt_grp g).1 = 0) (h2 : (mt_grp g).2 = a) : mw_cell ad cA h g k = .inr (a - 1, (List.range (mw_nf a)).map (mw_fv ad h a g k)) := by
  unfold mw_cell
  rw [h1, h2]
  rfl
theorem mw_getF (X : mw_cx dC dI cA p s m args meth c mi) (hFL : ∀ cn x ci j nest, (x, ci, j, nest) ∈ mw_fl cn → mw_FL cn x ci j nest) {x g k : Nat} (hd : decode (mw_b mi) pc = .ok (.getfield x, 3)) (hF : mw_isF (mw_mc mi) x a b = true) (hi : mo_is mg a g = true) (hv : (g, k) ∈ mw_val) {ls : Array Slot} {H : Heap} {locs : List Loc} {rest : List Value} (hP : va_P (dC, dI) mw_cl (mw_ws ad cA h) H)
    (kk : W p l e R s m args below meth c H locs 0 0 Q (F0 m (pc + 3) ls (mw_fv ad h a g k b :: rest))) : W p l e R s m args below meth c H locs 0 0 Q (F0 m pc ls (.ref (ad g k) :: rest)) := by
  obtain ⟨hx, hb, -, -, -, hown, hts, hK⟩ := X
  obtain ⟨nest, q, hm, hq, hj, hN, hlt⟩ := mw_isF_spec hF
  obtain ⟨h1, h2⟩ := mw_is_spec hi
  have hall := mw_val_all (g, k) hv h1 (by rw [h2]; exact hlt)
  have he := mw_at (ad := ad) (cA := cA) (h := h) hall
  dsimp only at he
  rw [mw_cell_obj h1 h2] at he
  have hfs : ((List.range (mw_nf a)).map (mw_fv ad h a g k))[b]? = some (mw_fv ad h a g k b) := by
    simp [hN, hj]
  obtain ⟨hin, -, -⟩ := mw_clok hq
  obtain ⟨C, T, N⟩ := q
  obtain ⟨f0, f1⟩ := hFL _ _ _ _ _ hm _ hq
  by_cases h0 : nest = 0
  · exact va_get hx hb hts hin hown hK.1 hP _ he hq b hj (hts _ (f0 h0)) (fun _ h9 => h9) hfs hd kk
  · exact va_getN hx hb hts hin hown hK.1 hP _ he hq b hj (va_Nw.use rfl (hK.2 _ (f1 h0))) (fun _ h9 => h9) hfs hd kk
theorem mw_o_getI (X : mw_cx dC dI cA p s m args meth c mi) (hFL : ∀ cn x ci j nest, (x, ci, j, nest) ∈ mw_fl cn → mw_FL cn x ci j nest) (hd : decode (mw_b mi) pc = .ok (i, len)) (hf : mw_fit mi pc i len (12, n, a, b, c9, e9, v9) = true) {g k : Nat} (hi : mo_is mg a g = true)
    (kk : mw_W p l e R s m args below meth c Q dC dI ad cA mi (n, lv, .inl (h.1 g k b) :: st, h)) : mw_W p l e R s m args below meth c Q dC dI ad cA mi (pc, lv, .inr (.inr (g, k)) :: st, h) := by
  intro hok ls H locs hl hP hS
  have kk := kk ⟨hok.1, fun v hv => by rcases List.mem_cons.mp hv with rfl | hv; trivial; exact hok.2.1 v (List.mem_cons_of_mem _ hv), hok.2.2⟩ ls H locs hl hP hS
  simp only [mw_fit] at hf
  split at hf <;> simp only [Bool.and_eq_true, Nat.beq_eq, Bool.false_eq_true, beq_iff_eq] at hf
  · obtain ⟨⟨⟨h2, h3⟩, hF⟩, hz⟩ := hf
    subst h2 h3
    refine mw_getF X hFL hd hF hi (hok.2.1 _ List.mem_cons_self) hP ?_
    have e1 : mw_fv ad h a g k b = .int (h.1 g k b) := by simp only [mw_fv, hz]
    rw [e1]
    exact kk
theorem mw_o_getL (X : mw_cx dC dI cA p s m args meth c mi) (hFL : ∀ cn x ci j nest, (x, ci, j, nest) ∈ mw_fl cn → mw_FL cn x ci j nest) (hd : decode (mw_b mi) pc = .ok (i, len)) (hf : mw_fit mi pc i len (13, n, a, b, c9, e9, v9) = true) {g k : Nat} (hi : mo_is mg a g = true)
    (kk : mw_W p l e R s m args below meth c Q dC dI ad cA mi (n, lv, .inr (.inl (h.2.1 g k b)) :: st, h)) : mw_W p l e R s m args below meth c Q dC dI ad cA mi (pc, lv, .inr (.inr (g, k)) :: st, h) := by
  intro hok ls H locs hl hP hS
  have kk := kk ⟨hok.1, fun v hv => by rcases List.mem_cons.mp hv with rfl | hv; trivial; exact hok.2.1 v (List.mem_cons_of_mem _ hv), hok.2.2⟩ ls H locs hl hP hS
  simp only [mw_fit] at hf
  split at hf <;> simp only [Bool.and_eq_true, Nat.beq_eq, Bool.false_eq_true, beq_iff_eq] at hf
  · obtain ⟨⟨⟨h2, h3⟩, hF⟩, hz⟩ := hf
    subst h2 h3
    refine mw_getF X hFL hd hF hi (hok.2.1 _ List.mem_cons_self) hP ?_
    have e1 : mw_fv ad h a g k b = .long (h.2.1 g k b) := by simp only [mw_fv, hz]
    rw [e1]
    exact kk
end Sound
