theorem mw_beq (a b : Nat) : (a == b) = Nat.beq a b := by rw [Bool.eq_iff_iff, beq_iff_eq, Nat.beq_eq]
section Sound
variable {p : Program} {l : Launch} {e : Env} {R : Room} {s : State} {m : MethodId} {args : Array Value} {below : List Frame} {meth : Method} {c : Code} {Q : State → Prop} {dC : Nat → ClassId} {dI : Nat → Nat → Nat} {ad : Nat → Nat → Nat} {cA : Nat → ClassId} {mi : Nat} {pc n a b c9 e9 len : Nat} {v9 : Int32} {i : Instr} {lv : mj_L} {st : List mj_V} {h : mj_H}
theorem mw_okf_st {lv : mj_L} {st st' : List mj_V} {h : mj_H} {pc n : Nat} (hok : mw_okf (pc, lv, st, h)) (hs : ∀ v ∈ st', mw_vd v) : mw_okf (n, lv, st', h) := ⟨hok.1, hs, hok.2.2⟩
theorem mw_o_const (X : mw_cx dC dI cA p s m args meth c mi) (hc : ∀ cn x v, mw_kI cn x = some v → Cond.constant (mw_on cn) x v ∈ mw_good) (hd : decode (mw_b mi) pc = .ok (i, len)) (hf : mw_fit mi pc i len (1, n, a, b, c9, e9, v9) = true)
    (kk : mw_W p l e R s m args below meth c Q dC dI ad cA mi (n, lv, .inl v9 :: st, h)) : mw_W p l e R s m args below meth c Q dC dI ad cA mi (pc, lv, st, h) := by
  intro hok ls H locs hl hP hS
  obtain ⟨hx, hb, -, -, -, hown, hts, -⟩ := X
  have kk := kk (mw_okf_st hok (fun v hv => by rcases List.mem_cons.mp hv with rfl | hv; trivial; exact hok.2.1 v hv)) ls H locs hl hP hS
  simp only [mw_fit] at hf
  split at hf <;> simp only [Bool.and_eq_true, Nat.beq_eq, Bool.false_eq_true, decide_eq_true_eq] at hf
  · obtain ⟨⟨h1, h2⟩, h3⟩ := hf
    subst h2 h3
    exact lv_iconst hx hb hd h1 kk
  · obtain ⟨⟨h1, h2⟩, h3⟩ := hf
    subst h2 h3
    exact lv_bipush hx hb hd h1 kk
  · obtain ⟨⟨h1, h2⟩, h3⟩ := hf
    subst h2 h3
    exact lv_sipush hx hb hd h1 kk
  · obtain ⟨⟨h1, h2⟩, h3⟩ := hf
    subst h2 h3
    exact lv_ldc hx hb hown (hts _ (hc _ _ _ h1)) hd kk
  · obtain ⟨⟨h1, h2⟩, h3⟩ := hf
    subst h2 h3
    exact lv_ldcw hx hb hown (hts _ (hc _ _ _ h1)) hd kk
theorem mw_o_lconst (X : mw_cx dC dI cA p s m args meth c mi) (hc : ∀ cn x v, mw_kL cn x = some v → Cond.constantLong (mw_on cn) x (Int64.ofNat v) ∈ mw_good) (hd : decode (mw_b mi) pc = .ok (i, len)) (hf : mw_fit mi pc i len (2, n, a, b, c9, e9, v9) = true)
    (kk : mw_W p l e R s m args below meth c Q dC dI ad cA mi (n, lv, .inr (.inl (Int64.ofNat c9)) :: st, h)) : mw_W p l e R s m args below meth c Q dC dI ad cA mi (pc, lv, st, h) := by
  intro hok ls H locs hl hP hS
  obtain ⟨hx, hb, -, -, -, hown, hts, -⟩ := X
  have kk := kk (mw_okf_st hok (fun v hv => by rcases List.mem_cons.mp hv with rfl | hv; trivial; exact hok.2.1 v hv)) ls H locs hl hP hS
  simp only [mw_fit] at hf
  split at hf <;> simp only [Bool.and_eq_true, Nat.beq_eq, Bool.false_eq_true, decide_eq_true_eq] at hf
  · obtain ⟨⟨h1, h2⟩, h3⟩ := hf
    subst h1 h2 h3
    exact lv_lconst hx hb hd rfl kk
  · obtain ⟨⟨h1, h2⟩, h3⟩ := hf
    subst h2 h3
    exact lv_ldc2 hx hb hown (hts _ (hc _ _ _ h1)) hd kk
theorem mw_lv_st1 {lv : mj_L} {a : Nat} {x : mj_V} : (a, mw_v ad x) :: (lv.map (fun q => (q.1, mw_v ad q.2))).filter (fun q => !(q.1 == a) && !(q.1 + 1 == a && q.2.category == 2)) = (mj_st1 lv a x).map (fun q => (q.1, mw_v ad q.2)) := by
  simp only [mj_st1, List.map_cons, List.filter_map]
  refine congrArg (List.cons (a, mw_v ad x)) (congrArg (List.map _) (congrArg (fun f => List.filter f lv) (funext fun q => ?_)))
  simp only [Function.comp, mw_cat_v, mw_beq]
theorem mw_lv_st2 {lv : mj_L} {a : Nat} {x : mj_V} : (a, mw_v ad x) :: (lv.map (fun q => (q.1, mw_v ad q.2))).filter (fun q => !(q.1 == a) && (!(q.1 == a + 1) && !(q.1 + 1 == a && q.2.category == 2))) = (mj_st2 lv a x).map (fun q => (q.1, mw_v ad q.2)) := by
  simp only [mj_st2, List.map_cons, List.filter_map]
  refine congrArg (List.cons (a, mw_v ad x)) (congrArg (List.map _) (congrArg (fun f => List.filter f lv) (funext fun q => ?_)))
  simp only [Function.comp, mw_cat_v, mw_beq]
theorem mw_vd_st1 {lv : mj_L} {a : Nat} {x : mj_V} (h : ∀ q ∈ lv, mw_vd q.2) (hx : mw_vd x) : ∀ q ∈ mj_st1 lv a x, mw_vd q.2 := by
  intro q hq
  rcases List.mem_cons.mp hq with rfl | hq
  · exact hx
  · exact h q (List.mem_filter.mp hq).1
theorem mw_vd_st2 {lv : mj_L} {a : Nat} {x : mj_V} (h : ∀ q ∈ lv, mw_vd q.2) (hx : mw_vd x) : ∀ q ∈ mj_st2 lv a x, mw_vd q.2 := by
  intro q hq
  rcases List.mem_cons.mp hq with rfl | hq
  · exact hx
  · exact h q (List.mem_filter.mp hq).1
theorem mw_o_storeI (X : mw_cx dC dI cA p s m args meth c mi) (hd : decode (mw_b mi) pc = .ok (i, len)) (hf : mw_fit mi pc i len (4, n, a, b, c9, e9, v9) = true) (hb0 : Nat.beq b 0 = true) {x : Int32}
    (kk : mw_W p l e R s m args below meth c Q dC dI ad cA mi (n, mj_st1 lv a (.inl x), st, h)) : mw_W p l e R s m args below meth c Q dC dI ad cA mi (pc, lv, .inl x :: st, h) := by
  intro hok ls H locs hl hP hS
  obtain ⟨hx, hb, -, -, -, -, -, -⟩ := X
  have kk := fun ls' hl' => kk ⟨mw_vd_st1 hok.1 trivial, fun v hv => hok.2.1 v (List.mem_cons_of_mem _ hv), hok.2.2⟩ ls' H locs hl' hP hS
  have hb0 : b = 0 := Nat.eq_of_beq_eq_true hb0
  simp only [mw_fit] at hf
  split at hf <;> simp only [Bool.and_eq_true, Nat.beq_eq, Bool.false_eq_true, Nat.ble_eq] at hf
  · obtain ⟨⟨⟨⟨h1, h2⟩, h3⟩, h4⟩, h5⟩ := hf
    subst h1 h3 h4
    exact lv_istore_n hx hb hd rfl hl h5 (mw_lv_st1 (ad := ad) (lv := lv) (x := (.inl x))) kk
  · obtain ⟨⟨⟨⟨h1, h2⟩, h3⟩, h4⟩, h5⟩ := hf
    omega
  · obtain ⟨⟨⟨⟨h1, h2⟩, h3⟩, h4⟩, h5⟩ := hf
    subst h1 h3 h4
    exact lv_istore hx hb hd hl h5 (mw_lv_st1 (ad := ad) (lv := lv) (x := (.inl x))) kk
  · obtain ⟨⟨⟨⟨h1, h2⟩, h3⟩, h4⟩, h5⟩ := hf
    omega
theorem mw_o_storeA (X : mw_cx dC dI cA p s m args meth c mi) (hd : decode (mw_b mi) pc = .ok (i, len)) (hf : mw_fit mi pc i len (4, n, a, b, c9, e9, v9) = true) (hb0 : Nat.beq b 2 = true) {x : Nat × Nat}
    (kk : mw_W p l e R s m args below meth c Q dC dI ad cA mi (n, mj_st1 lv a (.inr (.inr x)), st, h)) : mw_W p l e R s m args below meth c Q dC dI ad cA mi (pc, lv, .inr (.inr x) :: st, h) := by
  intro hok ls H locs hl hP hS
  obtain ⟨hx, hb, -, -, -, -, -, -⟩ := X
  have kk := fun ls' hl' => kk ⟨mw_vd_st1 hok.1 (hok.2.1 _ List.mem_cons_self), fun v hv => hok.2.1 v (List.mem_cons_of_mem _ hv), hok.2.2⟩ ls' H locs hl' hP hS
  have hb0 : b = 2 := Nat.eq_of_beq_eq_true hb0
  simp only [mw_fit] at hf
  split at hf <;> simp only [Bool.and_eq_true, Nat.beq_eq, Bool.false_eq_true, Nat.ble_eq] at hf
  · obtain ⟨⟨⟨⟨h1, h2⟩, h3⟩, h4⟩, h5⟩ := hf
    omega
  · obtain ⟨⟨⟨⟨h1, h2⟩, h3⟩, h4⟩, h5⟩ := hf
    subst h1 h3 h4
    exact lv_astore_n hx hb hd rfl hl h5 (mw_lv_st1 (ad := ad) (lv := lv) (x := (.inr (.inr x)))) kk
  · obtain ⟨⟨⟨⟨h1, h2⟩, h3⟩, h4⟩, h5⟩ := hf
    omega
  · obtain ⟨⟨⟨⟨h1, h2⟩, h3⟩, h4⟩, h5⟩ := hf
    subst h1 h3 h4
    exact lv_astore hx hb hd hl h5 (mw_lv_st1 (ad := ad) (lv := lv) (x := (.inr (.inr x)))) kk
theorem mw_o_storeL (X : mw_cx dC dI cA p s m args meth c mi) (hd : decode (mw_b mi) pc = .ok (i, len)) (hf : mw_fit mi pc i len (5, n, a, b, c9, e9, v9) = true) {x : Int64}
    (kk : mw_W p l e R s m args below meth c Q dC dI ad cA mi (n, mj_st2 lv a (.inr (.inl x)), st, h)) : mw_W p l e R s m args below meth c Q dC dI ad cA mi (pc, lv, .inr (.inl x) :: st, h) := by
  intro hok ls H locs hl hP hS
  obtain ⟨hx, hb, -, -, -, -, -, -⟩ := X
  have kk := fun ls' hl' => kk ⟨mw_vd_st2 hok.1 trivial, fun v hv => hok.2.1 v (List.mem_cons_of_mem _ hv), hok.2.2⟩ ls' H locs hl' hP hS
  simp only [mw_fit] at hf
  split at hf <;> simp only [Bool.and_eq_true, Nat.beq_eq, Bool.false_eq_true, Nat.ble_eq] at hf
  · obtain ⟨⟨⟨h1, h3⟩, h4⟩, h5⟩ := hf
    subst h1 h3 h4
    exact lv_lstore_n hx hb hd rfl hl h5 (mw_lv_st2 (ad := ad) (lv := lv) (x := (.inr (.inl x)))) kk
  · obtain ⟨⟨⟨h1, h3⟩, h4⟩, h5⟩ := hf
    subst h1 h3 h4
    exact lv_lstore hx hb hd hl h5 (mw_lv_st2 (ad := ad) (lv := lv) (x := (.inr (.inl x)))) kk
theorem mw_o_inc (X : mw_cx dC dI cA p s m args meth c mi) (hd : decode (mw_b mi) pc = .ok (i, len)) (hf : mw_fit mi pc i len (6, n, a, b, c9, e9, v9) = true) {x : Int32} (hg : mj_get a lv = some (.inl x))
    (kk : mw_W p l e R s m args below meth c Q dC dI ad cA mi (n, mj_st1 lv a (.inl (x + v9)), st, h)) : mw_W p l e R s m args below meth c Q dC dI ad cA mi (pc, lv, st, h) := by
  intro hok ls H locs hl hP hS
  obtain ⟨hx, hb, -, -, -, -, -, -⟩ := X
  have kk := fun ls' hl' => kk ⟨mw_vd_st1 hok.1 trivial, hok.2.1, hok.2.2⟩ ls' H locs hl' hP hS
  have hm := mj_get_mem hg
  obtain ⟨k, hk⟩ := List.getElem?_of_mem (List.mem_map.mpr ⟨(a, .inl x), hm, rfl⟩ : (a, mw_v ad (.inl x)) ∈ lv.map (fun q => (q.1, mw_v ad q.2)))
  simp only [mw_fit] at hf
  split at hf <;> simp only [Bool.and_eq_true, Nat.beq_eq, Bool.false_eq_true, Nat.ble_eq, decide_eq_true_eq] at hf
  · obtain ⟨⟨⟨⟨h1, h2⟩, h3⟩, h4⟩, h5⟩ := hf
    subst h1 h2 h3 h4
    exact lv_iinc hx hb hd hl hk rfl h5 (mw_lv_st1 (ad := ad) (lv := lv) (x := .inl (x + Int32.ofInt _))) kk
theorem mw_o_goto (X : mw_cx dC dI cA p s m args meth c mi) (hd : decode (mw_b mi) pc = .ok (i, len)) (hf : mw_fit mi pc i len (7, n, a, b, c9, e9, v9) = true)
    (kk : mw_W p l e R s m args below meth c Q dC dI ad cA mi (a, lv, st, h)) : mw_W p l e R s m args below meth c Q dC dI ad cA mi (pc, lv, st, h) := by
  intro hok ls H locs hl hP hS
  obtain ⟨hx, hb, -, -, -, -, -, -⟩ := X
  have kk := kk hok ls H locs hl hP hS
  simp only [mw_fit] at hf
  split at hf <;> simp only [Bool.and_eq_true, Nat.beq_eq, Bool.false_eq_true, decide_eq_true_eq] at hf
  · obtain ⟨h1, h2⟩ := hf
    subst h2
    exact lv_goto hx hb hd h1 kk
theorem mw_o_if (X : mw_cx dC dI cA p s m args meth c mi) (hd : decode (mw_b mi) pc = .ok (i, len)) (hf : mw_fit mi pc i len (8, n, a, b, c9, e9, v9) = true) {x : Int32}
    (kt : mj_cmp b x 0 = true → mw_W p l e R s m args below meth c Q dC dI ad cA mi (a, lv, st, h)) (kf : mj_cmp b x 0 = false → mw_W p l e R s m args below meth c Q dC dI ad cA mi (n, lv, st, h)) : mw_W p l e R s m args below meth c Q dC dI ad cA mi (pc, lv, .inl x :: st, h) := by
  intro hok ls H locs hl hP hS
  obtain ⟨hx, hb, -, -, -, -, -, -⟩ := X
  have hok' : ∀ z, mw_okf (z, lv, st, h) := fun z => ⟨hok.1, fun v hv => hok.2.1 v (List.mem_cons_of_mem _ hv), hok.2.2⟩
  have kt := fun hc => kt hc (hok' _) ls H locs hl hP hS
  have kf := fun hc => kf hc (hok' _) ls H locs hl hP hS
  simp only [mw_fit] at hf
  split at hf <;> simp only [Bool.and_eq_true, Nat.beq_eq, Bool.false_eq_true, decide_eq_true_eq] at hf
  · rename_i cd z
    obtain ⟨⟨⟨h0, h1⟩, h2⟩, h3⟩ := hf
    subst h2 h3
    cases cd <;> simp only [mw_cd] at h0 <;> subst h0 <;> simp only [mj_cmp, decide_eq_true_eq, decide_eq_false_iff_not, Classical.not_not] at kt kf
    · exact lv_if_eq hx hb hd h1 kt kf
    · exact lv_if_ne hx hb hd h1 kt kf
    · exact lv_if_lt hx hb hd h1 kt kf
    · exact lv_if_ge hx hb hd h1 kt kf
    · exact lv_if_gt hx hb hd h1 kt kf
    · exact lv_if_le hx hb hd h1 kt kf
theorem mw_o_icmp (X : mw_cx dC dI cA p s m args meth c mi) (hd : decode (mw_b mi) pc = .ok (i, len)) (hf : mw_fit mi pc i len (9, n, a, b, c9, e9, v9) = true) {x y : Int32}
    (kt : mj_cmp b x y = true → mw_W p l e R s m args below meth c Q dC dI ad cA mi (a, lv, st, h)) (kf : mj_cmp b x y = false → mw_W p l e R s m args below meth c Q dC dI ad cA mi (n, lv, st, h)) : mw_W p l e R s m args below meth c Q dC dI ad cA mi (pc, lv, .inl y :: .inl x :: st, h) := by
  intro hok ls H locs hl hP hS
  obtain ⟨hx, hb, -, -, -, -, -, -⟩ := X
  have hok' : ∀ z, mw_okf (z, lv, st, h) := fun z => ⟨hok.1, fun v hv => hok.2.1 v (List.mem_cons_of_mem _ (List.mem_cons_of_mem _ hv)), hok.2.2⟩
  have kt := fun hc => kt hc (hok' _) ls H locs hl hP hS
  have kf := fun hc => kf hc (hok' _) ls H locs hl hP hS
  simp only [mw_fit] at hf
  split at hf <;> simp only [Bool.and_eq_true, Nat.beq_eq, Bool.false_eq_true, decide_eq_true_eq] at hf
  · rename_i cd z
    obtain ⟨⟨⟨h0, h1⟩, h2⟩, h3⟩ := hf
    subst h2 h3
    cases cd <;> simp only [mw_cd] at h0 <;> subst h0 <;> simp only [mj_cmp, decide_eq_true_eq, decide_eq_false_iff_not, Classical.not_not] at kt kf
    · exact lv_icmp_eq hx hb hd h1 kt kf
    · exact lv_icmp_ne hx hb hd h1 kt kf
    · exact lv_icmp_lt hx hb hd h1 kt kf
    · exact lv_icmp_ge hx hb hd h1 kt kf
    · exact lv_icmp_gt hx hb hd h1 kt kf
    · exact lv_icmp_le hx hb hd h1 kt kf
end Sound
