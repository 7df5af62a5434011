section Sound
variable {p : Program} {l : Launch} {e : Env} {R : Room} {s : State} {m : MethodId} {args : Array Value} {below : List Frame} {meth : Method} {c : Code} {Q : State → Prop} {dC : Nat → ClassId} {dI : Nat → Nat → Nat} {ad : Nat → Nat → Nat} {cA : Nat → ClassId} {mi : Nat} {pc n a b c9 e9 len : Nat} {v9 : Int32} {i : Instr} {lv : mj_L} {st : List mj_V} {h : mj_H}
theorem mw_o_bi (X : mw_cx dC dI cA p s m args meth c mi) (hd : decode (mw_b mi) pc = .ok (i, len)) (hf : mw_fit mi pc i len (22, n, a, b, c9, e9, v9) = true) {x y : Int32}
    (kk : mw_W p l e R s m args below meth c Q dC dI ad cA mi (n, lv, .inl (mj_bif b x y) :: st, h)) : mw_W p l e R s m args below meth c Q dC dI ad cA mi (pc, lv, .inl y :: .inl x :: st, h) := by
  intro hok ls H locs hl hP hS
  obtain ⟨hx, hb, -, -, -, -, -, -⟩ := X
  have kk := kk ⟨hok.1, ?_, hok.2.2⟩ ls H locs hl hP hS
  rotate_left
  · intro v hv
    rcases List.mem_cons.mp hv with rfl | hv
    · trivial
    exact hok.2.1 v (List.mem_cons_of_mem _ (List.mem_cons_of_mem _ hv))
  simp only [mw_fit] at hf
  split at hf <;> simp only [Bool.and_eq_true, Nat.beq_eq, Bool.false_eq_true, decide_eq_true_eq] at hf
  · obtain ⟨⟨h1, h2⟩, h3⟩ := hf
    subst h1 h2 h3
    exact lv_iadd hx hb hd kk
  · obtain ⟨⟨h1, h2⟩, h3⟩ := hf
    subst h1 h2 h3
    exact lv_isub hx hb hd kk
  · obtain ⟨⟨h1, h2⟩, h3⟩ := hf
    subst h1 h2 h3
    exact lv_imul hx hb hd kk
  · obtain ⟨⟨h1, h2⟩, h3⟩ := hf
    subst h1 h2 h3
    exact lv_iand hx hb hd kk
  · obtain ⟨⟨h1, h2⟩, h3⟩ := hf
    subst h1 h2 h3
    exact lv_ior hx hb hd kk
  · obtain ⟨⟨h1, h2⟩, h3⟩ := hf
    subst h1 h2 h3
    exact lv_ixor hx hb hd kk
  · obtain ⟨⟨h1, h2⟩, h3⟩ := hf
    subst h1 h2 h3
    exact lv_ishl hx hb hd kk
  · obtain ⟨⟨h1, h2⟩, h3⟩ := hf
    subst h1 h2 h3
    exact lv_ishr hx hb hd kk
  · obtain ⟨⟨h1, h2⟩, h3⟩ := hf
    subst h1 h2 h3
    exact lv_iushr hx hb hd rfl kk
theorem mw_o_bl (X : mw_cx dC dI cA p s m args meth c mi) (hd : decode (mw_b mi) pc = .ok (i, len)) (hf : mw_fit mi pc i len (26, n, a, b, c9, e9, v9) = true) {x y : Int64}
    (kk : mw_W p l e R s m args below meth c Q dC dI ad cA mi (n, lv, .inr (.inl (mj_blf b x y)) :: st, h)) : mw_W p l e R s m args below meth c Q dC dI ad cA mi (pc, lv, .inr (.inl y) :: .inr (.inl x) :: st, h) := by
  intro hok ls H locs hl hP hS
  obtain ⟨hx, hb, -, -, -, -, -, -⟩ := X
  have kk := kk ⟨hok.1, ?_, hok.2.2⟩ ls H locs hl hP hS
  rotate_left
  · intro v hv
    rcases List.mem_cons.mp hv with rfl | hv
    · trivial
    exact hok.2.1 v (List.mem_cons_of_mem _ (List.mem_cons_of_mem _ hv))
  simp only [mw_fit] at hf
  split at hf <;> simp only [Bool.and_eq_true, Nat.beq_eq, Bool.false_eq_true, decide_eq_true_eq] at hf
  · obtain ⟨⟨h1, h2⟩, h3⟩ := hf
    subst h1 h2 h3
    exact lv_ladd hx hb hd kk
  · obtain ⟨⟨h1, h2⟩, h3⟩ := hf
    subst h1 h2 h3
    exact lv_lsub hx hb hd kk
  · obtain ⟨⟨h1, h2⟩, h3⟩ := hf
    subst h1 h2 h3
    exact lv_lmul hx hb hd kk
  · obtain ⟨⟨h1, h2⟩, h3⟩ := hf
    subst h1 h2 h3
    exact lv_lor hx hb hd kk
theorem mw_o_div (X : mw_cx dC dI cA p s m args meth c mi) (hd : decode (mw_b mi) pc = .ok (i, len)) (hf : mw_fit mi pc i len (23, n, a, b, c9, e9, v9) = true) {x y : Int32} (hy : ¬ y = 0)
    (kk : mw_W p l e R s m args below meth c Q dC dI ad cA mi (n, lv, .inl (x / y) :: st, h)) : mw_W p l e R s m args below meth c Q dC dI ad cA mi (pc, lv, .inl y :: .inl x :: st, h) := by
  intro hok ls H locs hl hP hS
  obtain ⟨hx, hb, -, -, -, -, -, -⟩ := X
  have kk := kk ⟨hok.1, ?_, hok.2.2⟩ ls H locs hl hP hS
  rotate_left
  · intro v hv
    rcases List.mem_cons.mp hv with rfl | hv
    · trivial
    exact hok.2.1 v (List.mem_cons_of_mem _ (List.mem_cons_of_mem _ hv))
  simp only [mw_fit] at hf
  split at hf <;> simp only [Bool.and_eq_true, Nat.beq_eq, Bool.false_eq_true, decide_eq_true_eq] at hf
  · obtain ⟨h2, h3⟩ := hf
    subst h2 h3
    exact lv_idiv hx hb hd hy kk
theorem mw_o_rem (X : mw_cx dC dI cA p s m args meth c mi) (hd : decode (mw_b mi) pc = .ok (i, len)) (hf : mw_fit mi pc i len (24, n, a, b, c9, e9, v9) = true) {x y : Int32} (hy : ¬ y = 0)
    (kk : mw_W p l e R s m args below meth c Q dC dI ad cA mi (n, lv, .inl (x - x / y * y) :: st, h)) : mw_W p l e R s m args below meth c Q dC dI ad cA mi (pc, lv, .inl y :: .inl x :: st, h) := by
  intro hok ls H locs hl hP hS
  obtain ⟨hx, hb, -, -, -, -, -, -⟩ := X
  have kk := kk ⟨hok.1, ?_, hok.2.2⟩ ls H locs hl hP hS
  rotate_left
  · intro v hv
    rcases List.mem_cons.mp hv with rfl | hv
    · trivial
    exact hok.2.1 v (List.mem_cons_of_mem _ (List.mem_cons_of_mem _ hv))
  simp only [mw_fit] at hf
  split at hf <;> simp only [Bool.and_eq_true, Nat.beq_eq, Bool.false_eq_true, decide_eq_true_eq] at hf
  · obtain ⟨h2, h3⟩ := hf
    subst h2 h3
    exact lv_irem hx hb hd hy kk
theorem mw_o_neg (X : mw_cx dC dI cA p s m args meth c mi) (hd : decode (mw_b mi) pc = .ok (i, len)) (hf : mw_fit mi pc i len (25, n, a, b, c9, e9, v9) = true) {x : Int32}
    (kk : mw_W p l e R s m args below meth c Q dC dI ad cA mi (n, lv, .inl (-x) :: st, h)) : mw_W p l e R s m args below meth c Q dC dI ad cA mi (pc, lv, .inl x :: st, h) := by
  intro hok ls H locs hl hP hS
  obtain ⟨hx, hb, -, -, -, -, -, -⟩ := X
  have kk := kk ⟨hok.1, ?_, hok.2.2⟩ ls H locs hl hP hS
  rotate_left
  · intro v hv
    rcases List.mem_cons.mp hv with rfl | hv
    · trivial
    exact hok.2.1 v (List.mem_cons_of_mem _ hv)
  simp only [mw_fit] at hf
  split at hf <;> simp only [Bool.and_eq_true, Nat.beq_eq, Bool.false_eq_true, decide_eq_true_eq] at hf
  · obtain ⟨h2, h3⟩ := hf
    subst h2 h3
    exact lv_ineg hx hb hd kk
theorem mw_o_lshl (X : mw_cx dC dI cA p s m args meth c mi) (hd : decode (mw_b mi) pc = .ok (i, len)) (hf : mw_fit mi pc i len (27, n, a, b, c9, e9, v9) = true) {x : Int64} {y : Int32}
    (kk : mw_W p l e R s m args below meth c Q dC dI ad cA mi (n, lv, .inr (.inl (x <<< (y.toInt64 &&& 63))) :: st, h)) : mw_W p l e R s m args below meth c Q dC dI ad cA mi (pc, lv, .inl y :: .inr (.inl x) :: st, h) := by
  intro hok ls H locs hl hP hS
  obtain ⟨hx, hb, -, -, -, -, -, -⟩ := X
  have kk := kk ⟨hok.1, ?_, hok.2.2⟩ ls H locs hl hP hS
  rotate_left
  · intro v hv
    rcases List.mem_cons.mp hv with rfl | hv
    · trivial
    exact hok.2.1 v (List.mem_cons_of_mem _ (List.mem_cons_of_mem _ hv))
  simp only [mw_fit] at hf
  split at hf <;> simp only [Bool.and_eq_true, Nat.beq_eq, Bool.false_eq_true, decide_eq_true_eq] at hf
  · obtain ⟨h2, h3⟩ := hf
    subst h2 h3
    exact lv_lshl hx hb hd rfl kk
theorem mw_o_lcmp (X : mw_cx dC dI cA p s m args meth c mi) (hd : decode (mw_b mi) pc = .ok (i, len)) (hf : mw_fit mi pc i len (28, n, a, b, c9, e9, v9) = true) {x y : Int64}
    (kk : mw_W p l e R s m args below meth c Q dC dI ad cA mi (n, lv, .inl (lg_cmp x y) :: st, h)) : mw_W p l e R s m args below meth c Q dC dI ad cA mi (pc, lv, .inr (.inl y) :: .inr (.inl x) :: st, h) := by
  intro hok ls H locs hl hP hS
  obtain ⟨hx, hb, -, -, -, -, -, -⟩ := X
  have kk := kk ⟨hok.1, ?_, hok.2.2⟩ ls H locs hl hP hS
  rotate_left
  · intro v hv
    rcases List.mem_cons.mp hv with rfl | hv
    · trivial
    exact hok.2.1 v (List.mem_cons_of_mem _ (List.mem_cons_of_mem _ hv))
  simp only [mw_fit] at hf
  split at hf <;> simp only [Bool.and_eq_true, Nat.beq_eq, Bool.false_eq_true, decide_eq_true_eq] at hf
  · obtain ⟨h2, h3⟩ := hf
    subst h2 h3
    exact W.lcmp hx hb hd kk
theorem mw_o_i2l (X : mw_cx dC dI cA p s m args meth c mi) (hd : decode (mw_b mi) pc = .ok (i, len)) (hf : mw_fit mi pc i len (29, n, a, b, c9, e9, v9) = true) {x : Int32}
    (kk : mw_W p l e R s m args below meth c Q dC dI ad cA mi (n, lv, .inr (.inl x.toInt64) :: st, h)) : mw_W p l e R s m args below meth c Q dC dI ad cA mi (pc, lv, .inl x :: st, h) := by
  intro hok ls H locs hl hP hS
  obtain ⟨hx, hb, -, -, -, -, -, -⟩ := X
  have kk := kk ⟨hok.1, ?_, hok.2.2⟩ ls H locs hl hP hS
  rotate_left
  · intro v hv
    rcases List.mem_cons.mp hv with rfl | hv
    · trivial
    exact hok.2.1 v (List.mem_cons_of_mem _ hv)
  simp only [mw_fit] at hf
  split at hf <;> simp only [Bool.and_eq_true, Nat.beq_eq, Bool.false_eq_true, decide_eq_true_eq] at hf
  · obtain ⟨h2, h3⟩ := hf
    subst h2 h3
    exact lv_i2l hx hb hd rfl kk
theorem mw_o_l2i (X : mw_cx dC dI cA p s m args meth c mi) (hd : decode (mw_b mi) pc = .ok (i, len)) (hf : mw_fit mi pc i len (30, n, a, b, c9, e9, v9) = true) {x : Int64}
    (kk : mw_W p l e R s m args below meth c Q dC dI ad cA mi (n, lv, .inl x.toInt32 :: st, h)) : mw_W p l e R s m args below meth c Q dC dI ad cA mi (pc, lv, .inr (.inl x) :: st, h) := by
  intro hok ls H locs hl hP hS
  obtain ⟨hx, hb, -, -, -, -, -, -⟩ := X
  have kk := kk ⟨hok.1, ?_, hok.2.2⟩ ls H locs hl hP hS
  rotate_left
  · intro v hv
    rcases List.mem_cons.mp hv with rfl | hv
    · trivial
    exact hok.2.1 v (List.mem_cons_of_mem _ hv)
  simp only [mw_fit] at hf
  split at hf <;> simp only [Bool.and_eq_true, Nat.beq_eq, Bool.false_eq_true, decide_eq_true_eq] at hf
  · obtain ⟨h2, h3⟩ := hf
    subst h2 h3
    exact lv_l2i hx hb hd rfl kk
theorem mw_o_i2b (X : mw_cx dC dI cA p s m args meth c mi) (hd : decode (mw_b mi) pc = .ok (i, len)) (hf : mw_fit mi pc i len (31, n, a, b, c9, e9, v9) = true) {x : Int32}
    (kk : mw_W p l e R s m args below meth c Q dC dI ad cA mi (n, lv, .inl x.toInt8.toInt32 :: st, h)) : mw_W p l e R s m args below meth c Q dC dI ad cA mi (pc, lv, .inl x :: st, h) := by
  intro hok ls H locs hl hP hS
  obtain ⟨hx, hb, -, -, -, -, -, -⟩ := X
  have kk := kk ⟨hok.1, ?_, hok.2.2⟩ ls H locs hl hP hS
  rotate_left
  · intro v hv
    rcases List.mem_cons.mp hv with rfl | hv
    · trivial
    exact hok.2.1 v (List.mem_cons_of_mem _ hv)
  simp only [mw_fit] at hf
  split at hf <;> simp only [Bool.and_eq_true, Nat.beq_eq, Bool.false_eq_true, decide_eq_true_eq] at hf
  · obtain ⟨h2, h3⟩ := hf
    subst h2 h3
    exact lv_i2b hx hb hd rfl kk
theorem mw_o_dup (X : mw_cx dC dI cA p s m args meth c mi) (hd : decode (mw_b mi) pc = .ok (i, len)) (hf : mw_fit mi pc i len (32, n, a, b, c9, e9, v9) = true) {x : mj_V} (hc : mj_cat x = 1)
    (kk : mw_W p l e R s m args below meth c Q dC dI ad cA mi (n, lv, x :: x :: st, h)) : mw_W p l e R s m args below meth c Q dC dI ad cA mi (pc, lv, x :: st, h) := by
  intro hok ls H locs hl hP hS
  obtain ⟨hx, hb, -, -, -, -, -, -⟩ := X
  have kk := kk ⟨hok.1, fun v hv => by rcases List.mem_cons.mp hv with rfl | hv; exact hok.2.1 _ List.mem_cons_self; exact hok.2.1 v hv, hok.2.2⟩ ls H locs hl hP hS
  simp only [mw_fit] at hf
  split at hf <;> simp only [Bool.and_eq_true, Nat.beq_eq, Bool.false_eq_true] at hf
  · obtain ⟨h2, h3⟩ := hf
    subst h2 h3
    exact lv_dup hx hb hd ((mw_cat_v ad x).trans hc) kk
theorem mw_o_dup2 (X : mw_cx dC dI cA p s m args meth c mi) (hd : decode (mw_b mi) pc = .ok (i, len)) (hf : mw_fit mi pc i len (33, n, a, b, c9, e9, v9) = true) {x y : mj_V} (hcx : mj_cat x = 1) (hcy : mj_cat y = 1)
    (kk : mw_W p l e R s m args below meth c Q dC dI ad cA mi (n, lv, y :: x :: y :: x :: st, h)) : mw_W p l e R s m args below meth c Q dC dI ad cA mi (pc, lv, y :: x :: st, h) := by
  intro hok ls H locs hl hP hS
  obtain ⟨hx, hb, -, -, -, -, -, -⟩ := X
  have kk := kk ⟨hok.1, fun v hv => by
    rcases List.mem_cons.mp hv with rfl | hv
    · exact hok.2.1 _ List.mem_cons_self
    · rcases List.mem_cons.mp hv with rfl | hv
      · exact hok.2.1 _ (List.mem_cons_of_mem _ List.mem_cons_self)
      · exact hok.2.1 v hv, hok.2.2⟩ ls H locs hl hP hS
  simp only [mw_fit] at hf
  split at hf <;> simp only [Bool.and_eq_true, Nat.beq_eq, Bool.false_eq_true] at hf
  · obtain ⟨h2, h3⟩ := hf
    subst h2 h3
    exact lv_dup2_11 hx hb hd ((mw_cat_v ad y).trans hcy) ((mw_cat_v ad x).trans hcx) kk
theorem mw_o_pop (X : mw_cx dC dI cA p s m args meth c mi) (hd : decode (mw_b mi) pc = .ok (i, len)) (hf : mw_fit mi pc i len (34, n, a, b, c9, e9, v9) = true) {x : mj_V} (hc : mj_cat x = 1)
    (kk : mw_W p l e R s m args below meth c Q dC dI ad cA mi (n, lv, st, h)) : mw_W p l e R s m args below meth c Q dC dI ad cA mi (pc, lv, x :: st, h) := by
  intro hok ls H locs hl hP hS
  obtain ⟨hx, hb, -, -, -, -, -, -⟩ := X
  have kk := kk ⟨hok.1, fun v hv => hok.2.1 v (List.mem_cons_of_mem _ hv), hok.2.2⟩ ls H locs hl hP hS
  simp only [mw_fit] at hf
  split at hf <;> simp only [Bool.and_eq_true, Nat.beq_eq, Bool.false_eq_true] at hf
  · obtain ⟨h2, h3⟩ := hf
    subst h2 h3
    exact lv_pop hx hb hd ((mw_cat_v ad x).trans hc) kk
end Sound
