/-! returns, calls, and the whole: if the small machine answers, the real one does the same -/
def mw_isO (t : Option FieldType) : Bool := match t with
  | some (.object _) => true
  | _ => false
theorem mw_rk_ok : ∀ mi, mi < 369 → (mw_rk mi = 0 → mw_r mi = none) ∧ (mw_rk mi = 1 → mw_r mi = some .int) ∧ (mw_rk mi = 2 → mw_r mi = some .boolean) ∧ (mw_rk mi = 3 → mw_r mi = some .long) ∧ (4 ≤ mw_rk mi → mw_isO (mw_r mi) = true) := by decide +kernel
theorem mw_own_ok : ∀ mi, mi < 366 → mw_on (mw_mc mi) = (mw_y mi).cls ∧ plainName (mw_y mi).cls = true ∧ ((mw_y mi).cls ≠ "java/lang/invoke/MethodHandle" ∧ (mw_y mi).cls ≠ "java/lang/invoke/VarHandle" ∧ (parseMethodDescriptor (mw_y mi).desc).map (fun d => d.parameters.length) = some (mw_na mi)) := by decide +kernel
theorem mw_do_gd {b : Bool} {pc : Nat} {lv : mj_L} {st : List mj_V} {h : mj_H} {k : mj_F → Option mj_O} {cl : Nat → List mj_V → mj_H → Option mj_O} {r : mj_O} (H : mj_do (mj_gd b pc lv st h) k cl = some r) : b = true ∧ k (pc, lv, st, h) = some r := by
  cases b
  · simp [mj_do] at H
  · exact ⟨rfl, H⟩
theorem mw_do_br {g b : Bool} {s1 s2 : mj_F} {k : mj_F → Option mj_O} {cl : Nat → List mj_V → mj_H → Option mj_O} {r : mj_O} (H : mj_do (some (g, .inr (.inl (b, s1, s2)))) k cl = some r) : g = true ∧ (b = true → k s1 = some r) ∧ (b = false → k s2 = some r) := by
  cases g
  · simp [mj_do] at H
  · cases b
    · exact ⟨rfl, (fun h => by cases h), fun _ => H⟩
    · exact ⟨rfl, fun _ => H, (fun h => by cases h)⟩
theorem mw_do_rt {g : Bool} {o : mj_O} {k : mj_F → Option mj_O} {cl : Nat → List mj_V → mj_H → Option mj_O} {r : mj_O} (H : mj_do (mj_rt g o) k cl = some r) : g = true ∧ o = r := by
  cases g
  · simp [mj_do] at H
  · exact ⟨rfl, Option.some.inj H⟩
def mw_rm (d : Nat) : Room := { frames := d + 8, cells := 0, slots := 0, locals := 32 * d + 512 }
section Sound
variable {p : Program} {l : Launch} {e : Env} {R : Room} {s : State} {m : MethodId} {args : Array Value} {below : List Frame} {meth : Method} {c : Code} {dC : Nat → ClassId} {dI : Nat → Nat → Nat} {ad : Nat → Nat → Nat} {cA : Nat → ClassId} {mi : Nat} {pc n a b c9 e9 len : Nat} {v9 : Int32} {i : Instr} {lv : mj_L} {st : List mj_V} {h : mj_H} {E : State → Prop}
def mw_B (dC : Nat → ClassId) (dI : Nat → Nat → Nat) (ad : Nat → Nat → Nat) (cA : Nat → ClassId) (E : State → Prop) (h : mj_H) (t : State) : Prop := va_P (dC, dI) mw_cl (mw_ws ad cA h) t.heap ∧ mw_K dC dI cA t ∧ E t ∧ mw_hv h
def mw_Qc (dC : Nat → ClassId) (dI : Nat → Nat → Nat) (ad : Nat → Nat → Nat) (cA : Nat → ClassId) (E : State → Prop) (v : Option mj_V) (h : mj_H) : Array Value → State → Outcome → State → Prop := match v with
  | none => va_Qv (S := Unit) (fun _ => True) (fun _ t => mw_B dC dI ad cA E h t) (mw_A ad)
  | some (.inl r) => va_Qi (S := Unit) (fun r' _ => r' = r) (fun _ t => mw_B dC dI ad cA E h t) (mw_A ad)
  | some (.inr (.inl r)) => va_Ql (S := Unit) (fun r' _ => r' = r) (fun _ t => mw_B dC dI ad cA E h t) (mw_A ad)
  | some (.inr (.inr q)) => va_Qr (S := Unit) (fun _ => q ∈ mw_val) (fun _ a t => a = ad q.1 q.2 ∧ mw_B dC dI ad cA E h t) (mw_A ad)
theorem mw_K.moved {u U : State} (hW : u.WarmedH U.vm) (h : mw_K dC dI cA u) : mw_K dC dI cA U := by
  refine ⟨va_K.moved hW.alike h.1, fun w hw => ?_⟩
  have hw2 := (List.mem_filter.mp hw).2
  have h2 := h.2 w hw
  cases w <;> simp only [Bool.false_eq_true] at hw2
  · exact va_Nw.warmM hW h2
  · exact va_Nw.warmF hW h2
/-- what the start of the walk gives at its end -/
theorem mw_Bof (X : mw_cx dC dI cA p s m args meth c mi) (hE : E s) (hEm : ∀ u U : State, u.WarmedH U.vm → (∀ q, q < u.heap.size → ¬ mw_A ad q → U.heap[q]? = u.heap[q]?) → E u → E U) {H : Heap} {locs : List Loc} (hP : va_P (dC, dI) mw_cl (mw_ws ad cA h) H) (hS : va_S (mw_A ad) s.heap H locs) (hh : mw_hv h) {t : State} (ht : t.heap = H) (hW : s.WarmedH t.vm) : mw_B dC dI ad cA E h t := by
  obtain ⟨-, -, -, -, -, -, -, hK⟩ := X
  exact ⟨by rw [ht]; exact hP, mw_K.moved hW hK, hEm s t hW (fun q h1 h2 => by rw [ht]; exact hS.2.1 q h1 h2) hE, hh⟩
theorem mw_o_rv (X : mw_cx dC dI cA p s m args meth c mi) (hmi : mi < 369) (hE : E s) (hEm : ∀ u U : State, u.WarmedH U.vm → (∀ q, q < u.heap.size → ¬ mw_A ad q → U.heap[q]? = u.heap[q]?) → E u → E U) (hd : decode (mw_b mi) pc = .ok (i, len)) (hf : mw_fit mi pc i len (39, n, a, b, c9, e9, v9) = true) : mw_W p l e R s m args below meth c (MQ below (mw_Qc dC dI ad cA E none h) args s 0 0 (mw_A ad)) dC dI ad cA mi (pc, lv, [], h) := by
  intro hok ls H locs hl hP hS
  have hB := fun t ht hW => mw_Bof (t := t) X hE hEm hP hS hok.2.2 ht hW
  obtain ⟨hx, hb, -, hr, hlk, -, -, -⟩ := X
  simp only [mw_fit] at hf
  split at hf <;> simp only [Bool.and_eq_true, Nat.beq_eq, Bool.false_eq_true] at hf
  · obtain ⟨h1, h2⟩ := hf
    subst h2
    exact W.vret hx hb (hr.trans ((mw_rk_ok mi hmi).1 h1)) (fun t ht hW => ⟨⟨(), rfl, trivial, hB t ht hW⟩, hS.F ht⟩) hS.2.2 hd hlk
theorem mw_o_ri (X : mw_cx dC dI cA p s m args meth c mi) (hmi : mi < 369) (hE : E s) (hEm : ∀ u U : State, u.WarmedH U.vm → (∀ q, q < u.heap.size → ¬ mw_A ad q → U.heap[q]? = u.heap[q]?) → E u → E U) (hd : decode (mw_b mi) pc = .ok (i, len)) (hf : mw_fit mi pc i len (40, n, a, b, c9, e9, v9) = true) {x : Int32} : mw_W p l e R s m args below meth c (MQ below (mw_Qc dC dI ad cA E (some (.inl x)) h) args s 0 0 (mw_A ad)) dC dI ad cA mi (pc, lv, [.inl x], h) := by
  intro hok ls H locs hl hP hS
  have hB := fun t ht hW => mw_Bof (t := t) X hE hEm hP hS hok.2.2 ht hW
  obtain ⟨hx, hb, -, hr, hlk, -, -, -⟩ := X
  simp only [mw_fit] at hf
  split at hf <;> simp only [Bool.and_eq_true, Nat.beq_eq, Bool.false_eq_true] at hf
  · obtain ⟨h1, h2⟩ := hf
    subst h2
    exact W.iret hx hb (hr.trans ((mw_rk_ok mi hmi).2.1 h1)) (fun t ht hW => ⟨⟨x, (), rfl, rfl, hB t ht hW⟩, hS.F ht⟩) hS.2.2 hd hlk
theorem mw_o_rz (X : mw_cx dC dI cA p s m args meth c mi) (hmi : mi < 369) (hE : E s) (hEm : ∀ u U : State, u.WarmedH U.vm → (∀ q, q < u.heap.size → ¬ mw_A ad q → U.heap[q]? = u.heap[q]?) → E u → E U) (hd : decode (mw_b mi) pc = .ok (i, len)) (hf : mw_fit mi pc i len (41, n, a, b, c9, e9, v9) = true) {x : Int32} (h01 : x = 0 ∨ x = 1) : mw_W p l e R s m args below meth c (MQ below (mw_Qc dC dI ad cA E (some (.inl x)) h) args s 0 0 (mw_A ad)) dC dI ad cA mi (pc, lv, [.inl x], h) := by
  intro hok ls H locs hl hP hS
  have hB := fun t ht hW => mw_Bof (t := t) X hE hEm hP hS hok.2.2 ht hW
  obtain ⟨hx, hb, -, hr, hlk, -, -, -⟩ := X
  simp only [mw_fit] at hf
  split at hf <;> simp only [Bool.and_eq_true, Nat.beq_eq, Bool.false_eq_true] at hf
  · obtain ⟨h1, h2⟩ := hf
    subst h2
    exact W.zret hx hb (hr.trans ((mw_rk_ok mi hmi).2.2.1 h1)) (by rcases h01 with rfl | rfl <;> decide +kernel) (fun t ht hW => ⟨⟨x, (), rfl, rfl, hB t ht hW⟩, hS.F ht⟩) hS.2.2 hd hlk
theorem mw_o_rl (X : mw_cx dC dI cA p s m args meth c mi) (hmi : mi < 369) (hE : E s) (hEm : ∀ u U : State, u.WarmedH U.vm → (∀ q, q < u.heap.size → ¬ mw_A ad q → U.heap[q]? = u.heap[q]?) → E u → E U) (hd : decode (mw_b mi) pc = .ok (i, len)) (hf : mw_fit mi pc i len (42, n, a, b, c9, e9, v9) = true) {x : Int64} : mw_W p l e R s m args below meth c (MQ below (mw_Qc dC dI ad cA E (some (.inr (.inl x))) h) args s 0 0 (mw_A ad)) dC dI ad cA mi (pc, lv, [.inr (.inl x)], h) := by
  intro hok ls H locs hl hP hS
  have hB := fun t ht hW => mw_Bof (t := t) X hE hEm hP hS hok.2.2 ht hW
  obtain ⟨hx, hb, -, hr, hlk, -, -, -⟩ := X
  simp only [mw_fit] at hf
  split at hf <;> simp only [Bool.and_eq_true, Nat.beq_eq, Bool.false_eq_true] at hf
  · obtain ⟨h1, h2⟩ := hf
    subst h2
    exact W.lret hx hb (hr.trans ((mw_rk_ok mi hmi).2.2.2.1 h1)) (fun t ht hW => ⟨⟨x, (), rfl, rfl, hB t ht hW⟩, hS.F ht⟩) hS.2.2 hd hlk
theorem mw_o_ra (X : mw_cx dC dI cA p s m args meth c mi) (hmi : mi < 369) (hE : E s) (hEm : ∀ u U : State, u.WarmedH U.vm → (∀ q, q < u.heap.size → ¬ mw_A ad q → U.heap[q]? = u.heap[q]?) → E u → E U) (hd : decode (mw_b mi) pc = .ok (i, len)) (hf : mw_fit mi pc i len (43, n, a, b, c9, e9, v9) = true) {x : Nat × Nat} : mw_W p l e R s m args below meth c (MQ below (mw_Qc dC dI ad cA E (some (.inr (.inr x))) h) args s 0 0 (mw_A ad)) dC dI ad cA mi (pc, lv, [.inr (.inr x)], h) := by
  intro hok ls H locs hl hP hS
  have hB := fun t ht hW => mw_Bof (t := t) X hE hEm hP hS hok.2.2 ht hW
  obtain ⟨hx, hb, -, hr, hlk, -, -, -⟩ := X
  have hv : x ∈ mw_val := hok.2.1 _ List.mem_cons_self
  simp only [mw_fit] at hf
  split at hf <;> simp only [Bool.and_eq_true, Nat.beq_eq, Bool.false_eq_true, Nat.ble_eq] at hf
  · obtain ⟨h1, h2⟩ := hf
    subst h2
    have ho := (mw_rk_ok mi hmi).2.2.2.2 h1
    unfold mw_isO at ho
    split at ho
    · rename_i C hC
      exact W.aret hx hb (hr.trans hC) (Or.inl ⟨_, rfl⟩) (Or.inr ⟨_, rfl⟩) (fun t ht hW => ⟨⟨(), ad x.1 x.2, rfl, hv, rfl, hB t ht hW⟩, hS.F ht⟩) hS.2.2 hd hlk
    · cases ho
end Sound
