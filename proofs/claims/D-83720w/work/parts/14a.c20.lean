/-! CONSTRUCTORS: a second small machine, that makes cells; addresses are a base and a number -/
abbrev c2_V : Type := Int32 ⊕ (Nat ⊕ Bool)
abbrev c2_C : Type := Nat × Nat × List c2_V × List (Nat × Nat)
abbrev c2_I : Type := Nat × Nat × Nat × Nat × Int32
abbrev c2_L : Type := List (Nat × c2_V)
abbrev c2_F : Type := Nat × c2_L × List c2_V × List c2_C
/-- what was there at the law's start is there still -/
def kEn (s0 : State) : State → Prop := fun U => s0.WarmedH U.vm ∧ ∀ q, q < s0.heap.size → U.heap[q]? = s0.heap[q]?
def c2_v (B : Nat) : c2_V → Value
  | .inl x => .int x
  | .inr (.inl k) => .ref (B + k)
  | .inr (.inr true) => .long 0
  | .inr (.inr false) => .null
def c2_ct : c2_V → Nat
  | .inr (.inr true) => 2
  | _ => 1
theorem c2_cat (B : Nat) (v : c2_V) : (c2_v B v).category = c2_ct v := by
  rcases v with x | k | (_ | _) <;> rfl
def c2_get (i : Nat) : c2_L → Option c2_V
  | [] => none
  | q :: r => bif Nat.beq q.1 i then some q.2 else c2_get i r
def c2_st (lv : c2_L) (i : Nat) (v : c2_V) : c2_L := (i, v) :: lv.filter (fun q => !(Nat.beq q.1 i) && !(Nat.beq (q.1 + 1) i && Nat.beq (c2_ct q.2) 2))
def c2_lk (i : Nat) : List (Nat × Nat) → Option Nat
  | [] => none
  | q :: r => if i = q.1 then some q.2 else c2_lk i r
def c2_e (B : Nat) (cA : Nat → ClassId) (eA : Nat → Nat) (c : c2_C) : va_E := match c.1 with
  | 0 => .inr (c.2.1, c.2.2.1.map (c2_v B))
  | 1 => .inl (cA 0, c.2.1, .inl (fun _ => 0))
  | 2 => .inl (cA 1, c.2.1, .inl (fun _ => 0))
  | 3 => .inl (cA 2, c.2.1, .inl (fun _ => 0))
  | 4 => .inl (cA 3, c.2.1, .inr (.inl (fun _ => 0)))
  | 5 => .inl (cA 16, c.2.1, .inr (.inr (.inr (.inr (fun i => some (eA i))))))
  | t => .inl (cA t, c.2.1, .inr (.inr (.inr (.inr (fun i => (c2_lk i c.2.2.2).map (fun k => B + k))))))
def c2_w (B : Nat) (cA : Nat → ClassId) (eA : Nat → Nat) (hs : List c2_C) : va_W := hs.mapIdx (fun k c => (B + k, c2_e B cA eA c))
/-- how many slots a cell has -/
def c2_n (c : c2_C) : Nat := match c.1 with
  | 0 => c.2.2.1.length
  | _ => c.2.1
def c2_sz (hs : List c2_C) : Nat := (hs.map c2_n).sum
def c2_A (B : Nat) : Nat → Prop := fun q => B ≤ q
section
variable {B : Nat} {cA : Nat → ClassId} {eA : Nat → Nat} {hs : List c2_C} {c : c2_C}
theorem c2_wg (k : Nat) : (c2_w B cA eA hs)[k]? = (hs[k]?).map (fun c => (B + k, c2_e B cA eA c)) := by
  unfold c2_w
  rw [List.getElem?_mapIdx]
theorem c2_wl : (c2_w B cA eA hs).length = hs.length := by unfold c2_w; exact List.length_mapIdx
theorem c2_wa : c2_w B cA eA (hs ++ [c]) = c2_w B cA eA hs ++ [(B + hs.length, c2_e B cA eA c)] := by
  unfold c2_w
  rw [List.mapIdx_append]
  simp
theorem c2_ws {i : Nat} : (c2_w B cA eA hs).set i (B + i, c2_e B cA eA c) = c2_w B cA eA (hs.set i c) := by
  apply List.ext_getElem?
  intro k
  rw [c2_wg, List.getElem?_set, List.getElem?_set, c2_wl]
  by_cases h : i = k
  · subst h
    rw [if_pos rfl, if_pos rfl]
    by_cases h2 : i < hs.length
    · rw [if_pos h2, if_pos h2]; rfl
    · rw [if_neg h2, if_neg h2]; rfl
  · rw [if_neg h, if_neg h, c2_wg]
theorem c2_D : va_D (c2_A B) (c2_w B cA eA hs) := by
  refine ⟨fun i j p q hp hq e => ?_, fun k q hq => ?_⟩
  · rw [c2_wg] at hp hq
    obtain ⟨x, -, rfl⟩ := Option.map_eq_some_iff.mp hp
    obtain ⟨y, -, rfl⟩ := Option.map_eq_some_iff.mp hq
    have e : B + i = B + j := e
    omega
  · rw [c2_wg] at hq
    obtain ⟨x, -, rfl⟩ := Option.map_eq_some_iff.mp hq
    exact Nat.le_add_right _ _
/-- the new cell stands behind all others -/
theorem c2_q {dC : Nat → ClassId} {dI : Nat → Nat → Nat} {q : Nat} {x : va_E} {H : Heap} (hP : va_P (dC, dI) mw_cl (c2_w B cA eA hs ++ [(q, x)]) H) (hD : va_D (c2_A B) (c2_w B cA eA hs ++ [(q, x)])) (hz : H.size ≤ B + hs.length + 1) : q = B + hs.length := by
  have e : (c2_w B cA eA hs ++ [(q, x)])[hs.length]? = some (q, x) := by
    rw [List.getElem?_append_right (by rw [c2_wl]; exact Nat.le_refl _), c2_wl, Nat.sub_self]; rfl
  have h1 := (hP _ _ e).lt
  have h2 := hD.2 _ _ e
  have h2 : B ≤ q := h2
  have h1 : q < H.size := h1
  rcases Nat.lt_or_ge q (B + hs.length) with h | h
  · exfalso
    have hk : q - B < hs.length := by omega
    have e2 : (c2_w B cA eA hs ++ [(q, x)])[q - B]? = some (B + (q - B), c2_e B cA eA hs[q - B]) := by
      rw [List.getElem?_append_left (by rw [c2_wl]; exact hk), c2_wg, List.getElem?_eq_getElem hk]; rfl
    have := hD.1 _ _ _ _ e e2 (by show q = B + (q - B); omega)
    omega
  · omega
theorem c2_size {dC : Nat → ClassId} {dI : Nat → Nat → Nat} {H : Heap} (hP : va_P (dC, dI) mw_cl (c2_w B cA eA hs) H) (hB : B ≤ H.size) (hz : H.size ≤ B + hs.length) : H.size = B + hs.length := by
  cases h : hs.length with
  | zero => rw [h] at hz; omega
  | succ k =>
    have hk : k < hs.length := by omega
    have e2 : (c2_w B cA eA hs)[k]? = some (B + k, c2_e B cA eA hs[k]) := by
      rw [c2_wg, List.getElem?_eq_getElem hk]; rfl
    have h1 : B + k < H.size := (hP _ _ e2).lt
    omega
theorem c2_sa : c2_sz (hs ++ [c]) = c2_sz hs + c2_n c := by unfold c2_sz; simp
theorem c2_ss : ∀ {hs : List c2_C} {i : Nat} {c c' : c2_C}, hs[i]? = some c' → c2_n c = c2_n c' → c2_sz (hs.set i c) = c2_sz hs
  | [], i, c, c', h, _ => by simp at h
  | x :: r, 0, c, c', h, hn => by
    cases h
    show c2_n c + _ = c2_n x + _
    rw [hn]
  | x :: r, i + 1, c, c', h, hn => by
    have := c2_ss (hs := r) (i := i) h hn
    show c2_n x + c2_sz (r.set i c) = c2_n x + c2_sz r
    rw [this]
end
theorem c2_stm (B : Nat) {lv : c2_L} {a : Nat} {x : c2_V} : (a, c2_v B x) :: (lv.map (fun q => (q.1, c2_v B q.2))).filter (fun q => !(q.1 == a) && !(q.1 + 1 == a && q.2.category == 2)) = (c2_st lv a x).map (fun q => (q.1, c2_v B q.2)) := by
  unfold c2_st
  rw [List.map_cons, List.filter_map]
  congr 2
  apply List.filter_congr
  intro q _
  simp only [Function.comp, c2_cat]
  have h1 : ∀ a b : Nat, (a == b) = Nat.beq a b := fun a b => by rw [Bool.eq_iff_iff, beq_iff_eq, Nat.beq_eq]
  rw [h1, h1, h1]
theorem c2_getm (B : Nat) {i : Nat} {x : c2_V} : ∀ {lv : c2_L}, c2_get i lv = some x → (i, c2_v B x) ∈ lv.map (fun q => (q.1, c2_v B q.2))
  | [], h => by cases h
  | q :: r, h => by
    unfold c2_get at h
    cases hb : Nat.beq q.1 i with
    | true =>
      rw [hb] at h
      have e := Nat.eq_of_beq_eq_true hb
      cases h
      subst e
      exact List.mem_cons_self
    | false =>
      rw [hb] at h
      exact List.mem_cons_of_mem _ (c2_getm B h)
/-- the classes' default fields -/
def c2_z (ci : Nat) : List c2_V := match mw_cl[ci]? with
  | some q => (List.range q.2.2).map (fun j => bif (q.2.1 j).2.2.1 == "I" || (q.2.1 j).2.2.1 == "Z" then .inl 0 else (bif (q.2.1 j).2.2.1 == "J" then .inr (.inr true) else .inr (.inr false)))
  | none => []
theorem c2_zB (B ci : Nat) : (c2_z ci).map (c2_v B) = (c2_z ci).map (c2_v 0) := by
  unfold c2_z
  split
  · rw [List.map_map, List.map_map]
    apply List.map_congr_left
    intro j _
    simp only [Function.comp]
    cases (_ == "I" || _ == "Z" : Bool) with
    | true => rfl
    | false =>
      cases (_ == "J" : Bool) <;> rfl
  · rfl
def c2_ty (a : Nat) : FieldType := match a with
  | 0 => .int
  | 1 => .boolean
  | 2 => .byte
  | _ => .long
def c2_rc (a : Nat) : String := match a with
  | 12 => "LinkedCores$Link"
  | 13 => "LinkedCores$Core"
  | 17 => "LinkedCores$What"
  | _ => "LinkedCores$Sort"
def c2_K (ci : Nat) : Prop := ∃ (C : String) (T : u_T) (N : Nat) (ty : Nat → FieldType), mw_cl[ci]? = some (C, T, N) ∧ (∀ w ∈ u_ws C T N, w ∈ mw_good) ∧ (∀ k, k < N → parseFieldDescriptor (T k).2.2.1 = some (ty k)) ∧ (∀ a, a < N → ∀ b, b < N → a ≠ b → (T a).2.1 ≠ (T b).2.1) ∧ (∀ j, j < N → defaultValue (ty j) = vp_V ((c2_z ci).map (c2_v 0)) j) ∧ (c2_z ci).length = N ∧ Cond.instantiable C N ∈ mw_good ∧ Cond.initialized C ∈ mw_good
/-- the first b of a stack, the lowest first -/
def c2_pop : Nat → List c2_V → List c2_V → Option (List c2_V × List c2_V)
  | 0, acc, st => some (acc, st)
  | k + 1, acc, v :: st => c2_pop k (v :: acc) st
  | _ + 1, _, [] => none
theorem c2_pops : ∀ (k : Nat) (acc st as r : List c2_V), c2_pop k acc st = some (as, r) → ∃ ys : List c2_V, as = ys.reverse ++ acc ∧ st = ys ++ r ∧ ys.length = k
  | 0, acc, st, as, r, h => by
    cases h
    exact ⟨[], rfl, rfl, rfl⟩
  | k + 1, acc, [], as, r, h => by cases h
  | k + 1, acc, v :: st, as, r, h => by
    obtain ⟨ys, h1, h2, h3⟩ := c2_pops k (v :: acc) st as r h
    exact ⟨v :: ys, by rw [h1]; simp, by rw [h2]; rfl, by simp [h3]⟩
def c2_args : Nat → List c2_V → c2_L
  | _, [] => []
  | i, v :: vs => (i, v) :: c2_args (i + 1) vs
/-- one operation -/
def c2_do (k : c2_F → Option (List c2_C)) (cl : Nat → List c2_V → List c2_C → Option (List c2_C)) (o nx a b : Nat) (v : Int32) (lv : c2_L) (st : List c2_V) (hs : List c2_C) : Option (List c2_C) := match o with
  | 0 => match c2_get a lv with
    | some x => match x with
      | .inr (.inl i) => bif Nat.beq b 0 then k (nx, lv, .inr (.inl i) :: st, hs) else none
      | .inl y => bif Nat.beq b 1 then k (nx, lv, .inl y :: st, hs) else none
      | _ => none
    | none => none
  | 1 => k (nx, lv, .inl v :: st, hs)
  | 2 => match st with
    | .inl x :: r => k (nx, c2_st lv a (.inl x), r, hs)
    | _ => none
  | 3 => match c2_get a lv with
    | some (.inl x) => k (nx, c2_st lv a (.inl (x + v)), st, hs)
    | _ => none
  | 4 => k (a, lv, st, hs)
  | 5 => match st with
    | .inl y :: .inl x :: r => if y ≤ x then k (a, lv, r, hs) else k (nx, lv, r, hs)
    | _ => none
  | 6 => match st with
    | .inr (.inl i) :: r => k (nx, lv, .inr (.inl i) :: .inr (.inl i) :: r, hs)
    | _ => none
  | 7 => k (nx, lv, .inr (.inl hs.length) :: st, hs ++ [(0, a, c2_z a, [])])
  | 8 => match st with
    | .inl x :: r => if x = nI b then k (nx, lv, .inr (.inl hs.length) :: r, hs ++ [(a + 1, b, [], [])]) else none
    | _ => none
  | 9 => match st with
    | .inl x :: r => if x = nI b then k (nx, lv, .inr (.inl hs.length) :: r, hs ++ [(a, b, [], [])]) else none
    | _ => none
  | 10 => match st with
    | .inr (.inl i) :: r => match hs[i]? with
      | some (0, a', fs, _) => bif Nat.beq a' a then (match fs[b]? with
        | some x => k (nx, lv, x :: r, hs)
        | none => none) else none
      | _ => none
    | _ => none
  | 11 => match st with
    | .inl x :: .inr (.inl i) :: r => match hs[i]? with
      | some (0, a', fs, L) => if a' = a ∧ b < fs.length ∧ v = 0 then k (nx, lv, r, hs.set i (0, a, fs.set b (.inl x), L)) else none
      | _ => none
    | .inr (.inl x) :: .inr (.inl i) :: r => match hs[i]? with
      | some (0, a', fs, L) => if a' = a ∧ b < fs.length ∧ v = 1 then k (nx, lv, r, hs.set i (0, a, fs.set b (.inr (.inl x)), L)) else none
      | _ => none
    | _ => none
  | 12 => match c2_pop b [] st with
    | some (as, .inr (.inl i) :: r) => if r.length ≤ 4 ∧ as.all (fun v => Nat.beq (c2_ct v) 1) = true then (match cl a (.inr (.inl i) :: as) hs with
      | some hs' => k (nx, lv, r, hs')
      | none => none) else none
    | _ => none
  | 13 => match st with
    | .inr (.inl _) :: r => if r.length ≤ 4 then k (nx, lv, r, hs) else none
    | _ => none
  | 14 => match st with
    | .inr (.inl x) :: .inl i :: .inr (.inl g) :: r => match hs[g]?, hs[x]? with
      | some (t, n, fs, L), some (0, c, _, _) => if ((t = 12 ∧ c = 9) ∨ (t = 13 ∧ c = 10)) ∧ 0 ≤ i ∧ i.toNatClampNeg < n then k (nx, lv, r, hs.set g (t, n, fs, (i.toNatClampNeg, x) :: L)) else none
      | _, _ => none
    | _ => none
  | 15 => match st with
    | [] => some hs
    | _ => none
  | 16 => if st.length ≤ 4 then k (nx, lv, .inr (.inl hs.length) :: st, hs ++ [(5, 23, [], [])]) else none
  | _ => none
