/-! rows: contexts (lists of environments) -/
abbrev Nv := Nat → Int32
def fk (F : Nv → List Ev) (S : List Nv) : Nat := nk (S.flatMap F)
def fkS (F : Nv → List Ev) : List (List Nv) → Nat
  | [] => 0
  | S :: Z => fk F S + fkS F Z
theorem kys_fm {F : Nv → List Ev} {S : List Nv} {k : Ky} : k ∈ kys (S.flatMap F) ↔ ∃ r ∈ S, k ∈ kys (F r) := by
  unfold kys
  simp only [List.mem_map, List.mem_flatMap]
  constructor
  · rintro ⟨e, ⟨r, h1, h2⟩, rfl⟩
    exact ⟨r, h1, e, h2, rfl⟩
  · rintro ⟨r, h1, e, h2, rfl⟩
    exact ⟨e, ⟨r, h1, h2⟩, rfl⟩
theorem fk_le {F G : Nv → List Ev} {S T : List Nv} (h : ∀ r ∈ S, ∀ k ∈ kys (F r), ∃ r' ∈ T, k ∈ kys (G r')) : fk F S ≤ fk G T := by
  refine nk_le (fun k hk => ?_)
  obtain ⟨r, h1, h2⟩ := kys_fm.mp hk
  obtain ⟨r', h3, h4⟩ := h r h1 k h2
  exact kys_fm.mpr ⟨r', h3, h4⟩
theorem fk_mo {F G : Nv → List Ev} {S : List Nv} (h : ∀ r, ∀ k ∈ kys (F r), k ∈ kys (G r)) : fk F S ≤ fk G S := fk_le (fun r hr k hk => ⟨r, hr, h r k hk⟩)
theorem fk_app (F G : Nv → List Ev) (S : List Nv) : fk (fun r => F r ++ G r) S ≤ fk F S + fk G S := by
  refine Nat.le_trans (nk_le (F := S.flatMap F ++ S.flatMap G) (fun k hk => ?_)) (nk_app _ _)
  obtain ⟨r, h1, h2⟩ := kys_fm.mp hk
  rw [kys_app, List.mem_append] at h2 ⊢
  exact h2.imp (fun h => kys_fm.mpr ⟨r, h1, h⟩) (fun h => kys_fm.mpr ⟨r, h1, h⟩)
theorem fk_nil (S : List Nv) : fk (fun _ => []) S = 0 := by
  have : S.flatMap (fun _ => ([] : List Ev)) = [] := by simp
  rw [fk, this]; rfl
theorem fS_mo {F G : Nv → List Ev} (h : ∀ r, ∀ k ∈ kys (F r), k ∈ kys (G r)) : ∀ Z, fkS F Z ≤ fkS G Z
  | [] => Nat.le_refl _
  | S :: Z => Nat.add_le_add (fk_mo h) (fS_mo h Z)
theorem fS_app (F G : Nv → List Ev) : ∀ Z, fkS (fun r => F r ++ G r) Z ≤ fkS F Z + fkS G Z
  | [] => Nat.le_refl _
  | S :: Z => by
    have h1 := fk_app F G S
    have h2 := fS_app F G Z
    show fk _ S + fkS _ Z ≤ fk F S + fkS F Z + (fk G S + fkS G Z)
    omega
theorem fS_nil : ∀ Z, fkS (fun _ => []) Z = 0
  | [] => rfl
  | S :: Z => by
    show fk _ S + fkS _ Z = 0
    rw [fk_nil, fS_nil Z]
/-- what a list of events costs here and in all contexts -/
def wF (F : Nv → List Ev) (r : Nv) (Z : List (List Nv)) : Nat := nk (F r) + fkS F Z
theorem wF_mo {F G : Nv → List Ev} (h : ∀ r, ∀ k ∈ kys (F r), k ∈ kys (G r)) (r : Nv) (Z : List (List Nv)) : wF F r Z ≤ wF G r Z := Nat.add_le_add (nk_le (h r)) (fS_mo h Z)
theorem wF_app (F G : Nv → List Ev) (r : Nv) (Z : List (List Nv)) : wF (fun r => F r ++ G r) r Z ≤ wF F r Z + wF G r Z := by
  have h1 := nk_app (F r) (G r)
  have h2 := fS_app F G Z
  show nk (F r ++ G r) + fkS (fun r => F r ++ G r) Z ≤ nk (F r) + fkS F Z + (nk (G r) + fkS G Z)
  omega
theorem wF_nil (r : Nv) (Z : List (List Nv)) : wF (fun _ => []) r Z = 0 := by
  unfold wF
  rw [fS_nil]; rfl
/-- keys that are made of others are not more -/
theorem ded_map (h : Ky → Ky) (L : List Ky) : (ded (L.map h)).length ≤ (ded L).length := by
  have e : ((ded L).map h).length = (ded L).length := List.length_map ..
  rw [← e]
  refine nd_len _ _ (ded_nd _) (fun k hk => ?_)
  rw [ded_mem, List.mem_map] at hk
  obtain ⟨a, h1, h2⟩ := hk
  exact List.mem_map.mpr ⟨a, (ded_mem _ _).mpr h1, h2⟩
theorem fk_one {S : List Nv} {q : Nv → Ky} {m : Nat} : fk (fun r => [(q r, m)]) S = (ded (S.map q)).length := by
  unfold fk nk kys
  congr 2
  induction S with
  | nil => rfl
  | cons r S ih => simp only [List.flatMap_cons, List.map_append, ih]; rfl
theorem fk_fac {S : List Nv} {q q' : Nv → Ky} {m m' : Nat} (h : Ky → Ky) (hq : ∀ r, q' r = h (q r)) : fk (fun r => [(q' r, m')]) S ≤ fk (fun r => [(q r, m)]) S := by
  rw [fk_one, fk_one, show S.map q' = (S.map q).map h by rw [List.map_map]; exact List.map_congr_left (fun r _ => hq r)]
  exact ded_map h _
/-- how many values a name has in a context -/
def vQ (s : Nat) (r : Nv) : List Ev := [((0, false, r s), 0)]
def vU (_ : Nv) : List Ev := [((0, false, 0), 0)]
theorem vU_le (S : List Nv) : fk vU S ≤ 1 := by
  refine Nat.le_trans (nk_le (F := [((0, false, 0), 0)]) (fun k hk => ?_)) (Nat.le_refl 1)
  obtain ⟨r, h1, h2⟩ := kys_fm.mp hk
  exact h2
theorem vU_nil : fk vU [] = 0 := rfl
theorem vU_le_vQ (S : List Nv) (s : Nat) : fk vU S ≤ fk (vQ s) S := fk_fac (q := fun r => (0, false, r s)) (q' := fun _ => (0, false, 0)) (fun _ => (0, false, 0)) (fun _ => rfl)
theorem fS_vU (s : Nat) : ∀ Z, fkS vU Z ≤ fkS (vQ s) Z
  | [] => Nat.le_refl _
  | S :: Z => Nat.add_le_add (vU_le_vQ S s) (fS_vU s Z)
theorem fS_fac {q q' : Nv → Ky} {m m' : Nat} (h : Ky → Ky) (hq : ∀ r, q' r = h (q r)) : ∀ Z, fkS (fun r => [(q' r, m')]) Z ≤ fkS (fun r => [(q r, m)]) Z
  | [] => Nat.le_refl _
  | S :: Z => Nat.add_le_add (fk_fac h hq) (fS_fac h hq Z)
/-- a fixed index depends on one name at most -/
theorem plC_dep {sy : List Sym} : ∀ e, plC sy e = true → ∃ s : Nat, ∃ g : Int32 → Int32, ∀ r, cstE r e = g (r s) := by
  intro e
  induction e using plC.induct with
  | case1 v => exact fun _ => ⟨0, fun _ => v, fun _ => rfl⟩
  | case2 s => exact fun _ => ⟨s, fun x => x, fun _ => rfl⟩
  | case3 e ih =>
    intro h
    obtain ⟨s, g, k⟩ := ih h
    exact ⟨s, g, k⟩
  | case4 e h1 h2 h3 =>
    intro h
    unfold plC at h
    split at h
    · exact (h1 _ rfl).elim
    · exact (h2 _ rfl).elim
    · exact (h3 _ rfl).elim
    · cases h
theorem nuE_dep : ∀ e, nuE e = true → ∃ v : Int32, ∀ r, cstE r e = v := by
  intro e
  induction e using nuE.induct with
  | case1 v => exact fun _ => ⟨v, fun _ => rfl⟩
  | case2 e ih =>
    intro h
    obtain ⟨v, k⟩ := ih h
    exact ⟨v, k⟩
  | case3 e h1 h2 =>
    intro h
    unfold nuE at h
    split at h
    · exact (h1 _ rfl).elim
    · exact (h2 _ rfl).elim
    · cases h
theorem fix_dep {sy : List Sym} : ∀ e, fixE sy e = true → ∃ s : Nat, ∃ g : Int32 → Int32, ∀ r, cstE r e = g (r s) := by
  intro e
  induction e using fixE.induct with
  | case1 e ih =>
    intro h
    obtain ⟨s, g, k⟩ := ih h
    exact ⟨s, g, k⟩
  | case2 o x y =>
    intro h
    have h' : ((o == 43 || o == 45) && plC sy x && nuE y) = true := h
    rw [Bool.and_eq_true, Bool.and_eq_true] at h'
    obtain ⟨s, g, k⟩ := plC_dep x h'.1.2
    obtain ⟨v, l⟩ := nuE_dep y h'.2
    refine ⟨s, fun a => if o = 43 then g a + v else g a - v, fun r => ?_⟩
    show (if o = 43 then cstE r x + cstE r y else cstE r x - cstE r y) = _
    rw [k r, l r]
  | case3 v => exact fun _ => ⟨0, fun _ => v, fun _ => rfl⟩
  | case4 s => exact fun _ => ⟨s, fun x => x, fun _ => rfl⟩
  | case5 e h1 h2 h3 h4 =>
    intro h
    unfold fixE at h
    split at h
    · exact (h1 _ rfl).elim
    · exact (h2 _ _ _ rfl).elim
    · exact (h3 _ rfl).elim
    · exact (h4 _ rfl).elim
    · cases h
/-- contexts: no name has more than p - 1 values in all, there are d that are not empty -/
def ivZ (Z : List (List Nv)) (p d : Nat) : Prop := (∀ s, fkS (vQ s) Z + 1 ≤ p) ∧ fkS vU Z ≤ d
theorem lf_fix {sy : List Sym} {Z : List (List Nv)} {p d a m : Nat} {e : Tm} {b : Bool} (I : ivZ Z p d) (h : fixE sy e = true) (r : Nv) : wF (fun r => [((a, b, cstE r e), m)]) r Z ≤ p := by
  obtain ⟨s, g, k⟩ := fix_dep e h
  have h1 := fS_fac (q := fun r => (0, false, r s)) (q' := fun r => (a, b, cstE r e)) (m := 0) (m' := m) (fun x => (a, b, g x.2.2)) (fun r => by rw [k r]) Z
  have h2 := I.1 s
  have h3 : fkS (fun r => [((0, false, r s), 0)]) Z = fkS (vQ s) Z := rfl
  show 1 + _ ≤ p
  omega
theorem lf_cst {Z : List (List Nv)} {p d m : Nat} {k : Ky} (I : ivZ Z p d) (r : Nv) : wF (fun _ => [(k, m)]) r Z ≤ d + 1 := by
  have h1 := fS_fac (q := fun _ => (0, false, 0)) (q' := fun _ => k) (m := 0) (m' := m) (fun _ => k) (fun _ => rfl) Z
  have h3 : fkS (fun _ => [((0, false, 0), 0)]) Z = fkS vU Z := rfl
  have h2 := I.2
  show 1 + _ ≤ d + 1
  omega
/-! loops -/
def xpR (s b m : Nat) (r : Nv) : List Nv := (List.range m).map (fun k => upE r s (nI (b + k)))
def xp (s b m : Nat) (S : List Nv) : List Nv := S.flatMap (xpR s b m)
theorem xp_mem {s b m : Nat} {S : List Nv} {r : Nv} : r ∈ xp s b m S ↔ ∃ r0 ∈ S, ∃ k, k < m ∧ r = upE r0 s (nI (b + k)) := by
  unfold xp xpR
  simp only [List.mem_flatMap, List.mem_map, List.mem_range]
  constructor
  · rintro ⟨r0, h1, k, h2, rfl⟩
    exact ⟨r0, h1, k, h2, rfl⟩
  · rintro ⟨r0, h1, k, h2, rfl⟩
    exact ⟨r0, h1, k, h2, rfl⟩
theorem catN_i {α : Type} {f : Nat → List α} {x : α} : ∀ m, x ∈ catN f m ↔ ∃ k, k < m ∧ x ∈ f k
  | 0 => ⟨fun h => absurd h List.not_mem_nil, fun ⟨k, h, _⟩ => absurd h (Nat.not_lt_zero _)⟩
  | m + 1 => by
    show x ∈ catN f m ++ f m ↔ _
    rw [List.mem_append, catN_i m]
    constructor
    · rintro (⟨k, h1, h2⟩ | h)
      · exact ⟨k, by omega, h2⟩
      · exact ⟨m, by omega, h⟩
    · rintro ⟨k, h1, h2⟩
      by_cases e : k = m
      · exact Or.inr (e ▸ h2)
      · exact Or.inl ⟨k, by omega, h2⟩
theorem kys_cat {f : Nat → List Ev} {m : Nat} {k : Ky} : k ∈ kys (catN f m) ↔ ∃ i, i < m ∧ k ∈ kys (f i) := by
  unfold kys
  simp only [List.mem_map, catN_i]
  constructor
  · rintro ⟨e, ⟨i, h1, h2⟩, rfl⟩
    exact ⟨i, h1, e, h2, rfl⟩
  · rintro ⟨i, h1, e, h2, rfl⟩
    exact ⟨e, ⟨i, h1, h2⟩, rfl⟩
theorem fk_loop {F : Nv → List Ev} {s b m : Nat} {S : List Nv} : fk (fun r => catN (fun k => F (upE r s (nI (b + k)))) m) S ≤ fk F (xp s b m S) := by
  refine fk_le (fun r hr k hk => ?_)
  obtain ⟨i, h1, h2⟩ := kys_cat.mp hk
  exact ⟨_, xp_mem.mpr ⟨r, hr, i, h1, rfl⟩, h2⟩
theorem fS_loop {F : Nv → List Ev} {s b m : Nat} : ∀ Z, fkS (fun r => catN (fun k => F (upE r s (nI (b + k)))) m) Z ≤ fkS F (Z.map (xp s b m))
  | [] => Nat.le_refl _
  | S :: Z => Nat.add_le_add fk_loop (fS_loop Z)
theorem nk_cat {F : Nv → List Ev} {s b k : Nat} {r : Nv} : nk (catN (fun i => F (upE r s (nI (b + i)))) k) ≤ fk F (xp s b k [r]) := by
  refine nk_le (fun q hq => ?_)
  obtain ⟨i, h1, h2⟩ := kys_cat.mp hq
  exact kys_fm.mpr ⟨_, xp_mem.mpr ⟨r, List.mem_singleton.mpr rfl, i, h1, rfl⟩, h2⟩
theorem vQ_ne {s s0 b m : Nat} {S : List Nv} (h : s0 ≠ s) : fk (vQ s0) (xp s b m S) ≤ fk (vQ s0) S := by
  refine fk_le (fun r hr k hk => ?_)
  obtain ⟨r0, h1, i, h2, rfl⟩ := xp_mem.mp hr
  refine ⟨r0, h1, ?_⟩
  have e : upE r0 s (nI (b + i)) s0 = r0 s0 := if_neg h
  have hk' : k ∈ [((0 : Nat), false, upE r0 s (nI (b + i)) s0)] := hk
  rw [e] at hk'
  exact hk'
theorem vU_xp {s b m : Nat} {S : List Nv} : fk vU (xp s b m S) ≤ fk vU S := by
  refine fk_le (fun r hr k hk => ?_)
  obtain ⟨r0, h1, i, h2, rfl⟩ := xp_mem.mp hr
  exact ⟨r0, h1, hk⟩
theorem vQ_eq {s b m : Nat} {S : List Nv} : fk (vQ s) (xp s b m S) ≤ m * fk vU S := by
  cases S with
  | nil => exact Nat.zero_le _
  | cons r0 S =>
    have e : fk vU (r0 :: S) = 1 := Nat.le_antisymm (vU_le _) (by
      have : 1 ≤ nk (vU r0) := Nat.le_refl 1
      refine Nat.le_trans this (nk_le (fun k hk => kys_fm.mpr ⟨r0, List.mem_cons_self, hk⟩)))
    rw [e, Nat.mul_one]
    have e2 : ((List.range m).map (fun k => ((0 : Nat), false, nI (b + k)))).length = m := by simp
    refine Nat.le_trans (nd_len _ ((List.range m).map (fun k => ((0 : Nat), false, nI (b + k)))) (ded_nd _) (fun k hk => ?_)) (Nat.le_of_eq e2)
    rw [ded_mem] at hk
    obtain ⟨r, h1, h2⟩ := kys_fm.mp hk
    obtain ⟨r1, h3, i, h4, rfl⟩ := xp_mem.mp h1
    have h2' : k ∈ [((0 : Nat), false, upE r1 s (nI (b + i)) s)] := h2
    rw [List.mem_singleton, show upE r1 s (nI (b + i)) s = nI (b + i) from if_pos rfl] at h2'
    rw [h2']
    exact List.mem_map.mpr ⟨i, List.mem_range.mpr h4, rfl⟩
theorem fS_ne {s s0 b m : Nat} (h : s0 ≠ s) : ∀ Z, fkS (vQ s0) (Z.map (xp s b m)) ≤ fkS (vQ s0) Z
  | [] => Nat.le_refl _
  | S :: Z => Nat.add_le_add (vQ_ne h) (fS_ne h Z)
theorem fS_U {s b m : Nat} : ∀ Z, fkS vU (Z.map (xp s b m)) ≤ fkS vU Z
  | [] => Nat.le_refl _
  | S :: Z => Nat.add_le_add vU_xp (fS_U Z)
theorem fS_eq {s b m : Nat} : ∀ Z, fkS (vQ s) (Z.map (xp s b m)) ≤ m * fkS vU Z
  | [] => Nat.zero_le _
  | S :: Z => by
    show fk (vQ s) (xp s b m S) + fkS (vQ s) (Z.map (xp s b m)) ≤ m * (fk vU S + fkS vU Z)
    have h1 := vQ_eq (s := s) (b := b) (m := m) (S := S)
    have h2 := fS_eq (s := s) (b := b) (m := m) Z
    rw [Nat.mul_add]
    omega
/-- the contexts within a loop that is in its turn k -/
def xZ (s b m k : Nat) (r : Nv) (Z : List (List Nv)) : List (List Nv) := xp s b k [r] :: Z.map (xp s b m)
theorem iV_loop {Z : List (List Nv)} {p d s b m k : Nat} {r : Nv} (I : ivZ Z p d) (hk : k < m) : (∀ s0, s0 ≠ s → fkS (vQ s0) (xZ s b m k r Z) + 1 ≤ p + if m = 1 then 0 else 1) ∧ fkS (vQ s) (xZ s b m k r Z) + 1 ≤ m * (d + 1) ∧ fkS vU (xZ s b m k r Z) ≤ d + if m = 1 then 0 else 1 := by
  have u1 : fk vU (xp s b k [r]) ≤ if m = 1 then 0 else 1 := by
    split
    · have : k = 0 := by omega
      subst this
      exact Nat.le_refl _
    · exact vU_le _
  have hU : ∀ s0, s0 ≠ s → fk (vQ s0) (xp s b k [r]) ≤ if m = 1 then 0 else 1 := by
    intro s0 h0
    split
    · have : k = 0 := by omega
      subst this
      exact Nat.le_refl _
    · exact Nat.le_trans (vQ_ne h0) (Nat.le_refl 1)
  refine ⟨fun s0 h0 => ?_, ?_, ?_⟩
  · have h1 := hU s0 h0
    have h2 := fS_ne (s := s) (b := b) (m := m) h0 Z
    have h3 := I.1 s0
    show fk _ _ + fkS _ _ + 1 ≤ _
    omega
  · have h1 := vQ_eq (s := s) (b := b) (m := k) (S := [r])
    have h2 := fS_eq (s := s) (b := b) (m := m) Z
    have h3 : m * fkS vU Z ≤ m * d := Nat.mul_le_mul_left _ I.2
    have h4 : k * fk vU [r] ≤ k * 1 := Nat.mul_le_mul_left _ (vU_le _)
    show fk _ _ + fkS _ _ + 1 ≤ m * (d + 1)
    rw [Nat.mul_add]
    omega
  · have h2 := fS_U (s := s) (b := b) (m := m) Z
    have h3 := I.2
    show fk _ _ + fkS _ _ ≤ _
    omega
