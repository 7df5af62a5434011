/-! (S): rows; a process becomes ready -/
section
variable {C : Cx} {M : Nat} {E : En} {s s' : Cr} {w w' : Wd} {g : Gh} {Q : Thr} {t : Nat} {th th' : Th}
/-- a thread in a row has this status -/
theorem in_row (I : Inv C M s w g Q E) (e : Q t = some th) {f : Fm} {r : List Fm} (ef : thF th = f :: r) : (f.1 ∈ s.2.2.1 → thS th = 1 ∧ thP th = 0) ∧ (f.1 ∈ s.2.2.2 → (thS th = 1 ∨ thS th = 7) ∧ thP th = 1) := by
  obtain ⟨i4, i5, i6, i7, i8, i9, i10, i11, i12, i13⟩ := I.2.2.2.1
  constructor
  · intro h
    obtain ⟨b, tb, jb, rb, k1, k2, k3, k4⟩ := i7 _ h
    by_cases c : b = t
    · subst c
      rw [e] at k1
      cases k1
      exact ⟨k2, k3⟩
    · exact (W_ne I e k1 ef k4 c rfl).elim
  · intro h
    obtain ⟨b, tb, jb, rb, k1, k2, k3, k4⟩ := i8 _ h
    by_cases c : b = t
    · subst c
      rw [e] at k1
      cases k1
      exact ⟨k2, k3⟩
    · exact (W_ne I e k1 ef k4 c rfl).elim
/-- rows are short -/
theorem row_lt (I : Inv C M s w g Q E) : s.2.2.1.length + s.2.2.2.length < 1090 := by
  obtain ⟨i4, i5, i6, i7, i8, i9, i10, i11, i12, i13⟩ := I.2.2.2.1
  have hM := I.1.2
  have mem : ∀ x ∈ s.2.2.1 ++ s.2.2.2, ∃ b tb jb rb, Q b = some tb ∧ thF tb = (x, jb) :: rb := by
    intro x hx
    rcases List.mem_append.mp hx with h | h
    · obtain ⟨b, tb, jb, rb, k1, k2, k3, k4⟩ := i7 _ h
      exact ⟨b, tb, jb, rb, k1, k4⟩
    · obtain ⟨b, tb, jb, rb, k1, k2, k3, k4⟩ := i8 _ h
      exact ⟨b, tb, jb, rb, k1, k4⟩
  have nd : (s.2.2.1 ++ s.2.2.2).Nodup := by
    rw [List.nodup_append]
    refine ⟨i9, i10, fun x hx y hy hxy => ?_⟩
    subst hxy
    obtain ⟨b, tb, jb, rb, k1, k2, k3, k4⟩ := i7 _ hx
    have := (in_row I k1 k4).2 hy
    omega
  have := pg_4 (s.2.2.1 ++ s.2.2.2) M (fun x hx => ?_) (List.Pairwise.imp_of_mem (fun {x y} hx hy hne => ?_) nd)
  · rw [List.length_append] at this
    omega
  · obtain ⟨b, tb, jb, rb, k1, k4⟩ := mem x hx
    obtain ⟨W, j, z, r, h1, h2, h3, h4, h5, -, -, -, -, -, -, -, h13, h14⟩ := I.2.1 b tb k1
    rw [k4] at h1
    cases h1
    have := h5 (x, j, z) (by rw [k4]; exact List.mem_cons_self)
    have a1 := this.1
    have a2 := this.2.1
    simp only at a1 a2
    omega
  · obtain ⟨b, tb, jb, rb, k1, k4⟩ := mem x hx
    obtain ⟨b', tb', jb', rb', k1', k4'⟩ := mem y hy
    have : b' ≠ b := by
      intro c
      subst c
      rw [k1] at k1'
      cases k1'
      rw [k4] at k4'
      cases k4'
      exact hne rfl
    have := W_4 I k1 k1' k4 k4' this
    simp only at this
    omega
/-- at the end of its row -/
def rAp (s : Cr) (p W : Nat) : List Nat × List Nat := if p = 0 then (s.2.2.1 ++ [W], s.2.2.2) else (s.2.2.1, s.2.2.2 ++ [W])
theorem nd_ap {L : List Nat} {W : Nat} (h : L.Nodup) (n : W ∉ L) : (L ++ [W]).Nodup := by
  rw [List.nodup_append]
  refine ⟨h, by simp, fun x hx y hy hxy => ?_⟩
  rw [List.mem_singleton] at hy
  subst hxy
  subst hy
  exact n hx
/-- a process becomes ready -/
theorem wake {W j : Nat} {z : Sg} {r : List Fm} (I : Inv C M s w g Q E) (e : Q t = some th) (st : thS th = 2 ∨ thS th = 3 ∨ thS th = 4 ∨ thS th = 5 ∨ thS th = 8) (q1 : th'.2.2 = th.2.2) (q2 : thP th' = thP th) (n1 : thS th' = 1) (ef : thF th = (W, j, z) :: r) {j' : Nat × Sg} (ef' : thF th' = (W, j') :: r)
    (er : ∀ i, s'.1 i = s.1 i) (eq : s'.2.2 = rAp s (thP th) W)
    (hm : ∀ x, s'.2.1 x ≠ s.2.1 x → g.2.1 x = 1 ∨ g.2.1 x = 2 ∨ (g.1 x = t ∧ (g.2.1 x = 4 ∨ thK th = [])))
    (h2 : ∀ b tb, b ≠ t → Q b = some tb → thS tb = 2 ∨ thS tb = 3 → s'.2.1 (thC tb) = s.2.1 (thC tb))
    (hh : ∀ b tb W j z r x, b ≠ t → Q b = some tb → thF tb = (W, j, z) :: r → (zL z).2.1 ≠ [] → g.1 x ∈ b :: thA tb → g.2.1 x = 2 → g.2.2.2 x = b → hasC s w x (nI (2 * W + thP tb)) → hasC s' w' x (nI (2 * W + thP tb)))
    (hp8 : thS th = 8 → ∀ u tu W' j z r p zc, Q u = some tu → t ∈ thK tu → thS tu ≠ 5 → thF tu = (W', j, z) :: r → p ∈ (zR z).2 → thF th ≠ [(W' - p.1, p.2.1, zc)])
    (mine : tOK C M s' w' g (qU Q t th') t th')
    (hc : ∀ c, g.2.1 c = 2 → s'.2.1 c = -1 ∨ dsC s' th' c ∨ (s'.2.1 c = s.2.1 c ∧ (dsC s th c → dsC s' th' c)))
    (hw : wsO w' g (qU Q t th') E) : Inv C M s' w' g (qU Q t th') E := by
  obtain ⟨i4, i5, i6, i7, i8, i9, i10, i11, i12, i13⟩ := I.2.2.2.1
  have no1 : W ∉ s.2.2.1 := fun h => by have := (in_row I e ef).1 h; omega
  have no2 : W ∉ s.2.2.2 := fun h => by have := (in_row I e ef).2 h; omega
  have p1 : thP th ≤ 1 := by
    obtain ⟨W0, j0, z0, r0, h1, h2, -⟩ := I.2.1 t th e
    exact h2
  have H' : ∀ n, n ∈ s'.2.2.1 ↔ n ∈ s.2.2.1 ∨ (n = W ∧ thP th = 0) := by
    intro n
    rw [eq]
    unfold rAp
    split
    · rename_i c; simp [c]
    · rename_i c; simp [c]
  have L' : ∀ n, n ∈ s'.2.2.2 ↔ n ∈ s.2.2.2 ∨ (n = W ∧ thP th = 1) := by
    intro n
    rw [eq]
    unfold rAp
    split
    · rename_i c; simp [c]
    · rename_i c
      have : thP th = 1 := by omega
      simp [this]
  refine on1 I e q1 q2 (fun _ f r' hf => ?_) (er 5) hm (fun _ => rfl) (fun _ _ => ⟨rfl, rfl, rfl⟩) (fun b tb hb eb z i _ _ => er i) (fun n _ => ⟨fun h => (H' n).mpr (Or.inl h), fun h => (L' n).mpr (Or.inl h)⟩) h2 (fun b tb hb eb z7 => ⟨fun i _ _ => er i, ?_⟩) hh (fun u tu hu eu hk n5 => ⟨fun _ _ => Or.inl n1, fun W' j z r p zc s8 hf hp hfc => absurd hfc (hp8 s8 u tu W' j z r p zc eu hk n5 hf hp)⟩) mine (fun c hc' => ⟨(I.2.2.1 c hc').1, (hc c hc').imp_right (Or.imp_right fun y => ⟨hc', y⟩)⟩) ?_ hw
  · rw [ef] at hf
    cases hf
    exact ⟨_, _, ef', rfl⟩
  · rw [eq]
    unfold rAp
    split
    · rfl
    · obtain ⟨W0, j0, z0, r0, h1, -, -, -, -, -, -, -, h9, -⟩ := I.2.1 b tb eb
      unfold sOK at h9
      rw [z7] at h9
      have hd := h9.2.1
      cases hl : s.2.2.2 with
      | nil => rw [hl] at hd; exact nomatch hd
      | cons x l => rfl
  · have back : ∀ b tb, qU Q t th' b = some tb → thS tb ≠ 1 → b ≠ t ∧ Q b = some tb := by
      intro b tb hb hs
      by_cases c : b = t
      · subst c
        rw [qU_t] at hb
        cases hb
        exact (hs n1).elim
      · rw [qU_n c] at hb
        exact ⟨c, hb⟩
    refine ⟨fun z => ?_, fun b tb b' tb' hb hb' z1 z2 => ?_, fun b tb b' tb' hb hb' z1 z2 => ?_, fun n hn => ?_, fun n hn => ?_, ?_, ?_, fun z => ?_, fun z1 z2 => ?_, ?_⟩
    · obtain ⟨b, tb, k1, k2⟩ := i4 (by rw [← er 14]; exact z)
      have ct : b ≠ t := fun z => by subst z; rw [e] at k1; cases k1; omega
      exact ⟨b, tb, (qU_n ct).trans k1, k2⟩
    · obtain ⟨b1, b2⟩ := back b tb hb (by omega)
      obtain ⟨c1, c2⟩ := back b' tb' hb' (by omega)
      exact i5 b tb b' tb' b2 c2 z1 z2
    · obtain ⟨b1, b2⟩ := back b tb hb (by omega)
      obtain ⟨c1, c2⟩ := back b' tb' hb' (by omega)
      exact i6 b tb b' tb' b2 c2 z1 z2
    · rcases (H' n).mp hn with h | ⟨h, hp0⟩
      · obtain ⟨b, tb, j0, r0, k1, k2, k3, k4⟩ := i7 n h
        have ct : b ≠ t := fun z => by subst z; rw [e] at k1; cases k1; omega
        exact ⟨b, tb, j0, r0, (qU_n ct).trans k1, k2, k3, k4⟩
      · subst h
        exact ⟨t, th', _, _, qU_t, n1, q2.trans hp0, ef'⟩
    · rcases (L' n).mp hn with h | ⟨h, hp0⟩
      · obtain ⟨b, tb, j0, r0, k1, k2, k3, k4⟩ := i8 n h
        have ct : b ≠ t := fun z => by subst z; rw [e] at k1; cases k1; omega
        exact ⟨b, tb, j0, r0, (qU_n ct).trans k1, k2, k3, k4⟩
      · subst h
        exact ⟨t, th', _, _, qU_t, Or.inl n1, q2.trans hp0, ef'⟩
    · rw [eq]
      unfold rAp
      split
      · exact nd_ap i9 no1
      · exact i9
    · rw [eq]
      unfold rAp
      split
      · exact i10
      · exact nd_ap i10 no2
    · obtain ⟨b, tb, k1, k2⟩ := i11 (by rw [← er 22]; exact z)
      have ct : b ≠ t := fun z => by subst z; rw [e] at k1; cases k1; omega
      exact ⟨b, tb, (qU_n ct).trans k1, k2⟩
    · rw [er 22]
      exact i12 (by rw [← er 14]; exact z1) (by rw [← er 15]; exact z2)
    · unfold lo
      rw [er 15]
      exact i13
end
