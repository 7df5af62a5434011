/-! (S): one thread changes -/
/-- one thread's record changes -/
def qU (Q : Thr) (t : Nat) (th : Th) : Thr := fun b => if b = t then some th else Q b
section
variable {C : Cx} {M : Nat} {E : En} {s s' : Cr} {w w' : Wd} {g g' : Gh} {Q : Thr} {t : Nat} {th th' : Th}
theorem qU_t : qU Q t th' t = some th' := if_pos rfl
theorem qU_n {b : Nat} (h : b ≠ t) : qU Q t th' b = Q b := if_neg h
theorem bel_q (e : Q t = some th) (a : thA th' = thA th) (u b : Nat) : bel (qU Q t th') u b ↔ bel Q u b := by
  unfold bel
  by_cases c : b = t
  · subst c
    rw [qU_t, e]
    constructor
    · rintro (z | ⟨x, z1, z2⟩)
      · exact Or.inl z
      · cases z1; exact Or.inr ⟨th, rfl, by rw [← a]; exact z2⟩
    · rintro (z | ⟨x, z1, z2⟩)
      · exact Or.inl z
      · cases z1
        exact Or.inr ⟨th', rfl, by rw [a]; exact z2⟩
  · rw [qU_n c]
/-- who has no children has none below -/
theorem no_d (I : ∀ b tb, Q b = some tb → uOK Q b tb) (e : Q t = some th) (k : thK th = []) : ∀ (n : Nat) (b : Nat) (tb : Th), Q b = some tb → (thA tb).length ≤ n → t ∉ thA tb := by
  intro n
  induction n with
  | zero =>
    intro b tb _ hl hm
    rw [List.length_eq_zero_iff.mp (Nat.le_zero.mp hl)] at hm
    exact nomatch hm
  | succ n ih =>
    intro b tb eb hl hm
    obtain ⟨-, -, -, f, -, -, h6⟩ := I b tb eb
    revert h6 hm hl
    cases thA tb with
    | nil => intro _ z; exact nomatch z
    | cons u r =>
      rintro hl hm ⟨-, tu, fu, ru, k2, k3, k4, -⟩
      rcases List.mem_cons.mp hm with z | z
      · subst z
        rw [e] at k2
        cases k2
        rw [k] at k4
        exact nomatch k4
      · exact ih u tu k2 (by rw [k3]; rw [List.length_cons] at hl; omega) (by rw [k3]; exact z)
theorem no_d' (I : Inv C M s w g Q E) (e : Q t = some th) (k : thK th = []) {b : Nat} {tb : Th} (eb : Q b = some tb) : t ∉ thA tb := by
  refine no_d (fun b tb h => ?_) e k _ b tb eb (Nat.le_refl _)
  obtain ⟨W, j, z, r, h1, h2, h3, h4, h5, h6, h7, h8, -⟩ := I.2.1 b tb h
  exact h8
/-- two threads' W differ -/
theorem W_ne (I : Inv C M s w g Q E) {b : Nat} {tb : Th} {f f' : Fm} {r r' : List Fm} (e : Q t = some th) (eb : Q b = some tb) (h : thF th = f :: r) (hb : thF tb = f' :: r') (n : b ≠ t) : f'.1 ≠ f.1 := by
  obtain ⟨W, j, z, r0, h1, -, -, -, -, -, -, -, -, -, -, -, h13, -⟩ := I.2.1 t th e
  obtain ⟨W', j', z', r0', h1', -, -, -, -, -, -, -, -, -, -, -, h13', -⟩ := I.2.1 b tb eb
  rw [h] at h1; cases h1
  rw [hb] at h1'; cases h1'
  intro c
  have c : W' = W := c
  have a := (h13 0 (by omega)).2
  have a' := (h13' 0 (by omega)).2
  rw [c] at a'
  exact n (a'.symm.trans a)
/-- four words apart -/
theorem W_4 (I : Inv C M s w g Q E) {b : Nat} {tb : Th} {f f' : Fm} {r r' : List Fm} (e : Q t = some th) (eb : Q b = some tb) (h : thF th = f :: r) (hb : thF tb = f' :: r') (n : b ≠ t) : f'.1 + 4 ≤ f.1 ∨ f.1 + 4 ≤ f'.1 := by
  obtain ⟨W, j, z, r0, h1, -, -, -, -, -, -, -, -, -, -, -, h13, -⟩ := I.2.1 t th e
  obtain ⟨W', j', z', r0', h1', -, -, -, -, -, -, -, -, -, -, -, h13', -⟩ := I.2.1 b tb eb
  rw [h] at h1; cases h1
  rw [hb] at h1'; cases h1'
  show W' + 4 ≤ W ∨ W + 4 ≤ W'
  by_cases c : W' ≤ W
  · by_cases c2 : W' + 4 ≤ W
    · exact Or.inl c2
    · have a := (h13 (W - W') (by omega)).2
      have a' := (h13' 0 (by omega)).2
      rw [show W - (W - W') = W' by omega] at a
      exact (n (a'.symm.trans a)).elim
  · by_cases c2 : W + 4 ≤ W'
    · exact Or.inr c2
    · have a := (h13 0 (by omega)).2
      have a' := (h13' (W' - W) (by omega)).2
      rw [show W' - (W' - W) = W by omega] at a'
      exact (n (a'.symm.trans a)).elim
/-- one thread changes -/
theorem on1 (I : Inv C M s w g Q E) (e : Q t = some th) (q1 : th'.2.2 = th.2.2) (q2 : thP th' = thP th)
    (q3 : thK th ≠ [] → ∀ f r, thF th = f :: r → ∃ f' r', thF th' = f' :: r' ∧ f'.1 = f.1)
    (r5 : s'.1 5 = s.1 5)
    (hm : ∀ x, s'.2.1 x ≠ s.2.1 x → g.2.1 x = 1 ∨ g.2.1 x = 2 ∨ (g.1 x = t ∧ (g.2.1 x = 4 ∨ thK th = [])))
    (hg0 : ∀ x, g'.1 x = g.1 x)
    (hg : ∀ x, ¬ (g.1 x = t ∧ thK th = []) → g'.2.1 x = g.2.1 x ∧ g'.2.2.1 x = g.2.2.1 x ∧ g'.2.2.2 x = g.2.2.2 x)
    (h0 : ∀ b tb, b ≠ t → Q b = some tb → thS tb = 0 → ∀ i, 8 ≤ i → i ≤ 15 → s'.1 i = s.1 i)
    (h1 : ∀ n, (∀ f r, thF th = f :: r → n ≠ f.1) → (n ∈ s.2.2.1 → n ∈ s'.2.2.1) ∧ (n ∈ s.2.2.2 → n ∈ s'.2.2.2))
    (h2 : ∀ b tb, b ≠ t → Q b = some tb → thS tb = 2 ∨ thS tb = 3 → s'.2.1 (thC tb) = s.2.1 (thC tb))
    (h7 : ∀ b tb, b ≠ t → Q b = some tb → thS tb = 7 → (∀ i, 22 ≤ i → i ≤ 27 → s'.1 i = s.1 i) ∧ s'.2.2.2.head? = s.2.2.2.head?)
    (hh : ∀ b tb W j z r x, b ≠ t → Q b = some tb → thF tb = (W, j, z) :: r → (zL z).2.1 ≠ [] → g.1 x ∈ b :: thA tb → g.2.1 x = 2 → g.2.2.2 x = b → hasC s w x (nI (2 * W + thP tb)) → hasC s' w' x (nI (2 * W + thP tb)))
    (hp : ∀ u tu, u ≠ t → Q u = some tu → t ∈ thK tu → thS tu ≠ 5 → (thP th = thP tu → thS th = 1 ∨ thS th = 8 → thS th' = 1 ∨ thS th' = 8) ∧ (∀ W j z r p zc, thS th = 8 → thF tu = (W, j, z) :: r → p ∈ (zR z).2 → thF th = [(W - p.1, p.2.1, zc)] → th' = th))
    (mine : tOK C M s' w' g' (qU Q t th') t th')
    (hc : ∀ c, g'.2.1 c = 2 → c < M ∧ (s'.2.1 c = -1 ∨ dsC s' th' c ∨ (g.2.1 c = 2 ∧ s'.2.1 c = s.2.1 c ∧ (dsC s th c → dsC s' th' c))))
    (hr : row s' (qU Q t th')) (hw : wsO w' g' (qU Q t th') E) : Inv C M s' w' g' (qU Q t th') E := by
  have eA : thA th' = thA th := by unfold thA; rw [q1]
  have eK : thK th' = thK th := by unfold thK; rw [q1]
  have eO : thO th' = thO th := by unfold thO; rw [q1]
  have nd : ∀ b tb, Q b = some tb → thK th = [] → t ∉ thA tb := fun b tb eb k => no_d' I e k eb
  have own : ∀ b tb x, b ≠ t → Q b = some tb → g.1 x ∈ b :: thA tb → ¬ (g.1 x = t ∧ thK th = []) := by
    rintro b tb x hb eb hx ⟨z1, z2⟩
    rw [z1] at hx
    rcases List.mem_cons.mp hx with z | z
    · exact hb z.symm
    · exact nd b tb eb z2 z
  have K3 : ∀ b tb, b ≠ t → Q b = some tb → ∀ x, g.1 x ∈ b :: thA tb → g.2.1 x = 3 → s'.2.1 x = s.2.1 x := by
    intro b tb hb eb x hx h3
    by_cases c : s'.2.1 x = s.2.1 x
    · exact c
    · rcases hm x c with z | z | ⟨z1, z | z⟩
      · omega
      · omega
      · omega
      · exact (own b tb x hb eb hx ⟨z1, z⟩).elim
  refine ⟨⟨r5.trans I.1.1, I.1.2⟩, fun b tb hb => ?_, fun c hc' => ⟨(hc c hc').1, ?_⟩, hr, hw⟩
  · by_cases cb : b = t
    · subst cb
      rw [qU_t] at hb
      cases hb
      exact mine
    · rw [qU_n cb] at hb
      refine keep (I.2.1 b tb hb) (K3 b tb cb hb) (fun x x1 x2 => ?_) (fun x hx => ⟨hg0 x, (hg x (own b tb x cb hb hx)).1⟩) (fun x hx _ => ?_) (fun x hx _ => ?_) (fun x _ _ => ?_) (h0 b tb cb hb) (fun f r hf => ?_) (h2 b tb cb hb) (h7 b tb cb hb) (fun W j z r x hf nl hx x1 x2 => hh b tb W j z r x cb hb hf nl hx x1 x2) (fun c hc tc etc => ?_) (fun u tu hu eu hbu => ?_)
      · by_cases c : s'.2.1 x = s.2.1 x
        · exact c
        · rcases hm x c with z | z | ⟨z1, -⟩
          · omega
          · omega
          · exact (cb (x1.symm.trans z1)).elim
      · obtain ⟨-, z2, z3⟩ := hg x (own b tb x cb hb hx)
        rw [z2, z3]
        exact ⟨(bel_q e eA _ _).mpr, (bel_q e eA _ _).mpr⟩
      · obtain ⟨-, z2, z3⟩ := hg x (own b tb x cb hb hx)
        rw [z2, z3]
        exact ⟨fun z _ => z, fun z _ => z⟩
      · rw [hg0 x]
        exact (bel_q e eA _ _).mpr
      · refine h1 _ fun f' r' hf' => ?_
        exact W_ne I e hb hf' hf cb
      · by_cases ct : c = t
        · subst ct
          rw [e] at etc
          cases etc
          refine ⟨th', qU_t, eA, q2, fun n5 ep hs => (hp b tb cb hb hc n5).1 ep hs, fun W j z r p zc n5 s8 hf hp' hfc => (hp b tb cb hb hc n5).2 W j z r p zc s8 hf hp' hfc⟩
        · exact ⟨tc, (qU_n ct).trans etc, rfl, rfl, fun _ _ z => z, fun _ _ _ _ _ _ _ _ _ _ _ => rfl⟩
      · by_cases ct : u = t
        · subst ct
          rw [e] at eu
          cases eu
          refine ⟨th', qU_t, eA, by rw [eK]; exact hbu, eO, q3 (fun z => by rw [z] at hbu; exact nomatch hbu)⟩
        · exact ⟨tu, (qU_n ct).trans eu, rfl, hbu, rfl, fun fu ru hf => ⟨fu, ru, hf, rfl⟩⟩
  · rcases (hc c hc').2 with z | z | ⟨z1, z2, z3⟩
    · exact Or.inl z
    · exact Or.inr ⟨t, th', qU_t, z⟩
    · rcases (I.2.2.1 c z1).2 with y | ⟨b, tb, k1, k2⟩
      · exact Or.inl (z2.trans y)
      · by_cases cb : b = t
        · subst cb
          rw [e] at k1
          cases k1
          exact Or.inr ⟨b, th', qU_t, z3 k2⟩
        · refine Or.inr ⟨b, tb, (qU_n cb).trans k1, ?_⟩
          obtain ⟨W, j, zz, r, a1, a2, a3⟩ := k2
          refine ⟨W, j, zz, r, a1, z2.trans a2, ?_⟩
          rcases a3 with a3 | a3 | ⟨a3, a4⟩
          · exact Or.inl a3
          · exact Or.inr (Or.inl a3)
          · refine Or.inr (Or.inr ⟨a3, ?_⟩)
            obtain ⟨W0, j0, z0, r0, l1, -, -, -, -, -, -, -, -, l10, -⟩ := I.2.1 b tb k1
            rw [a1] at l1
            cases l1
            have ne : (zL zz).2.1 ≠ [] := by
              obtain ⟨i, n, -, -, b3, -⟩ := a4
              intro y
              rw [y] at b3
              exact nomatch b3
            exact aEn_mv (l10 a3 ne).1 a4 (K3 b tb cb k1)
end
