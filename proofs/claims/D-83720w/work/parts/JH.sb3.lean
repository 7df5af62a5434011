/-! (S): the process that runs goes on -/
section
variable {C : Cx} {M : Nat} {E : En} {s s' : Cr} {w w' : Wd} {g g' : Gh} {Q : Thr} {t : Nat} {th th' : Th}
theorem wsO_q (e : Q t = some th) (h : wsO w g Q E) (hg : ∀ c, c < 14 → g'.2.2.1 c = g.2.2.1 c ∧ g'.2.2.2 c = g.2.2.2 c) (h3 : ∀ c, thS th' = 3 ∧ thC th' = c ↔ thS th = 3 ∧ thC th = c) (h2 : thS th' = 2 → thC th' = 13 → w.1 1 ≤ w.1 2) : wsO w g' (qU Q t th') E := by
  obtain ⟨a, b, bk⟩ := h
  refine ⟨fun c hc => by rw [(hg c hc).1, (hg c hc).2]; exact a c hc, ?_, ?_⟩
  · intro c hc ec
    obtain ⟨b1, b2⟩ := b c hc ec
    refine ⟨fun z => ?_, fun z => ?_⟩
    · obtain ⟨k1, k2, k3⟩ := b1 z
      refine ⟨k1, k2, fun x tx ex x3 xc => ?_⟩
      by_cases cx : x = t
      · subst cx
        rw [qU_t] at ex
        cases ex
        have := (h3 c).mp ⟨x3, xc⟩
        exact k3 x th e this.1 this.2
      · rw [qU_n cx] at ex
        exact k3 x tx ex x3 xc
    · obtain ⟨x, tx, k1, k2, k3⟩ := b2 z
      by_cases cx : x = t
      · subst cx
        rw [e] at k1
        cases k1
        have := (h3 c).mpr ⟨k2, k3⟩
        exact ⟨x, th', qU_t, this.1, this.2⟩
      · exact ⟨x, tx, (qU_n cx).trans k1, k2, k3⟩
  · intro x tx ex x2 x13
    by_cases cx : x = t
    · subst cx
      rw [qU_t] at ex
      cases ex
      exact h2 x2 x13
    · rw [qU_n cx] at ex
      exact bk x tx ex x2 x13
/-- the process that runs goes on -/
theorem go {F : List Fm} (I : Inv C M s w g Q E) (e : Q t = some th) (e0 : thS th = 0)
    (q3 : thK th ≠ [] → ∀ f r, thF th = f :: r → ∃ f' r', F = f' :: r' ∧ f'.1 = f.1)
    (er : ∀ i, i = 5 ∨ i = 14 ∨ i = 15 ∨ (22 ≤ i ∧ i ≤ 27) → s'.1 i = s.1 i) (eq : s'.2.2 = s.2.2)
    (hm : ∀ x, s'.2.1 x ≠ s.2.1 x → g.2.1 x = 1 ∨ g.2.1 x = 2 ∨ (g.1 x = t ∧ (g.2.1 x = 4 ∨ thK th = [])))
    (hg0 : ∀ x, g'.1 x = g.1 x)
    (hg : ∀ x, ¬ (g.1 x = t ∧ thK th = []) → g'.2.1 x = g.2.1 x ∧ g'.2.2.1 x = g.2.2.1 x ∧ g'.2.2.2 x = g.2.2.2 x)
    (h2 : ∀ b tb, b ≠ t → Q b = some tb → thS tb = 2 ∨ thS tb = 3 → s'.2.1 (thC tb) = s.2.1 (thC tb))
    (hh : ∀ b tb W j z r x, b ≠ t → Q b = some tb → thF tb = (W, j, z) :: r → (zL z).2.1 ≠ [] → g.1 x ∈ b :: thA tb → g.2.1 x = 2 → g.2.2.2 x = b → hasC s w x (nI (2 * W + thP tb)) → hasC s' w' x (nI (2 * W + thP tb)))
    (mine : tOK C M s' w' g' (qU Q t (F, th.2)) t (F, th.2))
    (hc : ∀ c, g'.2.1 c = 2 → c < M ∧ (s'.2.1 c = -1 ∨ dsC s' (F, th.2) c ∨ (g.2.1 c = 2 ∧ s'.2.1 c = s.2.1 c ∧ (dsC s th c → dsC s' (F, th.2) c))))
    (hw : wsO w' g' (qU Q t (F, th.2)) E) : Inv C M s' w' g' (qU Q t (F, th.2)) E := by
  obtain ⟨i4, i5, i6, i7, i8, i9, i10, i11, i12, i13⟩ := I.2.2.2.1
  have e0' : thS (F, th.2) = 0 := e0
  refine on1 I e rfl rfl q3 (er 5 (by omega)) hm hg0 hg (fun b tb hb eb z => (hb (i5 b tb t th eb e z e0)).elim) (fun n _ => by rw [eq]; exact ⟨id, id⟩) h2 (fun b tb hb eb z => ⟨fun i h1 h2 => er i (by omega), by rw [eq]⟩) hh (fun u tu hu eu hk n5 => ⟨fun _ z => by omega, fun W j z r p zc z8 => by omega⟩) mine hc ?_ hw
  have back : ∀ b tb, qU Q t (F, th.2) b = some tb → ∃ tb0, Q b = some tb0 ∧ tb.2 = tb0.2 := by
    intro b tb hb
    by_cases c : b = t
    · subst c
      rw [qU_t] at hb
      cases hb
      exact ⟨th, e, rfl⟩
    · rw [qU_n c] at hb
      exact ⟨tb, hb, rfl⟩
  refine ⟨fun _ => ⟨t, _, qU_t, e0⟩, fun b tb b' tb' hb hb' z1 z2 => ?_, fun b tb b' tb' hb hb' z1 z2 => ?_, fun n hn => ?_, fun n hn => ?_, by rw [eq]; exact i9, by rw [eq]; exact i10, fun z => ?_, fun z1 z2 => ?_, ?_⟩
  · obtain ⟨b0, m1, m2⟩ := back b tb hb
    obtain ⟨b1, n1, n2⟩ := back b' tb' hb'
    exact i5 b b0 b' b1 m1 n1 (by show b0.2.1.1 = 0; rw [← m2]; exact z1) (by show b1.2.1.1 = 0; rw [← n2]; exact z2)
  · obtain ⟨b0, m1, m2⟩ := back b tb hb
    obtain ⟨b1, n1, n2⟩ := back b' tb' hb'
    exact i6 b b0 b' b1 m1 n1 (by show b0.2.1.1 = 7; rw [← m2]; exact z1) (by show b1.2.1.1 = 7; rw [← n2]; exact z2)
  · rw [eq] at hn
    obtain ⟨b, tb, j0, r0, k1, k2, k3, k4⟩ := i7 n hn
    have ct : b ≠ t := fun z => by subst z; rw [e] at k1; cases k1; omega
    exact ⟨b, tb, j0, r0, (qU_n ct).trans k1, k2, k3, k4⟩
  · rw [eq] at hn
    obtain ⟨b, tb, j0, r0, k1, k2, k3, k4⟩ := i8 n hn
    have ct : b ≠ t := fun z => by subst z; rw [e] at k1; cases k1; omega
    exact ⟨b, tb, j0, r0, (qU_n ct).trans k1, k2, k3, k4⟩
  · obtain ⟨b, tb, k1, k2⟩ := i11 (by rw [← er 22 (by omega)]; exact z)
    have ct : b ≠ t := fun z => by subst z; rw [e] at k1; cases k1; omega
    exact ⟨b, tb, (qU_n ct).trans k1, k2⟩
  · rw [er 22 (by omega)]
    exact i12 (by rw [← er 14 (by omega)]; exact z1) (by rw [← er 15 (by omega)]; exact z2)
  · unfold lo
    rw [er 15 (by omega)]
    exact i13
/-- who has no children owns its interval -/
theorem own_i (I : Inv C M s w g Q E) (e : Q t = some th) (k : thK th = []) {f : Fm} (hf : f ∈ thF th) {x : Nat} (h1 : f.1 ≤ x + (zI f.2.2).1) (h2 : x < f.1 + (zI f.2.2).2) : g.1 x = t := by
  obtain ⟨W, j, z, r, -, -, -, -, h5, -, h7, -⟩ := I.2.1 t th e
  obtain ⟨a1, a2, a3, -⟩ := h5 f hf
  rcases h7 x (by omega) (by omega) with y | ⟨tx, y1, y2⟩
  · exact y
  · exact (no_d' I e k y1 y2).elim
/-- a child is another one -/
theorem kid_ne (I : Inv C M s w g Q E) (e : Q t = some th) {c : Nat} (hc : c ∈ thK th) : c ≠ t := by
  obtain ⟨W, j, z, r, -, -, -, -, -, -, -, h8, -⟩ := I.2.1 t th e
  intro z
  subst z
  obtain ⟨tc, k1, k2⟩ := h8.2.1 c hc
  rw [e] at k1
  cases k1
  have := congrArg List.length k2
  rw [List.length_cons] at this
  omega
/-- its header, where t alone changes -/
theorem pOK_q {F : List Fm} {W j j' : Nat} {z z' : Sg} (I : Inv C M s w g Q E) (e : Q t = some th) (h : pOK C M s g Q t th W j z) (n5 : thS th ≠ 5) (zi : zI z' = zI z) (zr : (zR z').1 = (zR z).1 ∧ ∀ p ∈ (zR z').2, p ∈ (zR z).2) (km : thK th ≠ [] → ∀ x, g.1 x = t → g.2.1 x = 4 → s'.2.1 x = s.2.1 x) (kg : thK th ≠ [] → ∀ x, g.1 x = t → g'.1 x = g.1 x ∧ g'.2.1 x = g.2.1 x) : pOK C M s' g' (qU Q t (F, th.2)) t (F, th.2) W j' z' := by
  obtain ⟨h1, h2, h3⟩ := h
  refine ⟨fun _ k => h1 n5 (by rw [← zr.1]; exact k), fun ne => ?_, fun k _ => ⟨⟨(h3 (zr.1 ▸ k) n5).1.1, zr.1.trans (h3 (zr.1 ▸ k) n5).1.2⟩, fun p hp => ?_⟩⟩
  · have ne : thK th ≠ [] := ne
    obtain ⟨a1, a2⟩ := h2 ne
    have b := hOK_mv a1.1 (fun x x1 x2 _ => km ne x x1 x2) (kg ne)
    refine ⟨⟨⟨b.1, b.2.1, b.2.2.1, b.2.2.2.1, b.2.2.2.2.1, fun y => (n5 y).elim, b.2.2.2.2.2.2⟩, by rw [zi]; exact a1.2⟩, fun _ => ?_⟩
    obtain ⟨c1, c, hc, tc, c2, c3⟩ := a2 n5
    refine ⟨fun c hc tc etc ep => ?_, c, hc, tc, (qU_n (kid_ne I e hc)).trans c2, c3⟩
    rw [qU_n (kid_ne I e hc)] at etc
    exact c1 c hc tc etc ep
  · obtain ⟨a1, c, hc, tc, zc, a2, a3⟩ := (h3 (zr.1 ▸ k) n5).2 p (zr.2 p hp)
    exact ⟨a1, c, hc, tc, zc, (qU_n (kid_ne I e hc)).trans a2, a3⟩
/-- it goes on in its frame; it writes data, or words of its own interval -/
theorem go_a {W j j' : Nat} {z z' : Sg} {r : List Fm} (I : Inv C M s w g Q E) (e : Q t = some th) (e0 : thS th = 0) (ef : thF th = (W, j, z) :: r)
    (er : ∀ i, i = 5 ∨ i = 12 ∨ i = 14 ∨ i = 15 ∨ (22 ≤ i ∧ i ≤ 27) → s'.1 i = s.1 i) (eq : s'.2.2 = s.2.2)
    (hm : ∀ x, s'.2.1 x ≠ s.2.1 x → g.2.1 x = 1 ∨ (thK th = [] ∧ W ≤ x + (zI z).1 ∧ x < W + (zI z).2) ∨ (g.2.1 x = 2 ∧ g.2.2.2 x = t ∧ ∀ b tb, b ≠ t → Q b = some tb → thS tb = 2 ∨ thS tb = 3 → thC tb ≠ x))
    (hg0 : ∀ x, g'.1 x = g.1 x)
    (hg : ∀ x, ¬ (thK th = [] ∧ W ≤ x + (zI z).1 ∧ x < W + (zI z).2 ∧ ¬ (W ≤ x + 3 ∧ x ≤ W)) → g'.2.1 x = g.2.1 x ∧ g'.2.2.1 x = g.2.2.1 x ∧ g'.2.2.2 x = g.2.2.2 x)
    (zi : zI z' = zI z) (zu : zU z' = zU z) (zw : zW z' = zW z) (zr : (zR z').1 = (zR z).1 ∧ ∀ p ∈ (zR z').2, p ∈ (zR z).2)
    (wkN : ∀ off, wk C.2 M g' Q (t :: thA th) t (thP th) (zG z') s'.2.1 W (zI z).2 off) (ijN : inj (zG z') s'.2.1 W (zW z))
    (psN : pos C j' (s'.1 11) (s'.1 13)) (rN : rOK C s'.2.1 (thP th) W z' (s'.1 8) (s'.1 9) (s'.1 10)) (aN : aOK C s' w g' (t :: thA th) t W z' (thP th) 0)
    (cN : ∀ c, g'.2.1 c = 2 → c < M ∧ (s'.2.1 c = -1 ∨ (s'.2.1 c = nI (2 * W + thP th) ∧ aEn s' W z' c) ∨ (g.2.1 c = 2 ∧ s'.2.1 c = s.2.1 c ∧ (s.2.1 c = nI (2 * W + thP th) → aEn s W z c → aEn s' W z' c)))) : Inv C M s' w g' (qU Q t ((W, j', z') :: r, th.2)) E := by
  obtain ⟨W0, j0, z0, r0, h1, h2, h3, h4, h5, h6, h7, h8, h9, h10, h11, h12, h13, h14⟩ := I.2.1 t th e
  rw [ef] at h1
  cases h1
  have hf0 := h5 (W, j, z) (by rw [ef]; exact List.mem_cons_self)
  have ow : ∀ x, thK th = [] → W ≤ x + (zI z).1 → x < W + (zI z).2 → g.1 x = t := fun x k a b => own_i I e k (f := (W, j, z)) (by rw [ef]; exact List.mem_cons_self) a b
  have n5 : thS th ≠ 5 := by omega
  have up := lnk_up (W, j, z) r (by rw [← ef]; exact h6)
  -- what lies above the interval stays
  have hiM : ∀ x, (W + (zI z).2 ≤ x ∨ x < 16) → g.2.1 x ≠ 1 → g.2.1 x ≠ 2 → s'.2.1 x = s.2.1 x := by
    intro x hx n1 n2
    by_cases c : s'.2.1 x = s.2.1 x
    · exact c
    · rcases hm x c with y | ⟨-, y1, y2⟩ | ⟨y, -⟩
      · exact (n1 y).elim
      · have := hf0.2.1
        rcases hx with hx | hx
        · omega
        · have := hf0.1
          simp only at *
          omega
      · exact (n2 y).elim
  have hiG : ∀ x, (W + (zI z).2 ≤ x ∨ x < 16) → g'.2.1 x = g.2.1 x ∧ g'.2.2.1 x = g.2.2.1 x ∧ g'.2.2.2 x = g.2.2.2 x := by
    intro x hx
    refine hg x ?_
    rintro ⟨-, y1, y2, -⟩
    have := hf0.2.1
    simp only at *
    omega
  have eA : thA (((W, j', z') :: r, th.2) : Th) = thA th := rfl
  have sb : stb (fun x => W + (zI z).2 ≤ x ∨ x < 16) s.2.1 s'.2.1 g g' Q (qU Q t ((W, j', z') :: r, th.2)) (t :: thA th) t :=
    ⟨fun x hx _ x3 => hiM x hx (by omega) (by omega), fun x hx _ => ⟨hg0 x, (hiG x hx).1⟩, fun x hx _ _ => by rw [(hiG x hx).2.1, (hiG x hx).2.2]; exact ⟨(bel_q e eA _ _).mpr, (bel_q e eA _ _).mpr⟩⟩
  refine go I e e0 (fun _ f r' hf => ?_) (fun i hi => er i (by omega)) eq (fun x hx => ?_) hg0 (fun x hx => hg x fun y => hx ⟨ow x y.1 y.2.1 y.2.2.1, y.1⟩) (fun b tb hb eb hs => ?_) (fun b tb W' j1 z1 r1 x hb eb hf nl hx x2 xt => ?_) ?_ (fun c hc => ?_) ?_
  · rw [ef] at hf
    cases hf
    exact ⟨(W, j', z'), r, rfl, rfl⟩
  · rcases hm x hx with y | ⟨y0, y1, y2⟩ | ⟨y, -⟩
    · exact Or.inl y
    · exact Or.inr (Or.inr ⟨ow x y0 y1 y2, Or.inr y0⟩)
    · exact Or.inr (Or.inl y)
  · have hx : g.2.1 (thC tb) = 2 ∧ g.1 (thC tb) ∈ b :: thA tb := by
      obtain ⟨W1, j1, z1, r1, -, -, -, -, -, -, -, -, k9, -⟩ := I.2.1 b tb eb
      unfold sOK at k9
      rcases hs with hs | hs
      · rw [hs] at k9; exact ⟨k9.2.2.2.2.2.1, k9.2.2.2.2.2.2.1⟩
      · rw [hs] at k9; exact ⟨k9.2.2.2.2.2.1, k9.2.2.2.2.2.2⟩
    by_cases c : s'.2.1 (thC tb) = s.2.1 (thC tb)
    · exact c
    · rcases hm _ c with y | ⟨y0, y1, y2⟩ | ⟨-, -, y⟩
      · omega
      · have := ow _ y0 y1 y2
        rw [this] at hx
        rcases List.mem_cons.mp hx.2 with q | q
        · exact (hb q.symm).elim
        · exact (no_d' I e y0 eb q).elim
      · exact (y b tb hb eb hs rfl).elim
  · have : s'.2.1 x = s.2.1 x := by
      by_cases c : s'.2.1 x = s.2.1 x
      · exact c
      · rcases hm _ c with y | ⟨y0, y1, y2⟩ | ⟨-, y, -⟩
        · omega
        · have := ow _ y0 y1 y2
          rw [this] at hx
          rcases List.mem_cons.mp hx with q | q
          · exact (hb q.symm).elim
          · exact (no_d' I e y0 eb q).elim
        · exact (hb (xt.symm.trans y)).elim
    unfold hasC
    rw [this]
    exact id
  · have bq := fun u b => bel_q (Q := Q) (t := t) (th' := ((W, j', z') :: r, th.2)) e eA u b
    have sb0 : stb (fun _ => True) s'.2.1 s'.2.1 g' g' Q (qU Q t ((W, j', z') :: r, th.2)) (t :: thA th) t := ⟨fun _ _ _ _ => rfl, fun _ _ _ => ⟨rfl, rfl⟩, fun _ _ _ _ => ⟨(bq _ _).mpr, (bq _ _).mpr⟩⟩
    refine ⟨W, j', z', r, rfl, h2, h3, h4, fun f hf => ?_, ?_, fun x x1 x2 => by rw [hg0 x]; exact (bq _ _).mpr (h7 x x1 x2), ?_, ?_, fun _ => ?_, fun hs => ?_, ?_, ?_, h14⟩
    · rcases List.mem_cons.mp hf with y | y
      · subst y
        obtain ⟨a1, a2, a3, a4, a5, a6⟩ := hf0
        unfold fOK
        show 3 ≤ (zI z').1 ∧ thL th + (zI z').1 ≤ W ∧ W + (zI z').2 ≤ thH th ∧ (∀ off, wk C.2 M g' (qU Q t ((W, j', z') :: r, th.2)) (t :: thA th) t (thP th) (zG z') s'.2.1 W (zI z').2 off) ∧ (∀ c, c < 14 → okH M g' (qU Q t ((W, j', z') :: r, th.2)) (t :: thA th) t (zW z' c) c) ∧ inj (zG z') s'.2.1 W (zW z')
        rw [zi, zw]
        exact ⟨a1, a2, a3, wk_mv wkN (fun _ _ => trivial) (fun _ _ => trivial) sb0, fun c hc => (a5 c hc).mv (P := fun x => W + (zI z).2 ≤ x ∨ x < 16) (Or.inr (by omega)) sb.2.1 sb.2.2, ijN⟩
      · obtain ⟨u1, u2⟩ := up f y
        have u1 : W + (zI z).2 + 4 ≤ f.1 := u1
        exact fOK_mv (h5 f (by rw [ef]; exact List.mem_cons_of_mem _ y)) rfl rfl (fun off ho => Or.inl (by have := u2 off ho; omega)) (fun a ha => by omega) sb
    · show lnk C s' g' t ((W, j', z') :: r)
      rw [ef] at h6
      have hl := lnk_mv (s' := s') (g' := g') (P := fun x => W + (zI z).2 ≤ x ∨ x < 16) (fun x hx _ x4 => hiM x hx (by omega) (by omega)) (fun x hx _ => ⟨hg0 x, (hiG x hx).1⟩) _ (fun f r' hf a ha => by cases hf; exact Or.inl ha) h6
      cases r with
      | nil => show (zU z').1 ≠ 1; rw [zu]; exact hl
      | cons f1 r =>
        obtain ⟨k1, k2, k3, k4⟩ := hl
        exact ⟨by show (zU z').1 = 1; rw [zu]; exact k1, by show (f1.1 : Int) = W + (zU z').2.1 + 4; rw [zu]; exact k2, by show W + (zI z').2 + 4 ≤ f1.1; rw [zi]; exact k3, k4⟩
    · have u0 : uOK (qU Q t ((W, j', z') :: r, th.2)) t th := by
        refine uOK_mv h8 (fun c hc tc etc => ⟨tc, (qU_n (kid_ne I e hc)).trans etc, rfl⟩) (fun u tu hu eu hbu => ?_)
        have : u ≠ t := fun y => h8.2.2.1 (y ▸ hu)
        exact ⟨tu, (qU_n this).trans eu, rfl, hbu, rfl, fun fu ru hf => ⟨fu, ru, hf, rfl⟩⟩
      obtain ⟨u1, u2, u3, f, u4, u5, u6⟩ := u0
      rw [ef] at u4
      cases r with
      | nil =>
        have u4 : (W, j, z) = f := Option.some.inj u4
        subst u4
        refine ⟨u1, u2, u3, (W, j', z'), rfl, u5, ?_⟩
        have ez : zU (W, j', z').2.2 = zU (W, j, z).2.2 := zu
        rw [ez]
        exact u6
      | cons f1 r =>
        exact ⟨u1, u2, u3, f, by show ((W, j', z') :: f1 :: r).getLast? = _; rw [List.getLast?_cons_cons]; rw [List.getLast?_cons_cons] at u4; exact u4, u5, u6⟩
    · have e0' : thS (((W, j', z') :: r, th.2) : Th) = 0 := e0
      unfold sOK at h9 ⊢
      rw [e0']
      rw [e0] at h9
      exact ⟨by rw [er 14 (by omega)]; exact h9.1, by rw [er 12 (by omega)]; exact h9.2.1, by rw [er 15 (by omega)]; exact h9.2.2.1, psN, rN⟩
    · show aOK C s' w g' (t :: thA th) t W z' (thP th) (thS th)
      rw [e0]; exact aN
    · have hs : thS th = 2 ∨ thS th = 3 ∨ thS th = 5 ∨ thS th = 8 := hs
      omega
    · refine pOK_q I e h12 n5 zi zr (fun ne x x1 x4 => ?_) (fun ne x _ => ⟨hg0 x, (hg x (fun y => ne y.1)).1⟩)
      by_cases c : s'.2.1 x = s.2.1 x
      · exact c
      · rcases hm x c with y | ⟨y, -⟩ | ⟨y, -⟩
        · omega
        · exact (ne y).elim
        · omega
    · refine ctl_mv h13 (fun k hk _ => ⟨hg0 _, (hg _ fun y => y.2.2.2 ⟨by omega, by omega⟩).1⟩)
  · obtain ⟨c1, c2⟩ := cN c hc
    refine ⟨c1, ?_⟩
    rcases c2 with y | ⟨y1, y2⟩ | ⟨y1, y2, y3⟩
    · exact Or.inl y
    · exact Or.inr (Or.inl ⟨W, j', z', r, rfl, y1, Or.inr (Or.inr ⟨Or.inl e0, y2⟩)⟩)
    · refine Or.inr (Or.inr ⟨y1, y2, ?_⟩)
      rintro ⟨W1, j1, z1, r1, d1, d2, d3⟩
      rw [ef] at d1
      cases d1
      refine ⟨W, j', z', r, rfl, y2.trans d2, ?_⟩
      rcases d3 with ⟨d, -⟩ | ⟨d, -⟩ | ⟨d, d'⟩
      · omega
      · omega
      · exact Or.inr (Or.inr ⟨d, y3 d2 d'⟩)
  · refine wsO_q e I.2.2.2.2 (fun c hc => ?_) (fun c => Iff.rfl) (fun h _ => by have h : thS th = 2 := h; omega)
    exact (hiG c (Or.inr (by omega))).2
/-- the same, where no channel changes -/
theorem go_f {W j j' : Nat} {z z' : Sg} {r : List Fm} (I : Inv C M s w g Q E) (e : Q t = some th) (e0 : thS th = 0) (ef : thF th = (W, j, z) :: r)
    (er : ∀ i, i = 5 ∨ i = 12 ∨ i = 14 ∨ i = 15 ∨ (22 ≤ i ∧ i ≤ 27) → s'.1 i = s.1 i) (eq : s'.2.2 = s.2.2)
    (hm : ∀ x, s'.2.1 x ≠ s.2.1 x → g.2.1 x = 1 ∨ (thK th = [] ∧ W ≤ x + (zI z).1 ∧ x < W + (zI z).2))
    (hg0 : ∀ x, g'.1 x = g.1 x)
    (hg : ∀ x, ¬ (thK th = [] ∧ W ≤ x + (zI z).1 ∧ x < W + (zI z).2 ∧ ¬ (W ≤ x + 3 ∧ x ≤ W)) → g'.2.1 x = g.2.1 x ∧ g'.2.2.1 x = g.2.2.1 x ∧ g'.2.2.2 x = g.2.2.2 x)
    (zi : zI z' = zI z) (zu : zU z' = zU z) (zw : zW z' = zW z) (zr : zR z' = zR z)
    (wkN : ∀ off, wk C.2 M g' Q (t :: thA th) t (thP th) (zG z') s'.2.1 W (zI z).2 off) (ijN : inj (zG z') s'.2.1 W (zW z))
    (psN : pos C j' (s'.1 11) (s'.1 13)) (rN : rOK C s'.2.1 (thP th) W z' (s'.1 8) (s'.1 9) (s'.1 10)) (aN : aOK C s' w g' (t :: thA th) t W z' (thP th) 0)
    (cN : ∀ c, g'.2.1 c = 2 → c < M ∧ (s'.2.1 c = -1 ∨ (g.2.1 c = 2 ∧ s'.2.1 c = s.2.1 c ∧ (aEn s W z c → aEn s' W z' c)))) : Inv C M s' w g' (qU Q t ((W, j', z') :: r, th.2)) E :=
  go_a I e e0 ef er eq (fun x hx => (hm x hx).imp_right Or.inl) hg0 hg zi zu zw ⟨by rw [zr], fun p hp => by rw [zr] at hp; exact hp⟩ wkN ijN psN rN aN (fun c hc => ⟨(cN c hc).1, (cN c hc).2.imp_right fun y => Or.inr ⟨y.1, y.2.1, fun _ => y.2.2⟩⟩)
end
