/-! (S): addresses of channels; one waits, one is woken -/
section
variable {C : Cx} {M : Nat} {E : En} {s s' : Cr} {w w' : Wd} {g : Gh} {Q : Thr} {t b : Nat} {th tb : Th}
/-- an address of a channel with the right m -/
def chA (G : Int → Kd) (wr : Nat → Nat) (m : Nat) (k : Kd) : Prop :=
  (k.1 = 2 ∧ (G k.2.2).1 = 2 ∧ (G k.2.2).2.1 &&& m ≠ 0) ∨ (k.1 = 4 ∧ ∀ i : Nat, i < k.2.1 → (G (k.2.2 + i)).1 = 2 ∧ (G (k.2.2 + i)).2.1 &&& m ≠ 0) ∨ (k.1 = 5 ∧ (G k.2.2).1 = 22 ∧ (G k.2.2).2.1 &&& m ≠ 0) ∨ (k.1 = 1 ∧ ∃ c : Nat, c < 14 ∧ k.2.2 = c ∧ wr c &&& m ≠ 0)
theorem chA_ok {A : List Nat} {pri W m : Nat} {z : Sg} {k : Kd} {v : Int32} (hE : fE C M s g Q A t pri W z) (d : chA (zG z) (zW z) m k) (h : rk C.2 (zG z) s.2.1 pri W k v) : ∃ a : Nat, v = nI a ∧ a < M ∧ g.2.1 a = 2 ∧ g.1 a ∈ A ∧ (m = 4 → bel Q t (g.2.2.1 a)) ∧ (m = 8 → bel Q t (g.2.2.2 a)) := by
  have hM := hE.1.2
  have wk0 := hE.2.2.2.2.2.2.2.2.1
  have fin : ∀ (a n : Nat), v.toInt = a → n &&& m ≠ 0 → okH M g Q A t n a → ∃ a : Nat, v = nI a ∧ a < M ∧ g.2.1 a = 2 ∧ g.1 a ∈ A ∧ (m = 4 → bel Q t (g.2.2.1 a)) ∧ (m = 8 → bel Q t (g.2.2.2 a)) := fun a n h1 hn h2 => ⟨a, Int32.toInt_inj.mp (by rw [h1, nI_toInt (by have := h2.1; omega)]), h2.1, h2.2.1, h2.2.2.1, fun y => h2.2.2.2.1 (y ▸ hn), fun y => h2.2.2.2.2 (y ▸ hn)⟩
  obtain ⟨k1, k2, k3⟩ := k
  rcases d with ⟨rfl, d, d2⟩ | ⟨rfl, d⟩ | ⟨rfl, d, d2⟩ | ⟨rfl, c, d, d2, d3⟩
  · obtain ⟨a, a1, -, a2⟩ := wk_2 (wk0 _) d
    exact fin a _ (by rw [← a1]; exact h) d2 a2
  · obtain ⟨i, h1, h2⟩ := h
    obtain ⟨a, a1, -, a2⟩ := wk_2 (wk0 _) (d i h1).1
    exact fin a _ (by rw [h2, ← a1]; show (W : Int) + k3 + i = W + (k3 + i); omega) (d i h1).2 a2
  · obtain ⟨-, -, -, -, -, -, -, h2⟩ := wk_h (wk0 k3) h.1
    obtain ⟨a, a1, a2, a3⟩ := h2 d
    have hv : v = nI a := h.2.trans a1
    exact fin a _ (by rw [hv, nI_toInt (by have := a3.1; omega)]) d2 a3
  · have h : v.toInt = k3 := h
    have d2 : k3 = c := d2
    exact fin c _ (by rw [h, d2]) d3 (hE.2.2.2.2.2.2.2.2.2.1 c d)
theorem bel_1 (I : Inv C M s w g Q E) (e : Q t = some th) (k : thK th = []) {x : Nat} (h : bel Q t x) : x = t := by
  rcases h with h | ⟨tx, h1, h2⟩
  · exact h
  · exact (no_d' I e k h1 h2).elim
theorem t_lt (I : Inv C M s w g Q E) (e : Q t = some th) : t ≤ M := by
  obtain ⟨W0, j0, z0, r0, a1, a2, a3, a4, a5, a6, a7, a8, -⟩ := I.2.1 t th e
  obtain ⟨-, -, -, f, u1, u2, -⟩ := a8
  have := a5 f (List.mem_of_getLast? u1)
  have := this.2.2.1
  omega
theorem t_5 (I : Inv C M s w g Q E) (e : Q t = some th) : t ≠ 5000 := by
  have := t_lt I e
  have := I.1.2
  omega
/-- who waits at c has the right -/
theorem w2_tk (I : Inv C M s w g Q E) (e : Q t = some th) (h : thS th = 2) : g.2.2.2 (thC th) = t ∧ g.2.1 (thC th) = 2 := by
  obtain ⟨W0, j0, z0, r0, a1, a2, a3, a4, a5, a6, a7, a8, a9, -⟩ := I.2.1 t th e
  unfold sOK at a9
  rw [h] at a9
  exact ⟨a9.2.2.2.2.1, a9.2.2.2.2.2.1⟩
theorem w3_sd (I : Inv C M s w g Q E) (e : Q t = some th) (h : thS th = 3) : g.2.2.1 (thC th) = t ∧ g.2.1 (thC th) = 2 := by
  obtain ⟨W0, j0, z0, r0, a1, a2, a3, a4, a5, a6, a7, a8, a9, -⟩ := I.2.1 t th e
  unfold sOK at a9
  rw [h] at a9
  exact ⟨a9.2.2.2.2.1, a9.2.2.2.2.2.1⟩
theorem aE_ne {W c : Nat} {z : Sg} (h : aEn s W z c) : (zL z).2.1 ≠ [] := by
  obtain ⟨i, n, -, -, b3, -⟩ := h
  intro y
  rw [y] at b3
  exact nomatch b3
theorem aE_tk {W j c : Nat} {z : Sg} {r : List Fm} (I : Inv C M s w g Q E) (e : Q t = some th) (ef : thF th = (W, j, z) :: r) (hs : thS th = 0 ∨ thS th = 1 ∨ thS th = 4 ∨ thS th = 7) (h : aEn s W z c) : g.2.2.2 c = t := by
  obtain ⟨W0, j0, z0, r0, a1, a2, a3, a4, a5, a6, a7, a8, a9, a10, -⟩ := I.2.1 t th e
  rw [ef] at a1
  cases a1
  have := (a10 hs (aE_ne h)).1
  obtain ⟨i, n, -, -, b3, b4, b5⟩ := h
  rw [← b5]
  exact ((this i true n b3).2 rfl).2.2.2.1
/-- no wire goes both ways -/
def oneW (E : En) : Prop := (∀ c, c < 12 → ¬ (E.1 c ∧ E.2 c)) ∧ ¬ E.2 12 ∧ ¬ E.1 13
theorem en_S (I : Inv C M s w g Q E) {c : Nat} (hc : c < 14) (e : Q t = some th) (h : g.2.2.1 c = t) : E.1 c := Classical.byContradiction fun y => by
  have := (I.2.2.2.2.1 c hc).1 y
  exact t_5 I e (h.symm.trans this)
theorem en_T (I : Inv C M s w g Q E) {c : Nat} (hc : c < 14) (e : Q t = some th) (h : g.2.2.2 c = t) : E.2 c := Classical.byContradiction fun y => by
  have := (I.2.2.2.2.1 c hc).2 y
  exact t_5 I e (h.symm.trans this)
theorem no_st (o : oneW E) (I : Inv C M s w g Q E) {c : Nat} (hc : c < 14) (e : Q t = some th) (eb : Q b = some tb) (h : g.2.2.1 c = t) (h' : g.2.2.2 c = b) : False := by
  have a := en_S I hc e h
  have a' := en_T I hc eb h'
  by_cases c1 : c < 12
  · exact o.1 c c1 ⟨a, a'⟩
  · by_cases c2 : c = 12
    · subst c2; exact o.2.1 a'
    · have : c = 13 := by omega
      subst this
      exact o.2.2 a
/-- what its taker finds at a channel -/
theorem tk_w {W j c : Nat} {z : Sg} {r : List Fm} (o : oneW E) (I : Inv C M s w g Q E) (e : Q t = some th) (e0 : thS th = 0) (ef : thF th = (W, j, z) :: r) (nl : (zL z).2.1 = []) (c2 : g.2.1 c = 2) (tk : g.2.2.2 c = t) : c ≠ 12 ∧ (s.2.1 c = -1 ∨ (14 ≤ c ∧ ∃ b tb Wb jb zb rb, Q b = some tb ∧ b ≠ t ∧ thS tb = 3 ∧ thC tb = c ∧ thF tb = (Wb, jb, zb) :: rb ∧ s.2.1 c = nI (2 * Wb + thP tb))) := by
  refine ⟨fun y => ?_, ?_⟩
  · subst y
    exact o.2.1 (en_T I (by omega) e tk)
  · rcases (I.2.2.1 c c2).2 with y | ⟨b, tb, eb, Wb, jb, zb, rb, d1, d2, d3⟩
    · exact Or.inl y
    · refine Or.inr ?_
      rcases d3 with ⟨d, d'⟩ | ⟨d, d'⟩ | ⟨d, d'⟩
      · have := (w2_tk I eb d).1
        rw [d', tk] at this
        subst this
        rw [e] at eb
        cases eb
        omega
      · have sd := (w3_sd I eb d).1
        rw [d'] at sd
        refine ⟨Classical.byContradiction fun y => no_st o I (by omega) eb e sd tk, b, tb, Wb, jb, zb, rb, eb, fun y => ?_, d, d', d1, d2⟩
        subst y
        rw [e] at eb
        cases eb
        omega
      · have := aE_tk I eb d1 d d'
        rw [tk] at this
        subst this
        rw [e] at eb
        cases eb
        rw [ef] at d1
        cases d1
        exact (aE_ne d' nl).elim
/-- what its sender finds at a channel -/
theorem sd_w {W j c : Nat} {z : Sg} {r : List Fm} (o : oneW E) (I : Inv C M s w g Q E) (e : Q t = some th) (e0 : thS th = 0) (ef : thF th = (W, j, z) :: r) (nl : (zL z).2.1 = []) (c2 : g.2.1 c = 2) (sd : g.2.2.1 c = t) : c ≠ 13 ∧ (s.2.1 c = -1 ∨ (14 ≤ c ∧ ∃ b tb Wb jb zb rb, Q b = some tb ∧ b ≠ t ∧ thF tb = (Wb, jb, zb) :: rb ∧ s.2.1 c = nI (2 * Wb + thP tb) ∧ ((thS tb = 2 ∧ thC tb = c) ∨ ((thS tb = 0 ∨ thS tb = 1 ∨ thS tb = 4 ∨ thS tb = 7) ∧ aEn s Wb zb c)))) := by
  refine ⟨fun y => ?_, ?_⟩
  · subst y
    exact o.2.2 (en_S I (by omega) e sd)
  · rcases (I.2.2.1 c c2).2 with y | ⟨b, tb, eb, Wb, jb, zb, rb, d1, d2, d3⟩
    · exact Or.inl y
    · refine Or.inr ?_
      rcases d3 with ⟨d, d'⟩ | ⟨d, d'⟩ | ⟨d, d'⟩
      · have tk := (w2_tk I eb d).1
        rw [d'] at tk
        refine ⟨Classical.byContradiction fun y => no_st o I (by omega) e eb sd tk, b, tb, Wb, jb, zb, rb, eb, fun y => ?_, d1, d2, Or.inl ⟨d, d'⟩⟩
        subst y
        rw [e] at eb
        cases eb
        omega
      · have := (w3_sd I eb d).1
        rw [d', sd] at this
        subst this
        rw [e] at eb
        cases eb
        omega
      · have tk := aE_tk I eb d1 d d'
        refine ⟨Classical.byContradiction fun y => no_st o I (by omega) e eb sd tk, b, tb, Wb, jb, zb, rb, eb, fun y => ?_, d1, d2, Or.inr ⟨d, d'⟩⟩
        subst y
        rw [e] at eb
        cases eb
        rw [ef] at d1
        cases d1
        exact (aE_ne d' nl).elim
/-- the world changes -/
theorem w_ch (I : Inv C M s w g Q E) (hh : ∀ b tb W j z r x, Q b = some tb → thF tb = (W, j, z) :: r → (zL z).2.1 ≠ [] → g.1 x ∈ b :: thA tb → g.2.1 x = 2 → g.2.2.2 x = b → hasC s w x (nI (2 * W + thP tb)) → hasC s w' x (nI (2 * W + thP tb))) (hw : wsO w' g Q E) : Inv C M s w' g Q E := by
  refine ⟨I.1, fun b tb hb => keep (I.2.1 b tb hb) (fun _ _ _ => rfl) (fun _ _ _ => rfl) (fun _ _ => ⟨rfl, rfl⟩) (fun _ _ _ => ⟨id, id⟩) (fun _ _ _ => ⟨fun y _ => y, fun y _ => y⟩) (fun _ _ _ y => y) (fun _ _ _ _ => rfl) (fun _ _ _ => ⟨id, id⟩) (fun _ => rfl) (fun _ => ⟨fun _ _ _ => rfl, rfl⟩) (fun W j z r x hf nl hx x1 x2 => hh b tb W j z r x hb hf nl hx x1 x2) (fun c _ tc etc => ⟨tc, etc, rfl, rfl, fun _ _ y => y, fun _ _ _ _ _ _ _ _ _ _ _ => rfl⟩) (fun u tu _ eu hbu => ⟨tu, eu, rfl, hbu, rfl, fun fu ru hf => ⟨fu, ru, hf, rfl⟩⟩), I.2.2.1, I.2.2.2.1, hw⟩
theorem nI_m1 {n : Nat} (h : n < 2 ^ 31) : nI n ≠ -1 := fun y => by
  have y := congrArg Int32.toInt y
  rw [nI_toInt h, show ((-1 : Int32)).toInt = -1 from rfl] at y
  omega
theorem ds_ne {W W' p p' : Nat} (h : W ≠ W') (hp : p ≤ 1) (hp' : p' ≤ 1) (hW : W < 5000) (hW' : W' < 5000) : nI (2 * W + p) ≠ nI (2 * W' + p') := fun y => by
  have y := congrArg Int32.toInt y
  rw [nI_toInt (by omega), nI_toInt (by omega)] at y
  omega
/-- what a world tells of things to take -/
def wSm (w w' : Wd) : Prop := (∀ c, w'.2.1 c 4 = w.2.1 c 4) ∧ w'.1 1 = w.1 1 ∧ w'.1 2 = w.1 2
/-- it waits at c -/
theorem wt_iv {st W j c : Nat} {z : Sg} {r : List Fm} {v : Int32} (I : Inv C M s w g Q E) (e : Q t = some th) (e0 : thS th = 0) (ef : thF th = (W, j, z) :: r) (hst : st = 2 ∨ st = 3) (ra : rAny z) (nl : (zL z).2.1 = []) (k : thK th = []) (h11 : s.1 11 = nI (C.2 j))
    (c2 : g.2.1 c = 2) (ow : g.1 c ∈ t :: thA th) (h2 : st = 2 → g.2.2.2 c = t ∧ ∃ a, v = nI a ∧ okD M g (t :: thA th) a) (h3 : st = 3 → g.2.2.1 c = t)
    (no : ∀ b tb, b ≠ t → Q b = some tb → thS tb = 2 ∨ thS tb = 3 → thC tb ≠ c) (sm : wSm w w') (hw : wsO w' g (qU Q t (thN th st c)) E)
    (er : ∀ i, i ≠ 14 → s'.1 i = s.1 i) (e14 : s'.1 14 = 0) (eq : s'.2.2 = s.2.2) (mm : ∀ x, x ≠ c → ¬ (W ≤ x + 3 ∧ x < W) → s'.2.1 x = s.2.1 x) (m1 : s'.2.1 (W - 1) = s.1 11) (m2 : s'.2.1 (W - 2) = v) (m3 : s'.2.1 (W - 3) = 0) (mc : s'.2.1 c = nI (2 * W + thP th)) : Inv C M s' w' g (qU Q t (thN th st c)) E := by
  obtain ⟨hW, hWM, p1, ct⟩ := W_M I e ef
  have hM := I.1.2
  have in4 : ∀ x, W ≤ x + 3 → x < W → g.2.1 x = 4 ∧ g.1 x = t := fun x h1 h2 => by
    have := ct (W - x) (by omega)
    rwa [show W - (W - x) = x by omega] at this
  have n3 : ∀ x, g.2.1 x ≠ 4 → x ≠ c → s'.2.1 x = s.2.1 x := fun x h1 h2 => mm x h2 fun y => h1 (in4 x y.1 y.2).1
  obtain ⟨l2, l3, l4, l5, l6, l7, l8, l13, l14⟩ := fr_N (st := st) (c := c) (s' := s') I e ef (fun x _ h => n3 x (by omega) (fun y => by rw [y] at h; omega)) (fun x _ h4 h => mm x (fun y => by rw [y] at h4; omega) h)
  have nd : ∀ c', ¬ dsC s th c' := by
    rintro c' ⟨W1, j1, z1, r1, d1, d2, d3⟩
    rw [ef] at d1
    cases d1
    rcases d3 with ⟨d, -⟩ | ⟨d, -⟩ | ⟨-, d⟩
    · omega
    · omega
    · exact aE_ne d nl
  refine halt I e e0 rfl rfl (by show st = 2 ∨ st = 3 ∨ _; omega) (fun ne => (ne k).elim) (fun i hi => er i (by omega)) e14 eq (fun x hx => ?_) (fun b tb hb eb hs => ?_) (fun b tb Wb jb zb rb x hb eb hf _ _ x2 _ => ?_) ⟨W, j, z, r, ef, l2, l3, l4, l5, l6, l7, l8, ?_, fun h => ?_, fun _ => nl, ⟨fun _ _ => k, fun ne => (ne k).elim, fun z1 _ => ?_⟩, l13, l14⟩ (fun c' hc' => ?_) hw
  · by_cases c1 : x = c
    · subst c1; exact Or.inr (Or.inl c2)
    · by_cases c3 : W ≤ x + 3 ∧ x < W
      · have := in4 x c3.1 c3.2
        exact Or.inr (Or.inr ⟨this.2, Or.inl this.1⟩)
      · exact (hx (mm x c1 c3)).elim
  · refine n3 _ ?_ (no b tb hb eb hs)
    rcases hs with hs | hs
    · have := (w2_tk I eb hs).2; omega
    · have := (w3_sd I eb hs).2; omega
  · unfold hasC
    obtain ⟨s1, s2, s3⟩ := sm
    rw [s1, s2, s3]
    by_cases c1 : x = c
    · subst c1
      obtain ⟨hWb, hWbM, pb, -⟩ := W_M I eb hf
      have ne : Wb ≠ W := W_ne I e eb ef hf hb
      split
      · exact id
      · split
        · exact id
        · intro _
          rw [mc]
          exact ⟨nI_m1 (by omega), ds_ne (fun y => ne y.symm) p1 pb (by omega) (by omega)⟩
    · rw [n3 x (by omega) c1]
      exact id
  · have eS : thS (thN th st c) = st := rfl
    have eC : thC (thN th st c) = c := rfl
    have eP : thP (thN th st c) = thP th := rfl
    have eA : thA (thN th st c) = thA th := rfl
    unfold sOK
    rw [eS, eC, eP, eA, mc, m1, m2, m3, h11]
    rcases hst with rfl | rfl
    · obtain ⟨y1, a, y2, y3⟩ := h2 rfl
      exact ⟨rfl, rfl, ra, rfl, y1, c2, ow, a, y2, y3⟩
    · exact ⟨rfl, rfl, ra, rfl, h3 rfl, c2, ow⟩
  · have h : st = 0 ∨ st = 1 ∨ st = 4 ∨ st = 7 := h
    omega
  · obtain ⟨W0, j0, z0, r0, a1, a2, a3, a4, a5, a6, a7, a8, a9, a10, a11, a12, -⟩ := I.2.1 t th e
    rw [ef] at a1
    cases a1
    exact ((a12.2.2 z1 (by omega)).1.1 k).elim
  · by_cases c1 : c' = c
    · subst c1
      refine Or.inr (Or.inl ⟨W, j, z, r, ef, mc, ?_⟩)
      rcases hst with rfl | rfl
      · exact Or.inl ⟨rfl, rfl⟩
      · exact Or.inr (Or.inl ⟨rfl, rfl⟩)
    · exact Or.inr (Or.inr ⟨n3 c' (by omega) c1, fun y => (nd c' y).elim⟩)
theorem wt_go {st W j c : Nat} {z : Sg} {r : List Fm} {v : Int32} (I : Inv C M s w g Q E) (e : Q t = some th) (e0 : thS th = 0) (ef : thF th = (W, j, z) :: r) (hst : st = 2 ∨ st = 3) (ra : rAny z) (nl : (zL z).2.1 = []) (k : thK th = []) (h11 : s.1 11 = nI (C.2 j))
    (c2 : g.2.1 c = 2) (ow : g.1 c ∈ t :: thA th) (h2 : st = 2 → g.2.2.2 c = t ∧ ∃ a, v = nI a ∧ okD M g (t :: thA th) a) (h3 : st = 3 → g.2.2.1 c = t)
    (no : ∀ b tb, b ≠ t → Q b = some tb → thS tb = 2 ∨ thS tb = 3 → thC tb ≠ c) (sm : wSm w w') (hw : wsO w' g (qU Q t (thN th st c)) E) : ∃ s', cWait s c v = some s' ∧ Inv C M s' w' g (qU Q t (thN th st c)) E ∧ s'.1 5 = s.1 5 ∧ s'.2.2 = s.2.2 ∧ s'.2.1 c = nI (2 * W + thP th) ∧ (∀ x, x ≠ c → ¬ (W ≤ x + 3 ∧ x < W) → s'.2.1 x = s.2.1 x) := by
  obtain ⟨hW, hWM, p1, ct⟩ := W_M I e ef
  obtain ⟨q14, q12, q15, qp, qr⟩ := run_0 I e e0 ef
  have cW : ¬ (W - 3 ≤ c ∧ c < W) := fun y => by
    have := (ct (W - c) (by omega)).1
    rw [show W - (W - c) = c by omega] at this
    omega
  have wo := wt_ok (s := s) (c := c) (v := v) (M := M) (W := W) I.1 q12 (by omega) (by omega) cW
  rw [sf_ok q12 q15] at wo
  have mm : ∀ x, x ≠ c → ¬ (W ≤ x + 3 ∧ x < W) → (sR (sM (sM (sM (sM s c (nI (2 * W + thP th))) (W - 2) v) (W - 3) 0) (W - 1) (s.1 11)) 14 0).2.1 x = s.2.1 x := by
    intro x h1 h2
    show (if x = W - 1 then _ else if x = W - 3 then _ else if x = W - 2 then _ else if x = c then _ else s.2.1 x) = _
    rw [if_neg (by omega), if_neg (by omega), if_neg (by omega), if_neg h1]
  have mc : (sR (sM (sM (sM (sM s c (nI (2 * W + thP th))) (W - 2) v) (W - 3) 0) (W - 1) (s.1 11)) 14 0).2.1 c = nI (2 * W + thP th) := by
    show (if c = W - 1 then _ else if c = W - 3 then _ else if c = W - 2 then _ else if c = c then _ else _) = _
    rw [if_neg (by omega), if_neg (by omega), if_neg (by omega), if_pos rfl]
  refine ⟨_, wo, wt_iv I e e0 ef hst ra nl k h11 c2 ow h2 h3 no sm hw (fun i hi => if_neg hi) rfl rfl mm (if_pos rfl) ?_ ?_ mc, rfl, rfl, mc, mm⟩
  · show (if W - 2 = W - 1 then _ else if W - 2 = W - 3 then _ else if W - 2 = W - 2 then _ else _) = _
    rw [if_neg (by omega), if_neg (by omega), if_pos rfl]
  · show (if W - 3 = W - 1 then _ else if W - 3 = W - 3 then _ else _) = _
    rw [if_neg (by omega), if_pos rfl]
/-- wires, where t alone changes -/
theorem wsO_r {th' : Th} (e : Q t = some th) (h : wsO w g Q E) (h3 : ∀ c, c < 12 → (thS th' = 3 ∧ thC th' = c ↔ thS th = 3 ∧ thC th = c)) (h2 : thS th' = 2 → thC th' = 13 → w.1 1 ≤ w.1 2) : wsO w g (qU Q t th') E := by
  obtain ⟨a, b, bk⟩ := h
  refine ⟨a, ?_, ?_⟩
  · intro c hc ec
    obtain ⟨b1, b2⟩ := b c hc ec
    refine ⟨fun z => ?_, fun z => ?_⟩
    · obtain ⟨k1, k2, k3⟩ := b1 z
      refine ⟨k1, k2, fun x tx ex x3 xc => ?_⟩
      by_cases cx : x = t
      · subst cx
        rw [qU_t] at ex
        cases ex
        have := (h3 c hc).mp ⟨x3, xc⟩
        exact k3 x th e this.1 this.2
      · rw [qU_n cx] at ex
        exact k3 x tx ex x3 xc
    · obtain ⟨x, tx, k1, k2, k3⟩ := b2 z
      by_cases cx : x = t
      · subst cx
        rw [e] at k1
        cases k1
        have := (h3 c hc).mpr ⟨k2, k3⟩
        exact ⟨x, th', qU_t, this.1, this.2⟩
      · exact ⟨x, tx, (qU_n cx).trans k1, k2, k3⟩
  · intro x tx ex x2 x13
    by_cases cx : x = t
    · subst cx
      rw [qU_t] at ex
      cases ex
      exact h2 x2 x13
    · rw [qU_n cx] at ex
      exact bk x tx ex x2 x13
/-- who waits at c is woken -/
theorem wk_go {W j c : Nat} {z : Sg} {r : List Fm} (I : Inv C M s w g Q E) (e : Q t = some th) (st : thS th = 2 ∨ thS th = 3) (ef : thF th = (W, j, z) :: r) (ec : thC th = c) (er : ∀ i, s'.1 i = s.1 i) (eq : s'.2.2 = rAp s (thP th) W) (mc : s'.2.1 c = -1) (hm : ∀ x, s'.2.1 x ≠ s.2.1 x → g.2.1 x = 1 ∨ x = c)
    (no : ∀ b tb, b ≠ t → Q b = some tb → thS tb = 2 ∨ thS tb = 3 → thC tb ≠ c) (sm : wSm w w') (hh : 12 ≤ c → c ≠ 13 → ∀ b tb Wb jb zb rb, b ≠ t → Q b = some tb → thF tb = (Wb, jb, zb) :: rb → (zL zb).2.1 ≠ [] → g.2.2.2 c ≠ b) (hw : wsO w' g (qU Q t (thN th 1 0)) E) : Inv C M s' w' g (qU Q t (thN th 1 0)) E := by
  obtain ⟨hW, hWM, p1, ct⟩ := W_M I e ef
  have c2 : g.2.1 c = 2 := by
    rw [← ec]
    rcases st with h | h
    · exact (w2_tk I e h).2
    · exact (w3_sd I e h).2
  have n3 : ∀ x, g.2.1 x ≠ 1 → x ≠ c → s'.2.1 x = s.2.1 x := fun x h1 h2 => Classical.byContradiction fun y => by
    rcases hm x y with k | k
    · exact h1 k
    · exact h2 k
  have n4 : ∀ x, g.2.1 x = 4 → s'.2.1 x = s.2.1 x := fun x h => n3 x (by omega) (fun y => by rw [y] at h; omega)
  obtain ⟨l2, l3, l4, l5, l6, l7, l8, l13, l14⟩ := fr_N (st := 1) (c := 0) (s' := s') I e ef (fun x _ h => n3 x (by omega) (fun y => by rw [y] at h; omega)) (fun x _ h4 h => n4 x h4)
  obtain ⟨W0, j0, z0, r0, a1, a2, a3, a4, a5, a6, a7, a8, a9, a10, a11, a12, a13, a14⟩ := I.2.1 t th e
  rw [ef] at a1
  cases a1
  have nl := a11 (by omega)
  have kk : thK th = [] := Classical.byContradiction fun y => by
    have := (a12.2.1 y).1.1.2.2.2.2.2.2
    omega
  have q : s.2.1 (W - 1) = nI (C.2 j) ∧ rAny z := by
    unfold sOK at a9
    rcases st with h | h
    · rw [h] at a9; exact ⟨a9.2.1, a9.2.2.1⟩
    · rw [h] at a9; exact ⟨a9.2.1, a9.2.2.1⟩
  refine wake (th' := thN th 1 0) I e (by omega) rfl rfl rfl ef (j' := (j, z)) ef er eq (fun x hx => ?_) (fun b tb hb eb hs => ?_) (fun b tb Wb jb zb rb x hb eb hf ne _ x2 xt => ?_) (fun h8 => by omega) ⟨W, j, z, r, ef, l2, l3, l4, l5, l6, l7, l8, ⟨?_, ?_, q.2⟩, fun _ ne => (ne nl).elim, fun h => ?_, ⟨fun _ _ => kk, fun ne => (ne kk).elim, fun z1 _ => ?_⟩, l13, l14⟩ (fun c' hc' => ?_) hw
  · rcases hm x hx with y | y
    · exact Or.inl y
    · subst y; exact Or.inr (Or.inl c2)
  · refine n3 _ ?_ (no b tb hb eb hs)
    rcases hs with hs | hs
    · have := (w2_tk I eb hs).2; omega
    · have := (w3_sd I eb hs).2; omega
  · unfold hasC
    obtain ⟨s1, s2, s3⟩ := sm
    rw [s1, s2, s3]
    by_cases c1 : x = c
    · subst c1
      split
      · exact id
      · split
        · exact id
        · intro _
          rename_i y1 y2 y3
          exact (hh (by omega) y1 b tb Wb jb zb rb hb eb hf ne xt).elim
    · rw [n3 x (by omega) c1]
      exact id
  · show if thP th = 0 then W ∈ s'.2.2.1 else W ∈ s'.2.2.2
    rw [eq]
    unfold rAp
    split
    · exact List.mem_append_right _ List.mem_cons_self
    · exact List.mem_append_right _ List.mem_cons_self
  · rw [n4 _ (ct 1 (by omega)).1]; exact q.1
  · exact absurd (show (1 : Nat) = 2 ∨ (1 : Nat) = 3 ∨ (1 : Nat) = 5 ∨ (1 : Nat) = 8 from h) (by decide)
  · exact ((a12.2.2 z1 (by omega)).1.1 kk).elim
  · by_cases c1 : c' = c
    · subst c1; exact Or.inl mc
    · refine Or.inr (Or.inr ⟨n3 c' (by omega) c1, ?_⟩)
      rintro ⟨W1, j1, z1, r1, d1, d2, d3⟩
      rcases d3 with ⟨-, d⟩ | ⟨-, d⟩ | ⟨d, -⟩
      · exact (c1 (d.symm.trans ec)).elim
      · exact (c1 (d.symm.trans ec)).elim
      · omega
end
