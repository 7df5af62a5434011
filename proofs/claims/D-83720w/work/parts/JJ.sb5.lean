/-! (S): the process that runs stops to run -/
section
variable {C : Cx} {M : Nat} {E : En} {s s' : Cr} {w w' : Wd} {g g' : Gh} {Q : Thr} {t : Nat} {th th' : Th}
/-- it waits, is stopped or gone -/
theorem halt (I : Inv C M s w g Q E) (e : Q t = some th) (e0 : thS th = 0) (q1 : th'.2.2 = th.2.2) (q2 : thP th' = thP th) (ns : thS th' = 2 ∨ thS th' = 3 ∨ thS th' = 4 ∨ thS th' = 5 ∨ thS th' = 6)
    (q3 : thK th ≠ [] → ∀ f r, thF th = f :: r → ∃ f' r', thF th' = f' :: r' ∧ f'.1 = f.1)
    (er : ∀ i, i = 5 ∨ i = 15 ∨ (22 ≤ i ∧ i ≤ 27) → s'.1 i = s.1 i) (e14 : s'.1 14 = 0) (eq : s'.2.2 = s.2.2)
    (hm : ∀ x, s'.2.1 x ≠ s.2.1 x → g.2.1 x = 1 ∨ g.2.1 x = 2 ∨ (g.1 x = t ∧ (g.2.1 x = 4 ∨ thK th = [])))
    (h2 : ∀ b tb, b ≠ t → Q b = some tb → thS tb = 2 ∨ thS tb = 3 → s'.2.1 (thC tb) = s.2.1 (thC tb))
    (hh : ∀ b tb W j z r x, b ≠ t → Q b = some tb → thF tb = (W, j, z) :: r → (zL z).2.1 ≠ [] → g.1 x ∈ b :: thA tb → g.2.1 x = 2 → g.2.2.2 x = b → hasC s w x (nI (2 * W + thP tb)) → hasC s' w' x (nI (2 * W + thP tb)))
    (mine : tOK C M s' w' g (qU Q t th') t th')
    (hc : ∀ c, g.2.1 c = 2 → s'.2.1 c = -1 ∨ dsC s' th' c ∨ (s'.2.1 c = s.2.1 c ∧ (dsC s th c → dsC s' th' c)))
    (hw : wsO w' g (qU Q t th') E) : Inv C M s' w' g (qU Q t th') E := by
  obtain ⟨i4, i5, i6, i7, i8, i9, i10, i11, i12, i13⟩ := I.2.2.2.1
  refine on1 I e q1 q2 q3 (er 5 (by omega)) hm (fun _ => rfl) (fun _ _ => ⟨rfl, rfl, rfl⟩) (fun b tb hb eb z => (hb (i5 b tb t th eb e z e0)).elim) (fun n _ => by rw [eq]; exact ⟨id, id⟩) h2 (fun b tb hb eb z => ⟨fun i h1 h2 => er i (by omega), by rw [eq]⟩) hh (fun u tu hu eu hk n5 => ⟨fun _ z => by omega, fun W j z r p zc z8 => by omega⟩) mine (fun c hc' => ⟨(I.2.2.1 c hc').1, (hc c hc').imp_right (Or.imp_right fun y => ⟨hc', y⟩)⟩) ?_ hw
  have back : ∀ b tb, qU Q t th' b = some tb → thS tb = 0 ∨ thS tb = 7 → b ≠ t ∧ Q b = some tb := by
    intro b tb hb hs
    by_cases c : b = t
    · subst c
      rw [qU_t] at hb
      cases hb
      omega
    · rw [qU_n c] at hb
      exact ⟨c, hb⟩
  refine ⟨fun z => (z e14).elim, fun b tb b' tb' hb hb' z1 z2 => ?_, fun b tb b' tb' hb hb' z1 z2 => ?_, fun n hn => ?_, fun n hn => ?_, by rw [eq]; exact i9, by rw [eq]; exact i10, fun z => ?_, fun z1 z2 => (z1 e14).elim, ?_⟩
  · obtain ⟨b1, b2⟩ := back b tb hb (Or.inl z1)
    exact (b1 (i5 b tb t th b2 e z1 e0)).elim
  · obtain ⟨b1, b2⟩ := back b tb hb (Or.inr z1)
    obtain ⟨c1, c2⟩ := back b' tb' hb' (Or.inr z2)
    exact i6 b tb b' tb' b2 c2 z1 z2
  · rw [eq] at hn
    obtain ⟨b, tb, j0, r0, k1, k2, k3, k4⟩ := i7 n hn
    have ct : b ≠ t := fun z => by subst z; rw [e] at k1; cases k1; omega
    exact ⟨b, tb, j0, r0, (qU_n ct).trans k1, k2, k3, k4⟩
  · rw [eq] at hn
    obtain ⟨b, tb, j0, r0, k1, k2, k3, k4⟩ := i8 n hn
    have ct : b ≠ t := fun z => by subst z; rw [e] at k1; cases k1; omega
    exact ⟨b, tb, j0, r0, (qU_n ct).trans k1, k2, k3, k4⟩
  · obtain ⟨b, tb, k1, k2⟩ := i11 (by rw [← er 22 (by omega)]; exact z)
    have ct : b ≠ t := fun z => by subst z; rw [e] at k1; cases k1; omega
    exact ⟨b, tb, (qU_n ct).trans k1, k2⟩
  · unfold lo
    rw [er 15 (by omega)]
    exact i13
/-- the same record, another status (and channel) -/
def thN (th : Th) (st c : Nat) : Th := (th.1, (st, c, thP th), th.2.2)
/-- its frames and its place, where memory changes little -/
theorem fr_N {st c : Nat} {W j : Nat} {z : Sg} {r : List Fm} (I : Inv C M s w g Q E) (e : Q t = some th) (ef : thF th = (W, j, z) :: r) (k3 : ∀ x, g.1 x ∈ t :: thA th → g.2.1 x = 3 → s'.2.1 x = s.2.1 x) (k4 : ∀ x, g.1 x = t → g.2.1 x = 4 → ¬ (W ≤ x + 3 ∧ x < W) → s'.2.1 x = s.2.1 x) :
    thP (thN th st c) ≤ 1 ∧ 16 ≤ thL (thN th st c) ∧ thH (thN th st c) ≤ M ∧ (∀ f ∈ thF (thN th st c), fOK C M s' g (qU Q t (thN th st c)) t (thN th st c) f) ∧ lnk C s' g t (thF (thN th st c)) ∧ (∀ x, thL (thN th st c) ≤ x → x < thH (thN th st c) → bel (qU Q t (thN th st c)) t (g.1 x)) ∧ uOK (qU Q t (thN th st c)) t (thN th st c) ∧ ctl g t W 3 ∧ W < M := by
  obtain ⟨W0, j0, z0, r0, h1, h2, h3, h4, h5, h6, h7, h8, h9, h10, h11, h12, h13, h14⟩ := I.2.1 t th e
  rw [ef] at h1
  cases h1
  have eA : thA (thN th st c) = thA th := rfl
  have bq := fun u b => bel_q (Q := Q) (t := t) (th' := thN th st c) e eA u b
  have sb : stb (fun _ => True) s.2.1 s'.2.1 g g Q (qU Q t (thN th st c)) (t :: thA th) t := ⟨fun x _ => k3 x, fun _ _ _ => ⟨rfl, rfl⟩, fun _ _ _ _ => ⟨(bq _ _).mpr, (bq _ _).mpr⟩⟩
  refine ⟨h2, h3, h4, fun f hf => fOK_mv (h5 f hf) rfl rfl (fun _ _ => trivial) (fun _ _ => trivial) sb, ?_, fun x x1 x2 => (bq _ _).mpr (h7 x x1 x2), ?_, h13, h14⟩
  · show lnk C s' g t (thF th)
    rw [ef] at h6 ⊢
    have hf0 := h5 (W, j, z) (by rw [ef]; exact List.mem_cons_self)
    cases r with
    | nil => exact h6
    | cons f1 r =>
      refine lnk_mv (P := fun x => W + (zI z).2 ≤ x) (fun x hx x1 x4 => k4 x x1 x4 (by omega)) (fun _ _ _ => ⟨rfl, rfl⟩) _ (fun f r' hf a ha => by cases hf; exact ha) h6
  · exact uOK_mv h8 (fun c hc tc etc => ⟨tc, (qU_n (kid_ne I e hc)).trans etc, rfl⟩) (fun u tu hu eu hbu => by
      have : u ≠ t := fun y => h8.2.2.1 (y ▸ hu)
      exact ⟨tu, (qU_n this).trans eu, rfl, hbu, rfl, fun fu ru hf => ⟨fu, ru, hf, rfl⟩⟩)
/-- a process is gone -/
theorem gone {W j : Nat} {z : Sg} {r : List Fm} (I : Inv C M s w g Q E) (e : Q t = some th) (e0 : thS th = 0) (ef : thF th = (W, j, z) :: r) (k : thK th = []) (nl : (zL z).2.1 = []) (er : ∀ i, i = 5 ∨ i = 15 ∨ (22 ≤ i ∧ i ≤ 27) → s'.1 i = s.1 i) (e14 : s'.1 14 = 0) (em : s'.2 = s.2) : Inv C M s' w g (qU Q t (thN th 6 0)) E := by
  have em1 : s'.2.1 = s.2.1 := by rw [em]
  obtain ⟨m2, m3, m4, m5, m6, m7, m8, m13, m14⟩ := fr_N (st := 6) (c := 0) (s' := s') I e ef (fun x _ _ => by rw [em1]) (fun x _ _ _ => by rw [em1])
  refine halt I e e0 rfl rfl (Or.inr (Or.inr (Or.inr (Or.inr rfl)))) (fun ne => (ne k).elim) er e14 (by rw [em]) (fun x hx => (hx (by rw [em1])).elim) (fun _ _ _ _ _ => by rw [em1]) (fun b tb W j z r x _ _ _ _ _ _ _ => by unfold hasC; rw [em1]; exact id) ⟨W, j, z, r, ef, m2, m3, m4, m5, m6, m7, m8, trivial, fun h => ?_, fun h => ?_, ⟨fun _ _ => k, fun ne => (ne k).elim, fun z1 _ => ?_⟩, m13, m14⟩ (fun c hc => Or.inr (Or.inr ⟨by rw [em1], ?_⟩)) ?_
  · exact absurd (show (6 : Nat) = 0 ∨ (6 : Nat) = 1 ∨ (6 : Nat) = 4 ∨ (6 : Nat) = 7 from h) (by decide)
  · exact absurd (show (6 : Nat) = 2 ∨ (6 : Nat) = 3 ∨ (6 : Nat) = 5 ∨ (6 : Nat) = 8 from h) (by decide)
  · obtain ⟨W0, j0, z0, r0, h1, -, -, -, -, -, -, -, -, -, -, h12, -⟩ := I.2.1 t th e
    rw [ef] at h1
    cases h1
    exact ((h12.2.2 z1 (by omega)).1.1 k).elim
  · rintro ⟨W1, j1, z1, r1, d1, d2, d3⟩
    rw [ef] at d1
    cases d1
    rcases d3 with ⟨d, -⟩ | ⟨d, -⟩ | ⟨d, i, n, -, -, d', -⟩
    · omega
    · omega
    · rw [nl] at d'
      exact nomatch d'
  · refine wsO_q e I.2.2.2.2 (fun _ _ => ⟨rfl, rfl⟩) (fun c => ?_) (fun h => absurd (show (6 : Nat) = 2 from h) (by decide))
    constructor
    · rintro ⟨y, -⟩
      exact absurd (show (6 : Nat) = 3 from y) (by decide)
    · rintro ⟨y, -⟩
      omega
/-- outside a header there are no children -/
theorem kid_0 {W j : Nat} {z : Sg} {r : List Fm} (I : Inv C M s w g Q E) (e : Q t = some th) (e0 : thS th = 0) (ef : thF th = (W, j, z) :: r) (z0 : (zR z).1 = 0) : thK th = [] := by
  obtain ⟨W0, j0, z0, r0, h1, -, -, -, -, -, -, -, -, -, -, h12, -⟩ := I.2.1 t th e
  rw [ef] at h1
  cases h1
  exact h12.1 (by omega) z0
theorem nFr_N {R : Nat → Sg → Prop} {st c : Nat} (e : Q t = some th) : nFr R Q (qU Q t (thN th st c)) := by
  refine ⟨?_, fun _ => ⟨t, _, qU_t⟩⟩
  intro b tb f hb hf
  by_cases cb : b = t
  · subst cb
    rw [qU_t] at hb
    cases hb
    exact Or.inr ⟨b, th, f, e, hf, rfl⟩
  · rw [qU_n cb] at hb
    exact Or.inr ⟨b, tb, f, hb, hf, rfl⟩
theorem rd_r (i : Nat) (h : i ≠ 11 ∧ i ≠ 13 ∧ i ≠ 16 ∧ i ≠ 17) : (sR (rdB s) 13 0).1 i = s.1 i := by
  show (if i = 13 then _ else if i = 16 then _ else if i = 17 then _ else if i = 11 then _ else s.1 i) = _
  rw [if_neg (by omega), if_neg (by omega), if_neg (by omega), if_neg (by omega)]
/-- registers alone, or it is gone -/
theorem ru_x {R : Nat → Sg → Prop} {j f : Nat} {v : Int32} {z : Sg} {A : Kd × Kd × Kd} (hC : C.1 j = some (f, v)) (z0 : (zR z).1 = 0) (nl : (zL z).2.1 = []) (hR : R (j + 1) (zSA z A))
    (H : ∀ s w g Q A' t pri W, fE C M s g Q A' t pri W z → s.1 11 = nI (C.2 (j + 1)) → s.1 13 = 0 → rOK C s.2.1 pri W z (s.1 8) (s.1 9) (s.1 10) → ∃ s', xI s w f v = some (s', w) ∧ s'.2 = s.2 ∧ ((∀ i, i ≠ 8 → i ≠ 9 → i ≠ 10 → s'.1 i = s.1 i) ∧ rOK C s.2.1 pri W (zSA z A) (s'.1 8) (s'.1 9) (s'.1 10) ∨ (∀ i, i = 5 ∨ i = 15 ∨ (22 ≤ i ∧ i ≤ 27) → s'.1 i = s.1 i) ∧ s'.1 14 = 0)) : rul C M E R j z := by
  refine ⟨f, v, hC, fun s w g Q t th W r I hw e e0 ef h11 => ?_⟩
  obtain ⟨hE, hr⟩ := fE_i I e e0 ef
  obtain ⟨s', x1, x2, x3⟩ := H (sR (rdB s) 13 0) w g Q _ t _ W hE h11 rfl hr
  refine ⟨s', w, x1, Or.inl rfl, g, ?_⟩
  rcases x3 with ⟨x3, x4⟩ | ⟨x3, x4⟩
  · refine ⟨qU Q t ((W, j + 1, zSA z A) :: r, th.2), ?_, nFr_1 e ef hR⟩
    have em : s'.2 = s.2 := x2
    have em1 : s'.2.1 = s.2.1 := by rw [em]
    have x4 : rOK C s'.2.1 (thP th) W (zSA z A) (s'.1 8) (s'.1 9) (s'.1 10) := by rw [em1]; exact x4
    refine go_f I e e0 ef (fun i hi => ?_) (by rw [em]) (fun x hx => (hx (by rw [em1])).elim) (fun _ => rfl) (fun _ _ => ⟨rfl, rfl, rfl⟩) rfl rfl rfl rfl (by rw [em1]; exact hE.2.2.2.2.2.2.2.2.1) (by rw [em1]; exact hE.2.2.2.2.2.2.2.2.2.2) (Or.inl ⟨?_, ?_⟩) x4 ?_ (fun c hc => ⟨(I.2.2.1 c hc).1, Or.inr ⟨hc, by rw [em1], ?_⟩⟩)
    · rw [x3 i (by omega) (by omega) (by omega)]
      exact rd_r i (by omega)
    · rw [x3 11 (by omega) (by omega) (by omega)]; exact h11
    · rw [x3 13 (by omega) (by omega) (by omega)]; rfl
    · have : s' = (s'.1, s'.2.1, s.2.2) := by rw [← em]
      rw [this]
      exact aOK_0 I e e0 ef rfl em1
    · unfold aEn gOpn gCh
      rw [em1]
      exact id
  · exact ⟨_, gone I e e0 ef (kid_0 I e e0 ef z0) nl (fun i hi => by rw [x3 i hi]; exact rd_r i (by omega)) x4 x2, nFr_N e⟩
end
