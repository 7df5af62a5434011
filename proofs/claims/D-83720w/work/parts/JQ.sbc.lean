/-! (S): whose turn it is -/
section
variable {C : Cx} {M : Nat} {E : En} {s s' : Cr} {w w' : Wd} {g : Gh} {Q : Thr} {t : Nat} {th th' : Th}
/-- it begins to run, is put aside or goes to the end of its row -/
theorem turn {st W j : Nat} {z : Sg} {r : List Fm} (I : Inv C M s w g Q E) (e : Q t = some th) (ef : thF th = (W, j, z) :: r) (hs : thS th = 0 ∨ thS th = 1 ∨ thS th = 7) (hst : st = 0 ∨ st = 1 ∨ st = 7) (hk : st = 1 → thK th = [])
    (r5 : s'.1 5 = s.1 5) (em : ∀ x, x ≠ W - 1 → s'.2.1 x = s.2.1 x)
    (h0 : ∀ b tb, b ≠ t → Q b = some tb → thS tb = 0 → ∀ i, 8 ≤ i → i ≤ 15 → s'.1 i = s.1 i)
    (h1 : ∀ n, n ≠ W → (n ∈ s.2.2.1 → n ∈ s'.2.2.1) ∧ (n ∈ s.2.2.2 → n ∈ s'.2.2.2))
    (h7 : ∀ b tb, b ≠ t → Q b = some tb → thS tb = 7 → (∀ i, 22 ≤ i → i ≤ 27 → s'.1 i = s.1 i) ∧ s'.2.2.2.head? = s.2.2.2.head?)
    (hp : ∀ u tu, u ≠ t → Q u = some tu → t ∈ thK tu → thS tu ≠ 5 → thP th = thP tu → thS th = 1 → st = 1)
    (sN : sOK C M s' g t (thN th st 0) W j z) (hr : row s' (qU Q t (thN th st 0))) : Inv C M s' w g (qU Q t (thN th st 0)) E := by
  obtain ⟨W0, j0, z0, r0, a1, a2, a3, a4, a5, a6, a7, a8, a9, a10, a11, a12, a13, a14⟩ := I.2.1 t th e
  rw [ef] at a1
  cases a1
  have w1 := a13 1 (by omega)
  have hW : 3 ≤ W := by
    have := a5 (W, j, z) (by rw [ef]; exact List.mem_cons_self)
    have b1 := this.1
    have b2 := this.2.1
    simp only at b1 b2
    omega
  have n2 : ∀ x, g.2.1 x ≠ 4 → s'.2.1 x = s.2.1 x := fun x hx => em x (fun y => hx (by rw [y]; exact w1.1))
  obtain ⟨m2, m3, m4, m5, m6, m7, m8, m13, m14⟩ := fr_N (st := st) (c := 0) (s' := s') I e ef (fun x _ h => n2 x (by omega)) (fun x _ _ h => em x (by omega))
  have eS : thS (thN th st 0) = st := rfl
  have hd : ∀ c, g.2.1 c = 2 → dsC s th c → dsC s' (thN th st 0) c := by
    rintro c hc ⟨W1, j1, z1, r1, d1, d2, d3⟩
    rw [ef] at d1
    cases d1
    refine ⟨W, j, z, r, ef, (n2 c (by omega)).trans d2, Or.inr (Or.inr ⟨by rw [eS]; omega, ?_⟩)⟩
    rcases d3 with ⟨d, -⟩ | ⟨d, -⟩ | ⟨d, d'⟩
    · omega
    · omega
    · have ne : (zL z).2.1 ≠ [] := by
        obtain ⟨i, n, -, -, b3, -⟩ := d'
        intro y
        rw [y] at b3
        exact nomatch b3
      exact aEn_mv (a10 (by omega) ne).1 d' (fun x _ x3 => n2 x (by omega))
  refine on1 I e rfl rfl (fun _ f r' hf => ⟨f, r', hf, rfl⟩) r5 (fun x hx => ?_) (fun _ => rfl) (fun _ _ => ⟨rfl, rfl, rfl⟩) h0 (fun n hn => h1 n (hn _ _ ef)) (fun b tb hb eb hs' => ?_) h7 (fun b tb W' j1 z1 r1 x _ _ _ _ _ x2 _ => ?_) (fun u tu hu eu hk' n5 => ⟨fun hpp h18 => Or.inl (hp u tu hu eu hk' n5 hpp (by omega)), fun _ _ _ _ _ _ s8 => by omega⟩) ⟨W, j, z, r, ef, m2, m3, m4, m5, m6, m7, m8, sN, fun _ => ?_, fun h => ?_, ?_, m13, m14⟩ (fun c hc => ⟨(I.2.2.1 c hc).1, Or.inr (Or.inr ⟨hc, n2 c (by omega), hd c hc⟩)⟩) hr (wsO_q e I.2.2.2.2 (fun _ _ => ⟨rfl, rfl⟩) (fun c => ⟨fun y => ?_, fun y => ?_⟩) (fun h _ => by have h : st = 2 := h; omega))
  · have : x = W - 1 := Classical.byContradiction fun c => hx (em x c)
    rw [this]
    exact Or.inr (Or.inr ⟨w1.2, Or.inl w1.1⟩)
  · have hx : g.2.1 (thC tb) = 2 := by
      obtain ⟨W1, j1, z1, r1, -, -, -, -, -, -, -, -, k9, -⟩ := I.2.1 b tb eb
      unfold sOK at k9
      rcases hs' with hs' | hs'
      · rw [hs'] at k9; exact k9.2.2.2.2.2.1
      · rw [hs'] at k9; exact k9.2.2.2.2.2.1
    exact n2 _ (by omega)
  · unfold hasC
    rw [n2 x (by omega)]
    exact id
  · have A : aOK C s' w g (t :: thA th) t W z (thP th) (thS th) := aOK_mv (a10 (by omega)) (fun x _ x3 => n2 x (by omega)) (fun _ _ => ⟨rfl, rfl⟩) (fun _ _ _ y => y) ⟨em _ (by omega), em _ (by omega)⟩ (fun _ x _ x2 _ => by unfold hasC; rw [n2 x (by omega)]; exact id)
    intro ne
    obtain ⟨b1, b2, b3, b4, b5, b6, b7⟩ := A ne
    exact ⟨b1, b2, ⟨fun y => by have := b3.mp y; omega, fun y => by have y : st = 4 := y; omega⟩, b4, b5, b6, fun y _ => b7 y (by omega)⟩
  · have h : st = 2 ∨ st = 3 ∨ st = 5 ∨ st = 8 := h
    omega
  · obtain ⟨p1, p2, p3⟩ := a12
    refine ⟨fun _ y => p1 (by omega) y, fun ne => ?_, fun y _ => ⟨(p3 y (by omega)).1, fun p hp' => ?_⟩⟩
    · have ne : thK th ≠ [] := ne
      obtain ⟨q1, q2⟩ := p2 ne
      have b := hOK_mv (s' := s') (g' := g) q1.1 (fun x x1 x4 hx => em x (by omega)) (fun _ _ => ⟨rfl, rfl⟩)
      have n1 : st ≠ 1 := fun y => ne (hk y)
      refine ⟨⟨⟨b.1, b.2.1, b.2.2.1, b.2.2.2.1, b.2.2.2.2.1, fun y => ?_, ?_⟩, q1.2⟩, fun _ => ?_⟩
      · have y : st = 5 := y
        omega
      · show st = 0 ∨ st = 5 ∨ st = 7
        omega
      · obtain ⟨c1, c, hc, tc, c2, c3⟩ := q2 (by omega)
        refine ⟨fun c hc tc etc ep => ?_, c, hc, tc, (qU_n (kid_ne I e hc)).trans c2, c3⟩
        rw [qU_n (kid_ne I e hc)] at etc
        exact c1 c hc tc etc ep
    · obtain ⟨b1, c, hc, tc, zc, b2, b3⟩ := (p3 y (by omega)).2 p hp'
      exact ⟨b1, c, hc, tc, zc, (qU_n (kid_ne I e hc)).trans b2, b3⟩
  · have y : st = 3 ∧ _ := y
    omega
  · omega
/-- who has status 7 stands first in the low row -/
theorem top_7 (I : Inv C M s w g Q E) (e : Q t = some th) (h : thS th = 7) {f : Fm} {r : List Fm} (ef : thF th = f :: r) : thP th = 1 ∧ s.2.2.2.head? = some f.1 ∧ ¬ s.1 22 = 0 ∧ s.1 23 = nI f.1 := by
  obtain ⟨W0, j0, z0, r0, a1, a2, a3, a4, a5, a6, a7, a8, a9, -⟩ := I.2.1 t th e
  rw [ef] at a1
  cases a1
  unfold sOK at a9
  rw [h] at a9
  exact ⟨a9.1, a9.2.1, a9.2.2.1, a9.2.2.2.1⟩
theorem run_0 (I : Inv C M s w g Q E) (e : Q t = some th) (h : thS th = 0) {W j : Nat} {z : Sg} {r : List Fm} (ef : thF th = (W, j, z) :: r) : ¬ s.1 14 = 0 ∧ s.1 12 = nI W ∧ s.1 15 = nI (thP th) ∧ pos C j (s.1 11) (s.1 13) ∧ rOK C s.2.1 (thP th) W z (s.1 8) (s.1 9) (s.1 10) := by
  obtain ⟨W0, j0, z0, r0, a1, a2, a3, a4, a5, a6, a7, a8, a9, -⟩ := I.2.1 t th e
  rw [ef] at a1
  cases a1
  unfold sOK at a9
  rw [h] at a9
  exact a9
theorem rdy_1 (I : Inv C M s w g Q E) (e : Q t = some th) (h : thS th = 1) {W j : Nat} {z : Sg} {r : List Fm} (ef : thF th = (W, j, z) :: r) : s.2.1 (W - 1) = nI (C.2 j) ∧ rAny z := by
  obtain ⟨W0, j0, z0, r0, a1, a2, a3, a4, a5, a6, a7, a8, a9, -⟩ := I.2.1 t th e
  rw [ef] at a1
  cases a1
  unfold sOK at a9
  rw [h] at a9
  exact a9.2
theorem W_M (I : Inv C M s w g Q E) (e : Q t = some th) {W j : Nat} {z : Sg} {r : List Fm} (ef : thF th = (W, j, z) :: r) : 19 ≤ W ∧ W < M ∧ thP th ≤ 1 ∧ ctl g t W 3 := by
  obtain ⟨W0, j0, z0, r0, a1, a2, a3, a4, a5, a6, a7, a8, a9, a10, a11, a12, a13, a14⟩ := I.2.1 t th e
  rw [ef] at a1
  cases a1
  have := a5 (W, j, z) (by rw [ef]; exact List.mem_cons_self)
  have b1 := this.1
  have b2 := this.2.1
  simp only at b1 b2
  exact ⟨by omega, a14, a2, a13⟩
theorem rk_w {pri W k : Nat} {z : Sg} {a b c v : Int32} {m : Nat → Int32} {A : List Nat} {hi : Nat} (h : rOK C m pri W z a b c) (hw : ∀ off, wk C.2 M g Q A t pri (zG z) m W hi off) (h4 : g.2.1 k = 4) : rOK C (fun x => if x = k then v else m x) pri W z a b c := by
  refine rOK_mv h fun x hx => if_neg fun y => ?_
  obtain ⟨-, -, -, q3, -⟩ := wk_h (hw x) hx
  rw [y] at q3
  omega
/-- its time is over -/
theorem slice {W j : Nat} {z : Sg} {r : List Fm} (I : Inv C M s w g Q E) (e : Q t = some th) (e0 : thS th = 0) (ef : thF th = (W, j, z) :: r) (hp : thP th = 1) (k : thK th = []) (h11 : s.1 11 = nI (C.2 j)) (ra : rAny z) : Inv C M (sQ (sR (sM s (W - 1) (s.1 11)) 14 0) s.2.2.1 (s.2.2.2 ++ [W])) w g (qU Q t (thN th 1 0)) E := by
  obtain ⟨i4, i5, i6, i7, i8, i9, i10, i11, i12, i13⟩ := I.2.2.2.1
  obtain ⟨hW, hWM, -, -⟩ := W_M I e ef
  have no2 : W ∉ s.2.2.2 := fun h => by have := (in_row I e ef).2 h; omega
  refine turn I e ef (Or.inl e0) (Or.inr (Or.inl rfl)) (fun _ => k) rfl (fun x hx => if_neg hx) (fun b tb hb eb h => (hb (i5 b tb t th eb e h e0)).elim) (fun n _ => ⟨id, fun h => List.mem_append_left _ h⟩) (fun b tb hb eb h7 => ⟨fun i h1 h2 => if_neg (by omega), ?_⟩) (fun _ _ _ _ _ _ _ _ => rfl) ⟨?_, ?_, ra⟩ ?_
  · obtain ⟨W0, j0, z0, r0, a1, -⟩ := I.2.1 b tb eb
    have hd := (top_7 I eb h7 a1).2.1
    show (s.2.2.2 ++ [W]).head? = s.2.2.2.head?
    cases hl : s.2.2.2 with
    | nil => rw [hl] at hd; exact nomatch hd
    | cons x l => rfl
  · rw [if_neg (show ¬ thP (thN th 1 0) = 0 by show ¬ thP th = 0; omega)]
    exact List.mem_append_right _ List.mem_cons_self
  · show (if W - 1 = W - 1 then s.1 11 else _) = _
    rw [if_pos rfl]; exact h11
  · have back : ∀ b tb, qU Q t (thN th 1 0) b = some tb → thS tb ≠ 1 → b ≠ t ∧ Q b = some tb := by
      intro b tb hb hs
      by_cases c : b = t
      · subst c
        rw [qU_t] at hb
        cases hb
        exact (hs rfl).elim
      · rw [qU_n c] at hb
        exact ⟨c, hb⟩
    refine ⟨fun z => (z rfl).elim, fun b tb b' tb' hb hb' z1 z2 => ?_, fun b tb b' tb' hb hb' z1 z2 => ?_, fun n hn => ?_, fun n hn => ?_, i9, nd_ap i10 no2, fun z => ?_, fun z1 z2 => (z1 rfl).elim, i13⟩
    · obtain ⟨b1, b2⟩ := back b tb hb (by omega)
      obtain ⟨c1, c2⟩ := back b' tb' hb' (by omega)
      exact i5 b tb b' tb' b2 c2 z1 z2
    · obtain ⟨b1, b2⟩ := back b tb hb (by omega)
      obtain ⟨c1, c2⟩ := back b' tb' hb' (by omega)
      exact i6 b tb b' tb' b2 c2 z1 z2
    · obtain ⟨b, tb, j0, r0, k1, k2, k3, k4⟩ := i7 n hn
      have ct : b ≠ t := fun z => by subst z; rw [e] at k1; cases k1; omega
      exact ⟨b, tb, j0, r0, (qU_n ct).trans k1, k2, k3, k4⟩
    · rcases List.mem_append.mp hn with h | h
      · obtain ⟨b, tb, j0, r0, k1, k2, k3, k4⟩ := i8 n h
        have ct : b ≠ t := fun z => by subst z; rw [e] at k1; cases k1; omega
        exact ⟨b, tb, j0, r0, (qU_n ct).trans k1, k2, k3, k4⟩
      · rw [List.mem_singleton] at h
        subst h
        exact ⟨t, _, _, _, qU_t, Or.inl rfl, hp, ef⟩
    · obtain ⟨b, tb, k1, k2⟩ := i11 z
      have ct : b ≠ t := fun z => by subst z; rw [e] at k1; cases k1; omega
      exact ⟨b, tb, (qU_n ct).trans k1, k2⟩
/-- a high one goes ahead -/
theorem aside {W j : Nat} {z : Sg} {r : List Fm} (I : Inv C M s w g Q E) (e : Q t = some th) (e0 : thS th = 0) (ef : thF th = (W, j, z) :: r) (hp : ¬ s.1 15 = 0) : ∃ s', cRest (sR (sR (sR (sR (sR (sR s 22 1) 23 (s.1 12)) 24 (s.1 8)) 25 (s.1 9)) 26 (s.1 10)) 27 (s.1 13)) = some s' ∧ s'.1 12 = nI W ∧ s'.2.2 = s.2.2 ∧ Inv C M (sQ s' s'.2.2.1 (W :: s'.2.2.2)) w g (qU Q t (thN th 7 0)) E ∧ s'.1 14 = 0 := by
  obtain ⟨i4, i5, i6, i7, i8, i9, i10, i11, i12, i13⟩ := I.2.2.2.1
  obtain ⟨hW, hWM, p1, ct⟩ := W_M I e ef
  obtain ⟨q14, q12, q15, qp, qr⟩ := run_0 I e e0 ef
  have n22 := i12 q14 hp
  have pp : thP th = 1 := by
    by_cases c : thP th = 0
    · rw [c] at q15; exact (hp q15).elim
    · omega
  have no7 : ∀ b tb, Q b = some tb → thS tb ≠ 7 := fun b tb eb h => by
    obtain ⟨W0, j0, z0, r0, a1, -⟩ := I.2.1 b tb eb
    exact (top_7 I eb h a1).2.2.1 n22
  have no2 : W ∉ s.2.2.2 := fun h => by have := (in_row I e ef).2 h; omega
  obtain ⟨W0, j0, z0, r0, a1, a2, a3, a4, a5, -⟩ := I.2.1 t th e
  rw [ef] at a1
  cases a1
  have wk0 := (a5 (W, j, z) (by rw [ef]; exact List.mem_cons_self)).2.2.2.1
  refine ⟨_, rs_ok (M := M) (W := W) (s := sR (sR (sR (sR (sR (sR s 22 1) 23 (s.1 12)) 24 (s.1 8)) 25 (s.1 9)) 26 (s.1 10)) 27 (s.1 13)) I.1 q12 (by omega) (by omega), q12, rfl, ?_, rfl⟩
  refine turn I e ef (Or.inl e0) (Or.inr (Or.inr rfl)) (fun h => absurd h (by decide)) rfl (fun x hx => if_neg hx) (fun b tb hb eb h => (hb (i5 b tb t th eb e h e0)).elim) (fun n _ => ⟨id, fun h => List.mem_cons_of_mem _ h⟩) (fun b tb hb eb h7 => (no7 b tb eb h7).elim) (fun u tu _ _ _ _ _ h1 => by omega) ⟨pp, rfl, (by decide : ¬ (1 : Int32) = 0), q12, ?_, ?_⟩ ?_
  · show pos C j (if W - 1 = W - 1 then s.1 11 else _) (s.1 13)
    rw [if_pos rfl]; exact qp
  · exact rk_w qr wk0 (ct 1 (by omega)).1
  · have back : ∀ b tb, qU Q t (thN th 7 0) b = some tb → thS tb ≠ 7 → b ≠ t ∧ Q b = some tb := by
      intro b tb hb hs
      by_cases c : b = t
      · subst c
        rw [qU_t] at hb
        cases hb
        exact (hs rfl).elim
      · rw [qU_n c] at hb
        exact ⟨c, hb⟩
    have only : ∀ b tb, qU Q t (thN th 7 0) b = some tb → thS tb = 7 → b = t := by
      intro b tb hb hs
      by_cases c : b = t
      · exact c
      · rw [qU_n c] at hb
        exact (no7 b tb hb hs).elim
    refine ⟨fun z => (z rfl).elim, fun b tb b' tb' hb hb' z1 z2 => ?_, fun b tb b' tb' hb hb' z1 z2 => ?_, fun n hn => ?_, fun n hn => ?_, i9, List.nodup_cons.mpr ⟨no2, i10⟩, fun _ => ⟨t, _, qU_t, rfl⟩, fun z1 z2 => (z1 rfl).elim, i13⟩
    · obtain ⟨b1, b2⟩ := back b tb hb (by omega)
      obtain ⟨c1, c2⟩ := back b' tb' hb' (by omega)
      exact i5 b tb b' tb' b2 c2 z1 z2
    · rw [only b tb hb z1, only b' tb' hb' z2]
    · obtain ⟨b, tb, j0, r0, k1, k2, k3, k4⟩ := i7 n hn
      have ct : b ≠ t := fun z => by subst z; rw [e] at k1; cases k1; omega
      exact ⟨b, tb, j0, r0, (qU_n ct).trans k1, k2, k3, k4⟩
    · rcases List.mem_cons.mp hn with h | h
      · subst h
        exact ⟨t, _, _, _, qU_t, Or.inr rfl, pp, ef⟩
      · obtain ⟨b, tb, j0, r0, k1, k2, k3, k4⟩ := i8 n h
        have ct : b ≠ t := fun z => by subst z; rw [e] at k1; cases k1; omega
        exact ⟨b, tb, j0, r0, (qU_n ct).trans k1, k2, k3, k4⟩
end
