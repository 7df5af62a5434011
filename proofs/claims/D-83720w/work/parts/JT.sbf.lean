/-! (S): one in ALT hears; taking and sending -/
section
variable {C : Cx} {M : Nat} {E : En} {s s' : Cr} {w w' : Wd} {g : Gh} {Q : Thr} {t b : Nat} {th tb : Th}
theorem qU_id (e : Q t = some th) : qU Q t th = Q := by
  funext b
  unfold qU
  split
  · rename_i c; rw [c]; exact e.symm
  · rfl
theorem aOK_3 {A : List Nat} {W pri st st' : Nat} {z : Sg} (h : aOK C s w g A t W z pri st) (gv : ∃ i, (zL z).2.2.2.1 ≤ i ∧ i < (zL z).2.2.1 ∧ gAv s w W (zL z).1 (zL z).2.1 (nI (2 * W + pri)) i) (h4 : g.2.1 (W - 3) = 4) (hW : 3 ≤ W) (em : ∀ x, x ≠ W - 3 → s'.2.1 x = s.2.1 x) (m3 : s'.2.1 (W - 3) = 3) (n4 : st' ≠ 4) : aOK C s' w g A t W z pri st' := by
  intro ne
  obtain ⟨a1, a2, a3, a4, a5, a6, a7⟩ := h ne
  have e3 : ∀ x, g.2.1 x = 3 → s'.2.1 x = s.2.1 x := fun x hx => em x fun y => by rw [y] at hx; omega
  have r1 : aRl s' g A t W z := by
    intro i b n hi
    obtain ⟨⟨b1, b2⟩, b3⟩ := a1 i b n hi
    refine ⟨⟨b1, b2⟩, fun y => ?_⟩
    obtain ⟨⟨c1, c2⟩, c3⟩ := b3 y
    refine ⟨⟨c1, c2⟩, ?_⟩
    have : gCh s' W (zL z).1 i = gCh s W (zL z).1 i := by unfold gCh; rw [e3 _ c1]
    rw [this, e3 _ c1]
    exact c3
  have eW := em W (by omega)
  refine ⟨r1, Or.inr (Or.inr m3), ⟨fun y => by rw [m3] at y; exact absurd y (by decide), fun y => (n4 y).elim⟩, fun _ => Or.inr ?_, by rw [eW]; exact a5, by rw [eW]; exact a6, fun _ _ => m3⟩
  obtain ⟨i, d1, d2, d4, b, n, d3, d5⟩ := gv
  obtain ⟨⟨b1, b2⟩, b3⟩ := a1 i b n d3
  refine ⟨i, d1, d2, ?_, b, n, d3, fun hb => ?_⟩
  · unfold gOpn at d4 ⊢
    rw [e3 _ b1]; exact d4
  · obtain ⟨⟨b4, -⟩, b5, -⟩ := b3 hb
    have : gCh s' W (zL z).1 i = gCh s W (zL z).1 i := by unfold gCh; rw [e3 _ b4]
    rw [this]
    have av := d5 hb
    unfold hasC at av ⊢
    rw [em _ (fun y => by rw [y] at b5; omega)]
    exact av
/-- one in ALT hears -/
theorem hear {W j c : Nat} {z : Sg} {r : List Fm} (I : Inv C M s w g Q E) (e : Q t = some th) (ef : thF th = (W, j, z) :: r) (hs : thS th = 0 ∨ thS th = 1 ∨ thS th = 4 ∨ thS th = 7) (en : aEn s W z c) (av : hasC s w c (nI (2 * W + thP th))) : ∃ s', cWake s (nI (2 * W + thP th)) = some s' ∧ s'.1 = s.1 ∧ ∃ Q', Inv C M s' w g Q' E ∧ nFr (fun _ _ => False) Q Q' := by
  obtain ⟨hW, hWM, p1, ct⟩ := W_M I e ef
  have hM := I.1.2
  have tk := aE_tk I e ef hs en
  obtain ⟨W0, j0, z0, r0, a1, a2, a3, a4, a5, a6, a7, a8, a9, a10, a11, a12, a13, a14⟩ := I.2.1 t th e
  rw [ef] at a1
  cases a1
  have A := a10 hs
  have ne := aE_ne en
  have c2 : g.2.1 c = 2 := by
    obtain ⟨i, n, d1, d2, d3, d4, d5⟩ := en
    rw [← d5]
    exact (((A ne).1 i true n d3).2 rfl).2.1
  have gv : ∃ i, (zL z).2.2.2.1 ≤ i ∧ i < (zL z).2.2.1 ∧ gAv s w W (zL z).1 (zL z).2.1 (nI (2 * W + thP th)) i := by
    obtain ⟨i, n, d1, d2, d3, d4, d5⟩ := en
    exact ⟨i, d1, d2, d4, true, n, d3, fun _ => by rw [d5]; exact av⟩
  have h4 := (ct 3 (by omega)).1
  have o4 := (ct 3 (by omega)).2
  have ad := ds_ad (s := s) (M := M) (n := W) (b := thP th) (k := 3) I.1 p1 (by omega) (by omega) (by omega)
  have un : cWake s (nI (2 * W + thP th)) = (if s.2.1 (W - 3) = 2 then cReady s (nI (2 * W + thP th)) else some s).map fun s => sM s (W - 3) 3 := by
    unfold cWake
    rw [if_pos (ds_in p1 (by omega)), show (3 : Int32) = nI 3 from rfl, ad]
    rfl
  have wk0 := (a5 (W, j, z) (by rw [ef]; exact List.mem_cons_self)).2.2.2.1
  have kk : thS th = 1 ∨ thS th = 4 → thK th = [] := fun h => Classical.byContradiction fun y => by
    have := (a12.2.1 y).1.1.2.2.2.2.2.2
    omega
  by_cases m2 : s.2.1 (W - 3) = 2
  · have s4 : thS th = 4 := (A ne).2.2.1.mp m2
    have k := kk (Or.inr s4)
    rw [un, if_pos m2, rd_ok p1 (by omega) (row_lt I)]
    refine ⟨sM (if thP th = 0 then sQ s (s.2.2.1 ++ [W]) s.2.2.2 else sQ s s.2.2.1 (s.2.2.2 ++ [W])) (W - 3) 3, rfl, by show (if thP th = 0 then _ else _ : Cr).1 = _; split <;> rfl, qU Q t (thN th 1 0), ?_, nFr_N e⟩
    have em : ∀ x, x ≠ W - 3 → (sM (if thP th = 0 then sQ s (s.2.2.1 ++ [W]) s.2.2.2 else sQ s s.2.2.1 (s.2.2.2 ++ [W])) (W - 3) 3).2.1 x = s.2.1 x := by
      intro x hx
      show (if x = W - 3 then 3 else (if thP th = 0 then sQ s (s.2.2.1 ++ [W]) s.2.2.2 else sQ s s.2.2.1 (s.2.2.2 ++ [W])).2.1 x) = _
      rw [if_neg hx]
      split <;> rfl
    have m3 : (sM (if thP th = 0 then sQ s (s.2.2.1 ++ [W]) s.2.2.2 else sQ s s.2.2.1 (s.2.2.2 ++ [W])) (W - 3) 3).2.1 (W - 3) = 3 := if_pos rfl
    have er : ∀ i, (sM (if thP th = 0 then sQ s (s.2.2.1 ++ [W]) s.2.2.2 else sQ s s.2.2.1 (s.2.2.2 ++ [W])) (W - 3) 3).1 i = s.1 i := by
      intro i
      show (if thP th = 0 then sQ s (s.2.2.1 ++ [W]) s.2.2.2 else sQ s s.2.2.1 (s.2.2.2 ++ [W])).1 i = _
      split <;> rfl
    have eq : (sM (if thP th = 0 then sQ s (s.2.2.1 ++ [W]) s.2.2.2 else sQ s s.2.2.1 (s.2.2.2 ++ [W])) (W - 3) 3).2.2 = rAp s (thP th) W := by
      show (if thP th = 0 then sQ s (s.2.2.1 ++ [W]) s.2.2.2 else sQ s s.2.2.1 (s.2.2.2 ++ [W])).2.2 = _
      unfold rAp
      split <;> rfl
    generalize sM (if thP th = 0 then sQ s (s.2.2.1 ++ [W]) s.2.2.2 else sQ s s.2.2.1 (s.2.2.2 ++ [W])) (W - 3) 3 = s' at em m3 er eq ⊢
    have n4 : ∀ x, g.2.1 x ≠ 4 → s'.2.1 x = s.2.1 x := fun x hx => em x fun y => by rw [y] at hx; exact hx h4
    obtain ⟨l2, l3, l4, l5, l6, l7, l8, l13, l14⟩ := fr_N (st := 1) (c := 0) (s' := s') I e ef (fun x _ h => n4 x (by omega)) (fun x _ _ h => em x (by omega))
    have q : s.2.1 (W - 1) = nI (C.2 j) ∧ rAny z := by
      unfold sOK at a9
      rw [s4] at a9
      exact ⟨a9.1, a9.2.1⟩
    refine wake (th' := thN th 1 0) I e (by omega) rfl rfl rfl ef (j' := (j, z)) ef er eq (fun x hx => ?_) (fun b tb hb eb hs => ?_) (fun b tb Wb jb zb rb x hb eb hf ne _ x2 xt => ?_) (fun h8 => by omega) ⟨W, j, z, r, ef, l2, l3, l4, l5, l6, l7, l8, ⟨?_, ?_, q.2⟩, fun _ => aOK_3 A gv h4 (by omega) em m3 (show (1 : Nat) ≠ 4 by decide), fun h => ?_, ⟨fun _ _ => k, fun ne => (ne k).elim, fun z1 _ => ?_⟩, l13, l14⟩ (fun c' hc' => ?_) (wsO_r e I.2.2.2.2 (fun c _ => ⟨fun y => absurd (show (1 : Nat) = 3 from y.1) (by decide), fun y => by omega⟩) (fun h => absurd (show (1 : Nat) = 2 from h) (by decide)))
    · have : x = W - 3 := Classical.byContradiction fun y => hx (em x y)
      subst this
      exact Or.inr (Or.inr ⟨o4, Or.inl h4⟩)
    · refine n4 _ ?_
      rcases hs with hs | hs
      · have := (w2_tk I eb hs).2; omega
      · have := (w3_sd I eb hs).2; omega
    · unfold hasC
      rw [n4 x (by omega)]
      exact id
    · show if thP th = 0 then W ∈ s'.2.2.1 else W ∈ s'.2.2.2
      rw [eq]
      unfold rAp
      split
      · exact List.mem_append_right _ List.mem_cons_self
      · exact List.mem_append_right _ List.mem_cons_self
    · rw [em _ (by omega)]; exact q.1
    · exact absurd (show (1 : Nat) = 2 ∨ (1 : Nat) = 3 ∨ (1 : Nat) = 5 ∨ (1 : Nat) = 8 from h) (by decide)
    · exact ((a12.2.2 z1 (by omega)).1.1 k).elim
    · refine Or.inr (Or.inr ⟨n4 c' (by omega), ?_⟩)
      rintro ⟨W1, j1, z1, r1, d1, d2, d3⟩
      rw [ef] at d1
      cases d1
      rcases d3 with ⟨d, -⟩ | ⟨d, -⟩ | ⟨d, d'⟩
      · omega
      · omega
      · exact ⟨W, j, z, r, ef, (n4 c' (by omega)).trans d2, Or.inr (Or.inr ⟨Or.inr (Or.inl rfl), aEn_mv (A ne).1 d' (fun x _ x3 => n4 x (by omega))⟩)⟩
  · have n4s : thS th ≠ 4 := fun y => m2 ((A ne).2.2.1.mpr y)
    rw [un, if_neg m2]
    refine ⟨sM s (W - 3) 3, rfl, rfl, qU Q t (thN th (thS th) (thC th)), ?_, nFr_N e⟩
    have em : ∀ x, x ≠ W - 3 → (sM s (W - 3) 3).2.1 x = s.2.1 x := fun x hx => if_neg hx
    have n4 : ∀ x, g.2.1 x ≠ 4 → (sM s (W - 3) 3).2.1 x = s.2.1 x := fun x hx => em x fun y => by rw [y] at hx; exact hx h4
    obtain ⟨l2, l3, l4, l5, l6, l7, l8, l13, l14⟩ := fr_N (st := thS th) (c := thC th) (s' := sM s (W - 3) 3) I e ef (fun x _ h => n4 x (by omega)) (fun x _ _ h => em x (by omega))
    have eN : thN th (thS th) (thC th) = th := rfl
    refine on1 I e rfl rfl (fun _ f r' hf => ⟨f, r', hf, rfl⟩) rfl (fun x hx => ?_) (fun _ => rfl) (fun _ _ => ⟨rfl, rfl, rfl⟩) (fun _ _ _ _ _ _ _ _ => rfl) (fun _ _ => ⟨id, id⟩) (fun b tb hb eb hs => ?_) (fun _ _ _ _ _ => ⟨fun _ _ _ => rfl, rfl⟩) (fun b tb Wb jb zb rb x hb eb hf ne _ x2 xt => ?_) (fun u tu hu eu hk n5 => ⟨fun _ y => y, fun _ _ _ _ _ _ _ _ _ _ => rfl⟩) ⟨W, j, z, r, ef, l2, l3, l4, l5, l6, l7, l8, ?_, fun _ => aOK_3 A gv h4 (by omega) em (if_pos rfl) n4s, fun h => ?_, ?_, l13, l14⟩ (fun c' hc' => ⟨(I.2.2.1 c' hc').1, Or.inr (Or.inr ⟨hc', n4 c' (by omega), ?_⟩)⟩) ?_ ?_
    · have : x = W - 3 := Classical.byContradiction fun y => hx (em x y)
      subst this
      exact Or.inr (Or.inr ⟨o4, Or.inl h4⟩)
    · refine n4 _ ?_
      rcases hs with hs | hs
      · have := (w2_tk I eb hs).2; omega
      · have := (w3_sd I eb hs).2; omega
    · unfold hasC
      rw [n4 x (by omega)]
      exact id
    · have fm := wk_m (P := fun _ => True) (m' := (sM s (W - 3) 3).2.1) wk0 (fun _ _ => trivial) (fun x _ _ x3 => n4 x (by omega))
      rw [eN]
      unfold sOK at a9 ⊢
      rcases hs with h | h | h | h
      · rw [h] at a9 ⊢
        exact ⟨a9.1, a9.2.1, a9.2.2.1, a9.2.2.2.1, rOK_mv a9.2.2.2.2 fm⟩
      · rw [h] at a9 ⊢
        exact ⟨a9.1, (em _ (by omega)).trans a9.2.1, a9.2.2⟩
      · exact (n4s h).elim
      · rw [h] at a9 ⊢
        obtain ⟨y1, y2, y3, y4, y5, y6⟩ := a9
        exact ⟨y1, y2, y3, y4, by rw [em _ (show W - 1 ≠ W - 3 by omega)]; exact y5, rOK_mv y6 fm⟩
    · rw [eN] at h
      omega
    · rw [eN, qU_id e]
      refine ⟨a12.1, fun ne => ?_, a12.2.2⟩
      obtain ⟨q1, q2⟩ := a12.2.1 ne
      exact ⟨⟨hOK_mv q1.1 (fun x _ _ hx => em x (by omega)) (fun _ _ => ⟨rfl, rfl⟩), q1.2⟩, q2⟩
    · rintro ⟨W1, j1, z1, r1, d1, d2, d3⟩
      rw [ef] at d1
      cases d1
      rcases d3 with ⟨d, -⟩ | ⟨d, -⟩ | ⟨d, d'⟩
      · omega
      · omega
      · exact ⟨W, j, z, r, ef, (n4 c' (by omega)).trans d2, Or.inr (Or.inr ⟨d, aEn_mv (A ne).1 d' (fun x _ x3 => n4 x (by omega))⟩)⟩
    · rw [eN, qU_id e]
      exact I.2.2.2.1
    · rw [eN, qU_id e]
      exact I.2.2.2.2
theorem no_w {c : Nat} (I : Inv C M s w g Q E) (m1 : s.2.1 c = -1) : ∀ b tb, Q b = some tb → thS tb = 2 ∨ thS tb = 3 → thC tb ≠ c := by
  intro b tb eb hs y
  obtain ⟨W0, j0, z0, r0, a1, a2, a3, a4, a5, a6, a7, a8, a9, -⟩ := I.2.1 b tb eb
  obtain ⟨hW, hWM, p1, -⟩ := W_M I eb a1
  have hM := I.1.2
  unfold sOK at a9
  have : s.2.1 (thC tb) = nI (2 * W0 + thP tb) := by
    rcases hs with hs | hs
    · rw [hs] at a9; exact a9.1
    · rw [hs] at a9; exact a9.1
  rw [y, m1] at this
  exact nI_m1 (by omega) this.symm
/-- its frames are as they were -/
theorem nFr_s {R : Nat → Sg → Prop} {F : List Fm} {x : (Nat × Nat × Nat) × (Nat × Nat) × List Nat × List Nat × (Int × Nat)} (e : Q t = some th) (ef : thF th = F) : nFr R Q (qU Q t (F, x)) := by
  refine ⟨?_, fun _ => ⟨t, _, qU_t⟩⟩
  intro b tb f hb hf
  by_cases cb : b = t
  · subst cb
    rw [qU_t] at hb
    cases hb
    exact Or.inr ⟨b, th, f, e, by rw [ef]; exact hf, rfl⟩
  · rw [qU_n cb] at hb
    exact Or.inr ⟨b, tb, f, hb, hf, rfl⟩
theorem rap_eq {p W : Nat} {s1 : Cr} : (if p = 0 then sQ s1 (s1.2.2.1 ++ [W]) s1.2.2.2 else sQ s1 s1.2.2.1 (s1.2.2.2 ++ [W])) = sQ s1 (rAp s1 p W).1 (rAp s1 p W).2 := by
  unfold rAp
  split <;> rfl
/-- taking -/
theorem in_go {W j c a : Nat} {z : Sg} {r : List Fm} (o : oneW E) (I : Inv C M s w g Q E) (hw : wGd w) (e : Q t = some th) (e0 : thS th = 0) (ef : thF th = (W, j, z) :: r) (ra : rAny z) (nl : (zL z).2.1 = []) (k : thK th = []) (h11 : s.1 11 = nI (C.2 j)) (c2 : g.2.1 c = 2) (cM : c < M) (ow : g.1 c ∈ t :: thA th) (tk : g.2.2.2 c = t) (ha : okD M g (t :: thA th) a) :
    ∃ s' w', cIn s w (nI c) (nI a) = some (s', w') ∧ wSt E w w' ∧ ∃ Q', Inv C M s' w' g Q' E ∧ nFr (fun _ _ => False) Q Q' := by
  obtain ⟨hW, hWM, p1, ct⟩ := W_M I e ef
  have hM := I.1.2
  obtain ⟨q14, q12, q15, qp, qr⟩ := run_0 I e e0 ef
  obtain ⟨n12, h⟩ := tk_w o I e e0 ef nl c2 tk
  have ac := ad_n I.1 cM
  have aa := ad_n I.1 ha.2.1
  have onlyT : ∀ b tb Wb jb zb rb, Q b = some tb → thF tb = (Wb, jb, zb) :: rb → (zL zb).2.1 ≠ [] → g.2.2.2 c ≠ b := by
    intro b tb Wb jb zb rb eb fb ne y
    rw [tk] at y
    subst y
    rw [e] at eb
    cases eb
    rw [ef] at fb
    cases fb
    exact ne nl
  have wait : s.2.1 c = -1 → (c = 13 → w.1 1 ≤ w.1 2) → ∃ s', cWait s c (nI a) = some s' ∧ Inv C M s' w g (qU Q t (thN th 2 c)) E := fun m1 g1 => by
    obtain ⟨s', x1, x2, -⟩ := wt_go (w' := w) (st := 2) I e e0 ef (Or.inl rfl) ra nl k h11 c2 ow (fun _ => ⟨tk, a, rfl, ha⟩) (fun y => absurd y (by decide)) (fun b tb _ eb hs => no_w I m1 b tb eb hs) ⟨fun _ => rfl, rfl, rfl⟩ (wsO_r e I.2.2.2.2 (fun c _ => ⟨fun y => absurd (show (2 : Nat) = 3 from y.1) (by decide), fun y => by omega⟩) (fun _ => g1))
    exact ⟨s', x1, x2⟩
  have take : ∀ (v : Int32) (w' : Wd), Inv C M s w' g Q E → Inv C M (sM s a v) w' g (qU Q t ((W, j, zSA z (zA z)) :: r, th.2)) E := fun v w' I' => by
    refine dw_go I' e e0 ef (fun _ _ => rfl) rfl (fun x hx => ?_) qp ?_
    · have hx : (if x = a then v else s.2.1 x) ≠ s.2.1 x := hx
      by_cases c1 : x = a
      · rw [c1]; exact ha.2.2.1
      · rw [if_neg c1] at hx; exact (hx rfl).elim
    · unfold rOK
      rw [show zA (zSA z (zA z)) = (k0, k0, k0) from ra]
      exact ⟨trivial, trivial, trivial⟩
  have un : cIn s w (nI c) (nI a) = (if c = 13 then if w.1 1 ≤ w.1 2 then (cWait s c (nI a)).map fun s => (s, w) else (adM s (nI a)).bind fun x => if mj_in (w.1 2) 200 then some (sM s x (w.2.2.1 (w.1 2).toNatClampNeg), wH w 2 (w.1 2 + 1)) else none
      else if c < 12 then if w.2.1 c 4 = 4 then (adM s (nI a)).map fun x => (sM s x (w.2.1 c 1), wL (wL w c 4 0) c 5 1) else (cWait s c (nI a)).map fun s => (s, w)
      else if c = 12 then none
      else if s.2.1 c = -1 then (cWait s c (nI a)).map fun s => (s, w)
      else if mj_in (s.2.1 c) 8032 then (adM s (s.2.1 c / 2 - 2)).bind fun y => (adM s (nI a)).bind fun x => (cReady (sM (sM s x (s.2.1 y)) c (-1)) (s.2.1 c)).map fun s => (s, w) else none) := by
    unfold cIn
    rw [ac]
    rfl
  rw [un]
  by_cases c13 : c = 13
  · subst c13
    rw [if_pos rfl]
    by_cases g1 : w.1 1 ≤ w.1 2
    · rw [if_pos g1]
      rcases h with h | ⟨h, -⟩
      · obtain ⟨s', x1, x2⟩ := wait h (fun _ => g1)
        exact ⟨s', w, by rw [x1]; rfl, Or.inl rfl, _, x2, nFr_N e⟩
      · omega
    · rw [if_neg g1, aa]
      have hin : mj_in (w.1 2) 200 := by
        obtain ⟨-, b1, b2⟩ := hw
        unfold mj_in
        have b3 : w.1 2 < w.1 1 := by
          rw [Int32.lt_iff_toInt_lt]
          rw [Int32.le_iff_toInt_le] at g1
          omega
        rw [Int32.le_iff_toInt_le] at b1 b2
        rw [Int32.lt_iff_toInt_lt] at b3
        have e0 : ((0 : Int32)).toInt = 0 := rfl
        have e200 : ((200 : Int32)).toInt = 200 := rfl
        rw [e0] at b1
        rw [e200] at b2
        exact ⟨b1, by omega⟩
      refine ⟨sM s a (w.2.2.1 (w.1 2).toNatClampNeg), wH w 2 (w.1 2 + 1), ?_, Or.inr (Or.inr (Or.inl ⟨en_T I (by omega) e tk, g1, rfl⟩)), _, take _ _ (w_ch I (fun b tb Wb jb zb rb x eb fb ne _ _ xt => ?_) ⟨I.2.2.2.2.1, I.2.2.2.2.2.1, fun b tb eb h2 h13 => ?_⟩), nFr_s e ef⟩
      · show (if mj_in (w.1 2) 200 then _ else none) = _
        rw [if_pos hin]
      · unfold hasC
        by_cases x13 : x = 13
        · subst x13
          exact (onlyT b tb Wb jb zb rb eb fb ne xt).elim
        · rw [if_neg x13, if_neg x13]
          exact id
      · have := (w2_tk I eb h2).1
        rw [h13, tk] at this
        subst this
        rw [e] at eb
        cases eb
        omega
  · rw [if_neg c13]
    by_cases c12 : c < 12
    · rw [if_pos c12]
      by_cases f4 : w.2.1 c 4 = 4
      · rw [if_pos f4, aa]
        refine ⟨sM s a (w.2.1 c 1), wL (wL w c 4 0) c 5 1, rfl, Or.inr (Or.inr (Or.inr (Or.inl ⟨c, c12, en_T I (by omega) e tk, f4, rfl⟩))), _, take _ _ (w_ch I (fun b tb Wb jb zb rb x eb fb ne _ _ xt => ?_) ?_), nFr_s e ef⟩
        · unfold hasC
          by_cases xc : x = c
          · subst xc
            exact (onlyT b tb Wb jb zb rb eb fb ne xt).elim
          · have : (wL (wL w c 4 0) c 5 1).2.1 x 4 = w.2.1 x 4 := by
              show (if x = c ∧ 4 = 5 then _ else if x = c ∧ 4 = 4 then _ else w.2.1 x 4) = _
              rw [if_neg (fun y => xc y.1), if_neg (fun y => xc y.1)]
            rw [this]
            exact id
        · obtain ⟨u1, u2, u3⟩ := I.2.2.2.2
          refine ⟨u1, fun c' hc' ec => ?_, u3⟩
          have f : ∀ k, k ≠ 4 → k ≠ 5 → (wL (wL w c 4 0) c 5 1).2.1 c' k = w.2.1 c' k := by
            intro k k4 k5
            show (if c' = c ∧ k = 5 then _ else if c' = c ∧ k = 4 then _ else w.2.1 c' k) = _
            rw [if_neg (fun y => k5 y.2), if_neg (fun y => k4 y.2)]
          rw [f 0 (by decide) (by decide), f 2 (by decide) (by decide), f 3 (by decide) (by decide)]
          exact u2 c' hc' ec
      · rw [if_neg f4]
        rcases h with h | ⟨h, -⟩
        · obtain ⟨s', x1, x2⟩ := wait h (fun y => (c13 y).elim)
          exact ⟨s', w, by rw [x1]; rfl, Or.inl rfl, _, x2, nFr_N e⟩
        · omega
    · rw [if_neg c12, if_neg n12]
      rcases h with h | ⟨h14, b, tb, Wb, jb, zb, rb, eb, hb, b3, bc, fb, md⟩
      · rw [if_pos h]
        obtain ⟨s', x1, x2⟩ := wait h (fun y => (c13 y).elim)
        exact ⟨s', w, by rw [x1]; rfl, Or.inl rfl, _, x2, nFr_N e⟩
      · obtain ⟨hWb, hWbM, pb, ctb⟩ := W_M I eb fb
        rw [md, if_neg (nI_m1 (by omega)), if_pos (ds_in pb (by omega)), show (2 : Int32) = nI 2 from rfl]
        have d2 := ds_ad (s := s) (M := M) (n := Wb) (b := thP tb) (k := 2) I.1 pb (by omega) (by omega) (by omega)
        rw [show nI (2 * Wb + thP tb) / nI 2 - nI 2 = nI (2 * Wb + thP tb) / 2 - nI 2 from rfl, d2, aa]
        have rl := row_lt I
        have rd := rd_ok (s := sM (sM s a (s.2.1 (Wb - 2))) c (-1)) (n := Wb) (b := thP tb) pb (by omega) rl
        refine ⟨sQ (sM (sM s a (s.2.1 (Wb - 2))) c (-1)) (rAp (sM (sM s a (s.2.1 (Wb - 2))) c (-1)) (thP tb) Wb).1 (rAp (sM (sM s a (s.2.1 (Wb - 2))) c (-1)) (thP tb) Wb).2, w, ?_, Or.inl rfl, qU Q b (thN tb 1 0), ?_, nFr_N eb⟩
        · show (cReady (sM (sM s a (s.2.1 (Wb - 2))) c (-1)) (nI (2 * Wb + thP tb))).map _ = _
          rw [rd, rap_eq]
          rfl
        · refine wk_go (c := c) I eb (Or.inr b3) fb bc (fun _ => rfl) rfl (if_pos rfl) (fun x hx => ?_) (fun b' tb' hb' eb' hs' y => ?_) ⟨fun _ => rfl, rfl, rfl⟩ (fun _ _ b' tb' Wb' jb' zb' rb' _ eb' fb' ne => onlyT b' tb' Wb' jb' zb' rb' eb' fb' ne) (wsO_r eb I.2.2.2.2 (fun c' hc' => ⟨fun y => absurd (show (1 : Nat) = 3 from y.1) (by decide), fun y => by omega⟩) (fun h => absurd (show (1 : Nat) = 2 from h) (by decide)))
          · have hx : (if x = c then -1 else if x = a then s.2.1 (Wb - 2) else s.2.1 x) ≠ s.2.1 x := hx
            by_cases c1 : x = c
            · exact Or.inr c1
            · rw [if_neg c1] at hx
              by_cases c3 : x = a
              · rw [c3]; exact Or.inl ha.2.2.1
              · rw [if_neg c3] at hx; exact (hx rfl).elim
          · rcases hs' with hs' | hs'
            · have := (w2_tk I eb' hs').1
              rw [y, tk] at this
              subst this
              rw [e] at eb'
              cases eb'
              omega
            · have a1 := (w3_sd I eb' hs').1
              have a2 := (w3_sd I eb b3).1
              rw [y] at a1
              rw [bc] at a2
              exact hb' (a1.symm.trans a2)
end
