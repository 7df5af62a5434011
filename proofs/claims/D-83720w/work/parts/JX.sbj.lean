/-! (S): guards are disabled; ALT goes on -/
section
variable {C : Cx} {M : Nat} {E : En} {s s' : Cr} {w w' : Wd} {g : Gh} {Q : Thr} {t b : Nat} {th tb : Th}
/-- a guard was looked at -/
theorem aOK_d {A : List Nat} {W pri dis en bs : Nat} {z : Sg} {o : Int} {gs : List (Bool × Nat)} (h : aOK C s w g A t W z pri 0) (hL : zL z = (o, gs, en, dis, bs)) (hb : bs ≠ 0) (hW : 3 ≤ W)
    (e3 : ∀ x, g.2.1 x = 3 → s'.2.1 x = s.2.1 x) (m3 : s'.2.1 (W - 3) = s.2.1 (W - 3)) (hh : ∀ x, g.2.1 x = 2 → hasC s w x (nI (2 * W + pri)) → hasC s' w x (nI (2 * W + pri)))
    (hd : gAv s w W o gs (nI (2 * W + pri)) dis → s'.2.1 W ≠ -1) (hk : s.2.1 W ≠ -1 → s'.2.1 W = s.2.1 W) (h5 : s'.2.1 W ≠ -1 → s'.2.1 W = s.2.1 W ∨ ∃ (i : Nat) (b : Bool) (n : Nat), gs[i]? = some (b, n) ∧ s'.2.1 W = nI (C.2 n) - nI (C.2 bs)) : aOK C s' w g A t W (zSL z (o, gs, en, dis + 1, bs)) pri 0 := by
  intro ne
  have ne : gs ≠ [] := ne
  unfold aOK at h
  rw [hL] at h
  obtain ⟨b1, b2, b3, b4, b5, b6, b7⟩ := h ne
  unfold aRl at b1
  rw [hL] at b1
  have r1 : ∀ (i : Nat) (b : Bool) (n : Nat), gs[i]? = some (b, n) → s'.2.1 ((W : Int) + o + 2 * i).toNat = s.2.1 ((W : Int) + o + 2 * i).toNat := fun i b n hi => e3 _ (b1 i b n hi).1.1
  have r2 : ∀ (i n : Nat), gs[i]? = some (true, n) → s'.2.1 ((W : Int) + o + 2 * i + 1).toNat = s.2.1 ((W : Int) + o + 2 * i + 1).toNat := fun i n hi => e3 _ ((b1 i true n hi).2 rfl).1.1
  have z3 := b7 hb (by decide)
  refine ⟨fun i b n hi => ?_, by rw [m3]; exact b2, by rw [m3]; exact b3, fun y => ?_, fun y => ?_, fun y => (hb y).elim, fun _ _ => m3.trans z3⟩
  · have hi : gs[i]? = some (b, n) := hi
    obtain ⟨⟨c1, c2⟩, c3⟩ := b1 i b n hi
    refine ⟨⟨c1, c2⟩, fun y => ?_⟩
    subst y
    obtain ⟨⟨d1, d2⟩, d3⟩ := c3 rfl
    refine ⟨⟨d1, d2⟩, ?_⟩
    show g.2.1 (gCh s' W o i) = 2 ∧ g.1 (gCh s' W o i) ∈ A ∧ g.2.2.2 (gCh s' W o i) = t ∧ s'.2.1 ((W : Int) + o + 2 * i + 1).toNat = nI (gCh s' W o i)
    unfold gCh
    rw [r2 i n hi]
    exact d3
  · by_cases c0 : s'.2.1 W = -1
    · refine Or.inr ?_
      rcases b4 z3 with q | ⟨i, i1, i2, i3⟩
      · exact (q ((hk q).symm.trans c0)).elim
      · have i1 : dis ≤ i := i1
        have i2 : i < en := i2
        have nd : i ≠ dis := fun y => by
          subst y
          exact hd i3 c0
        obtain ⟨f1, b, n, f2, f3⟩ := i3
        have f2 : gs[i]? = some (b, n) := f2
        refine ⟨i, by show dis + 1 ≤ i; omega, i2, ?_, b, n, f2, fun hb => ?_⟩
        · show s'.2.1 ((W : Int) + o + 2 * i).toNat ≠ 0
          rw [r1 i b n f2]
          exact f1
        · subst hb
          have := f3 rfl
          show hasC s' w (gCh s' W o i) _
          have ec : gCh s' W o i = gCh s W o i := by unfold gCh; rw [r2 i n f2]
          rw [ec]
          exact hh _ ((b1 i true n f2).2 rfl).2.1 this
    · exact Or.inl c0
  · rcases h5 y with q | q
    · rw [q] at y ⊢
      exact b5 y
    · exact q
theorem po3_r {s : Cr} (i : Nat) (h8 : i ≠ 8) (h9 : i ≠ 9) : (cPop (cPop (cPop s))).1 i = s.1 i := by rw [po_r i h8 h9, po_r i h8 h9, po_r i h8 h9]
variable {R : Nat → Sg → Prop} {j : Nat} {z : Sg}
/-- a guard with a channel is disabled -/
theorem i_dsb {o : Int} {gs : List (Bool × Nat)} {en dis n n1 n2 bs : Nat} (ow : oneW E) (hC : C.1 j = some (15, nI 26)) (z0 : (zR z).1 = 0) (h1 : 1 ≤ (zI z).2) (hL : zL z = (o, gs, en, dis, bs)) (hbs : bs ≠ 0) (hi : gs[dis]? = some (true, n)) (ha : (zA z).1 = (5, n1, o + 2 * dis + 1)) (hb : (zA z).2.1 = (5, n2, o + 2 * dis)) (hc : (zA z).2.2 = (8, n, (bs : Int))) (hw1 : C.2 bs ≤ C.2 n) (hw2 : C.2 n ≤ 6000)
    (hR : R (j + 1) (zSL z (o, gs, en, dis + 1, bs))) : rul C M E R j z := by
  refine ⟨15, nI 26, hC, fun s w g Q t th W r I hw e e0 ef h11 => ?_⟩
  obtain ⟨hE, hr⟩ := fE_i I e e0 ef
  obtain ⟨hW, hWM, p1, ct⟩ := W_M I e ef
  have hM := I.1.2
  have k := kid_0 I e e0 ef z0
  obtain ⟨q14, q12, q15, qp, qr⟩ := run_0 I e e0 ef
  obtain ⟨A, ne, r1, r2⟩ := gd_w I e e0 ef hL hi
  obtain ⟨r2, r3, r4, r5, r6⟩ := r2 rfl
  have w0 := (ct 0 (by omega)).1
  rw [Nat.sub_zero] at w0
  have w3 := (ct 3 (by omega)).1
  have v8 : s.1 8 = nI (gCh s W o dis) := by
    have := hr.1
    rw [ha] at this
    rw [rg_5 this, show (W : Int) + (o + 2 * dis + 1) = W + o + 2 * dis + 1 by omega]
    exact r6
  have v9 : s.1 9 = s.2.1 (W + o + 2 * dis).toNat := by
    have := hr.2.1
    rw [hb] at this
    rw [rg_5 this, show (W : Int) + (o + 2 * dis) = W + o + 2 * dis by omega]
  have v10 : s.1 10 = nI (C.2 n) - nI (C.2 bs) := by
    have := hr.2.2
    rw [hc] at this
    exact this
  have way : nI (C.2 n) - nI (C.2 bs) ≠ -1 := by
    rw [nI_sub hw1]
    exact nI_m1 (by omega)
  have cM := (I.2.2.1 _ r3).1
  have rg : ∀ i, i = 5 ∨ i = 12 ∨ i = 14 ∨ i = 15 ∨ (22 ≤ i ∧ i ≤ 27) → (cPop (cPop (cPop (sR (rdB s) 13 0)))).1 i = s.1 i := fun i hi => by rw [po3_r i (by omega) (by omega)]; exact rd_r i (by omega)
  have ps : pos C (j + 1) ((cPop (cPop (cPop (sR (rdB s) 13 0)))).1 11) ((cPop (cPop (cPop (sR (rdB s) 13 0)))).1 13) := Or.inl ⟨h11, rfl⟩
  have eE : ∀ (s1 : Cr) c, c ≠ gCh s W o dis ∨ s.1 9 = 0 → (∀ x, g.2.1 x = 3 → s1.2.1 x = s.2.1 x) → aEn s W z c → aEn s1 W (zSL z (o, gs, en, dis + 1, bs)) c := by
    intro s1 c hcd h3 ae
    have := aEn_mv (s' := s1) (A (by rw [hL]; exact ne)).1 ae (fun x _ h => h3 x h)
    unfold aEn at this ae
    rw [hL] at this
    obtain ⟨i, n', d1, d2, d3, d4, d5⟩ := this
    have d1 : dis ≤ i := d1
    have d4' : s1.2.1 ((W : Int) + o + 2 * i).toNat ≠ 0 := d4
    have d5' : (s1.2.1 ((W : Int) + o + 2 * i + 1).toNat).toNatClampNeg = c := d5
    have nd : i ≠ dis := fun y => by
      subst y
      rw [h3 _ r1, ← v9] at d4'
      rcases hcd with hcd | hcd
      · rw [h3 _ r2] at d5'
        exact hcd d5'.symm
      · exact d4' hcd
    exact ⟨i, n', by show dis + 1 ≤ i; omega, d2, d3, d4, d5⟩
  have un : xI (sR (rdB s) 13 0) w 15 (nI 26) = (cDis (cPop (cPop (cPop (sR (rdB s) 13 0)))) w (s.1 8) (s.1 9) (s.1 10)).map fun s => (s, w) := by
    rw [x_sch (by decide) (by decide)]
    rfl
  rw [un]
  by_cases f0 : s.1 9 = 0
  · refine ⟨cPop (cPop (cPop (sR (rdB s) 13 0))), w, ?_, Or.inl rfl, g, qU Q t ((W, j + 1, zSL z (o, gs, en, dis + 1, bs)) :: r, th.2), ?_, nFr_1 e ef hR⟩
    · unfold cDis
      rw [if_pos f0]
      rfl
    · refine al_go I e e0 ef k h1 rg rfl (fun x hx => (hx rfl).elim) ps (aOK_d A hL hbs (by omega) (fun _ _ => rfl) rfl (fun _ _ y => y) (fun y => ?_) (fun _ => rfl) (fun _ => Or.inl rfl)) (fun c hc => Or.inr (Or.inr ⟨rfl, fun _ ae => eE _ c (Or.inr f0) (fun _ _ => rfl) ae⟩))
      exact (y.1 (v9.symm.trans f0)).elim
  · obtain ⟨n12, tv⟩ := tk_v ow I e e0 ef r3 r5
    have q12' : (cPop (cPop (cPop (sR (rdB s) 13 0)))).1 12 = nI W := by rw [po3_r 12 (by omega) (by omega)]; exact q12
    have sf : cSelf (cPop (cPop (cPop (sR (rdB s) 13 0)))) = nI (2 * W + thP th) := sf_ok q12' (by rw [po3_r 15 (by omega) (by omega)]; exact q15)
    obtain ⟨b, hb1, hb2⟩ := cHas_ok (s := cPop (cPop (cPop (sR (rdB s) 13 0)))) (w := w) n12
    rw [sf] at hb2
    have hb2 : b = true ↔ hasC s w (gCh s W o dis) (nI (2 * W + thP th)) := hb2
    generalize hcc : gCh s W o dis = c at v8 r3 r4 r5 r6 cM tv n12 hb1 hb2 eE
    have cW : c ≠ W := fun y => by rw [y] at r3; omega
    have cW3 : c ≠ W - 3 := fun y => by rw [y] at r3; omega
    -- what comes of it
    have fin : ∀ s' : Cr, s'.1 = (cPop (cPop (cPop (sR (rdB s) 13 0)))).1 → s'.2.2 = s.2.2 → (∀ x, x ≠ c → x ≠ W → s'.2.1 x = s.2.1 x) → s'.2.1 c = (if s.2.1 c = nI (2 * W + thP th) then -1 else s.2.1 c) → s'.2.1 W = (if b = true ∧ s.2.1 W = -1 then s.1 10 else s.2.1 W) → Inv C M s' w g (qU Q t ((W, j + 1, zSL z (o, gs, en, dis + 1, bs)) :: r, th.2)) E := by
      intro s' y1 y2 y3 y4 y5
      have e3 : ∀ x, g.2.1 x = 3 → s'.2.1 x = s.2.1 x := fun x hx => y3 x (fun y => by rw [y] at hx; omega) (fun y => by rw [y] at hx; omega)
      refine al_go I e e0 ef k h1 (fun i hi => by rw [y1]; exact rg i hi) y2 (fun x hx => ?_) (by rw [y1]; exact ps) (aOK_d A hL hbs (by omega) e3 (y3 _ (fun y => cW3 y.symm) (by omega)) (fun x x2 hx => ?_) (fun y => ?_) (fun y => ?_) (fun y => ?_)) (fun c' hc' => ?_)
      · by_cases x1 : x = c
        · subst x1
          refine Or.inr (Or.inr ⟨r3, r5, ?_⟩)
          by_cases x2 : s.2.1 x = nI (2 * W + thP th)
          · exact Or.inr x2
          · rw [if_neg x2] at y4
            exact (hx y4).elim
        · by_cases x2 : x = W
          · exact Or.inl x2
          · exact (hx (y3 x x1 x2)).elim
      · by_cases x1 : x = c
        · subst x1
          unfold hasC at hx ⊢
          by_cases u1 : x = 13
          · rw [if_pos u1] at hx ⊢
            exact hx
          · rw [if_neg u1] at hx ⊢
            by_cases u2 : x < 12
            · rw [if_pos u2] at hx ⊢
              exact hx
            · rw [if_neg u2] at hx ⊢
              rw [y4, if_neg hx.2]
              exact hx
        · unfold hasC at hx ⊢
          rw [y3 x x1 (fun y => by rw [y] at x2; omega)]
          exact hx
      · obtain ⟨g1, b', n', g2, g3⟩ := y
        rw [hi] at g2
        cases g2
        have hbt : b = true := hb2.mpr (by rw [← hcc]; exact g3 rfl)
        rw [y5]
        by_cases u : s.2.1 W = -1
        · rw [if_pos ⟨hbt, u⟩, v10]
          exact way
        · rw [if_neg (fun y => u y.2)]
          exact u
      · rw [y5, if_neg (fun z => y z.2)]
      · rw [y5]
        by_cases u : b = true ∧ s.2.1 W = -1
        · rw [if_pos u]
          exact Or.inr ⟨dis, true, n, hi, v10⟩
        · rw [if_neg u]
          exact Or.inl rfl
      · by_cases x1 : c' = c
        · subst x1
          by_cases x2 : s.2.1 c' = nI (2 * W + thP th)
          · rw [if_pos x2] at y4
            exact Or.inl y4
          · rw [if_neg x2] at y4
            exact Or.inr (Or.inr ⟨y4, fun y => (x2 y).elim⟩)
        · exact Or.inr (Or.inr ⟨y3 c' x1 (fun y => by rw [y] at hc'; omega), fun _ ae => eE s' c' (Or.inl x1) e3 ae⟩)
    have x0 : adM (cPop (cPop (cPop (sR (rdB s) 13 0)))) ((cPop (cPop (cPop (sR (rdB s) 13 0)))).1 12) = some W := by rw [q12']; exact ad_n (s := cPop (cPop (cPop (sR (rdB s) 13 0)))) (M := M) I.1 hWM
    have un2 : cDis (cPop (cPop (cPop (sR (rdB s) 13 0)))) w (s.1 8) (s.1 9) (s.1 10) = some (if b = true ∧ s.2.1 W = -1 then sM (if s.2.1 c = nI (2 * W + thP th) then sM (cPop (cPop (cPop (sR (rdB s) 13 0)))) c (-1) else cPop (cPop (cPop (sR (rdB s) 13 0)))) W (s.1 10) else (if s.2.1 c = nI (2 * W + thP th) then sM (cPop (cPop (cPop (sR (rdB s) 13 0)))) c (-1) else cPop (cPop (cPop (sR (rdB s) 13 0))))) := by
      unfold cDis
      rw [if_neg f0, v8, ad_n (s := cPop (cPop (cPop (sR (rdB s) 13 0)))) (M := M) I.1 cM]
      show (cHas (cPop (cPop (cPop (sR (rdB s) 13 0)))) w c).bind _ = _
      rw [hb1]
      show (adM (cPop (cPop (cPop (sR (rdB s) 13 0)))) ((cPop (cPop (cPop (sR (rdB s) 13 0)))).1 12)).bind _ = _
      rw [x0, sf]
      show (if c = W then none else _) = _
      rw [if_neg cW]
      rfl
    rw [un2]
    refine ⟨_, w, rfl, Or.inl rfl, g, _, fin _ ?_ ?_ (fun x x1 x2 => ?_) ?_ ?_, nFr_1 e ef hR⟩
    · split <;> split <;> rfl
    · split <;> split <;> rfl
    · split <;> split
      · show (if x = W then _ else if x = c then _ else s.2.1 x) = _
        rw [if_neg x2, if_neg x1]
      · show (if x = W then _ else s.2.1 x) = _
        rw [if_neg x2]
      · show (if x = c then _ else s.2.1 x) = _
        rw [if_neg x1]
      · rfl
    · split <;> split
      · show (if c = W then _ else if c = c then _ else s.2.1 c) = _
        rw [if_neg cW, if_pos rfl]
      · show (if c = W then _ else s.2.1 c) = _
        rw [if_neg cW]
      · exact if_pos rfl
      · rfl
    · split <;> split
      · exact if_pos rfl
      · exact if_pos rfl
      · show (if W = c then _ else s.2.1 W) = _
        rw [if_neg (fun y => cW y.symm)]
      · rfl
/-- a guard without a channel is disabled -/
theorem i_dss {o : Int} {gs : List (Bool × Nat)} {en dis n n1 bs : Nat} (hC : C.1 j = some (15, nI 27)) (z0 : (zR z).1 = 0) (h1 : 1 ≤ (zI z).2) (hL : zL z = (o, gs, en, dis, bs)) (hbs : bs ≠ 0) (hi : gs[dis]? = some (false, n)) (ha : (zA z).1 = (5, n1, o + 2 * dis)) (hb : (zA z).2.1 = (8, n, (bs : Int))) (hw1 : C.2 bs ≤ C.2 n) (hw2 : C.2 n ≤ 6000)
    (hR : R (j + 1) (zSL z (o, gs, en, dis + 1, bs))) : rul C M E R j z := by
  refine ⟨15, nI 27, hC, fun s w g Q t th W r I hw e e0 ef h11 => ?_⟩
  obtain ⟨hE, hr⟩ := fE_i I e e0 ef
  obtain ⟨hW, hWM, p1, ct⟩ := W_M I e ef
  have hM := I.1.2
  have k := kid_0 I e e0 ef z0
  obtain ⟨A, ne, r1, -⟩ := gd_w I e e0 ef hL hi
  have w0 := (ct 0 (by omega)).1
  rw [Nat.sub_zero] at w0
  have v8 : s.1 8 = s.2.1 (W + o + 2 * dis).toNat := by
    have := hr.1
    rw [ha] at this
    rw [rg_5 this, show (W : Int) + (o + 2 * dis) = W + o + 2 * dis by omega]
  have v9 : s.1 9 = nI (C.2 n) - nI (C.2 bs) := by
    have := hr.2.1
    rw [hb] at this
    exact this
  have way : nI (C.2 n) - nI (C.2 bs) ≠ -1 := by
    rw [nI_sub hw1]
    exact nI_m1 (by omega)
  have rg : ∀ i, i = 5 ∨ i = 12 ∨ i = 14 ∨ i = 15 ∨ (22 ≤ i ∧ i ≤ 27) → (cPop (cPop (sR (rdB s) 13 0))).1 i = s.1 i := fun i hi => by rw [po2_r i (by omega) (by omega)]; exact rd_r i (by omega)
  have ps : pos C (j + 1) ((cPop (cPop (sR (rdB s) 13 0))).1 11) ((cPop (cPop (sR (rdB s) 13 0))).1 13) := Or.inl ⟨h11, rfl⟩
  have eE : ∀ (s1 : Cr) c, (∀ x, g.2.1 x = 3 → s1.2.1 x = s.2.1 x) → aEn s W z c → aEn s1 W (zSL z (o, gs, en, dis + 1, bs)) c := by
    intro s1 c h3 ae
    have := aEn_mv (s' := s1) (A (by rw [hL]; exact ne)).1 ae (fun x _ h => h3 x h)
    unfold aEn at this
    rw [hL] at this
    obtain ⟨i, n', d1, d2, d3, d4, d5⟩ := this
    have d1 : dis ≤ i := d1
    have d3 : gs[i]? = some (true, n') := d3
    have nd : i ≠ dis := fun y => by
      subst y
      rw [hi] at d3
      cases d3
    exact ⟨i, n', by show dis + 1 ≤ i; omega, d2, d3, d4, d5⟩
  have x0 : adM (sR (rdB s) 13 0) ((sR (rdB s) 13 0).1 12) = some W := by rw [hE.2.1]; exact ad_n hE.1 hWM
  by_cases f0 : s.1 8 = 0
  · refine ⟨cPop (cPop (sR (rdB s) 13 0)), w, ?_, Or.inl rfl, g, qU Q t ((W, j + 1, zSL z (o, gs, en, dis + 1, bs)) :: r, th.2), ?_, nFr_1 e ef hR⟩
    · rw [x_sch (by decide) (by decide)]
      show (if s.1 8 = 0 then some (cPop (cPop (sR (rdB s) 13 0)), w) else _) = _
      rw [if_pos f0]
    · refine al_go I e e0 ef k h1 rg rfl (fun x hx => (hx rfl).elim) ps (aOK_d A hL hbs (by omega) (fun _ _ => rfl) rfl (fun _ _ y => y) (fun y => ?_) (fun _ => rfl) (fun _ => Or.inl rfl)) (fun c hc => Or.inr (Or.inr ⟨rfl, fun _ ae => eE _ c (fun _ _ => rfl) ae⟩))
      exact (y.1 (v8.symm.trans f0)).elim
  · by_cases u : s.2.1 W = -1
    · refine ⟨sM (cPop (cPop (sR (rdB s) 13 0))) W (s.1 9), w, ?_, Or.inl rfl, g, qU Q t ((W, j + 1, zSL z (o, gs, en, dis + 1, bs)) :: r, th.2), ?_, nFr_1 e ef hR⟩
      · rw [x_sch (by decide) (by decide)]
        show (if s.1 8 = 0 then _ else (adM (sR (rdB s) 13 0) ((sR (rdB s) 13 0).1 12)).map _) = _
        rw [if_neg f0, x0]
        show some ((if s.2.1 W = -1 then _ else _), w) = _
        rw [if_pos u]
        rfl
      · have em : ∀ x, x ≠ W → (sM (cPop (cPop (sR (rdB s) 13 0))) W (s.1 9)).2.1 x = s.2.1 x := fun x hx => if_neg hx
        have mW : (sM (cPop (cPop (sR (rdB s) 13 0))) W (s.1 9)).2.1 W = nI (C.2 n) - nI (C.2 bs) := (if_pos rfl).trans v9
        have e3 : ∀ x, g.2.1 x ≠ 4 → (sM (cPop (cPop (sR (rdB s) 13 0))) W (s.1 9)).2.1 x = s.2.1 x := fun x hx => em x (fun y => by rw [y] at hx; exact hx w0)
        refine al_go I e e0 ef k h1 rg rfl (fun x hx => Or.inl (Classical.byContradiction fun y => hx (em x y))) ps (aOK_d A hL hbs (by omega) (fun x hx => e3 x (by omega)) (em _ (by omega)) (fun x x2 hx => ?_) (fun _ => by rw [mW]; exact way) (fun y => (y u).elim) (fun _ => Or.inr ⟨dis, false, n, hi, mW⟩)) (fun c hc => Or.inr (Or.inr ⟨e3 c (by omega), fun _ ae => eE _ c (fun x hx => e3 x (by omega)) ae⟩))
        unfold hasC at hx ⊢
        rw [e3 x (by omega)]
        exact hx
    · refine ⟨cPop (cPop (sR (rdB s) 13 0)), w, ?_, Or.inl rfl, g, qU Q t ((W, j + 1, zSL z (o, gs, en, dis + 1, bs)) :: r, th.2), ?_, nFr_1 e ef hR⟩
      · rw [x_sch (by decide) (by decide)]
        show (if s.1 8 = 0 then _ else (adM (sR (rdB s) 13 0) ((sR (rdB s) 13 0).1 12)).map _) = _
        rw [if_neg f0, x0]
        show some ((if s.2.1 W = -1 then _ else _), w) = _
        rw [if_neg u]
      · exact al_go I e e0 ef k h1 rg rfl (fun x hx => (hx rfl).elim) ps (aOK_d A hL hbs (by omega) (fun _ _ => rfl) rfl (fun _ _ y => y) (fun _ => u) (fun _ => rfl) (fun _ => Or.inl rfl)) (fun c hc => Or.inr (Or.inr ⟨rfl, fun _ ae => eE _ c (fun _ _ => rfl) ae⟩))
/-- ALT goes on -/
theorem i_alte {o : Int} {gs : List (Bool × Nat)} {en : Nat} (hC : C.1 j = some (15, nI 28)) (z0 : (zR z).1 = 0) (h1 : 1 ≤ (zI z).2) (hL : zL z = (o, gs, en, en, j + 1)) (ne : gs ≠ []) (hR : ∀ b n, (b, n) ∈ gs → R n (zSL z (0, [], 0, 0, 0))) : rul C M E R j z := by
  refine ⟨15, nI 28, hC, fun s w g Q t th W r I hw e e0 ef h11 => ?_⟩
  obtain ⟨hE, hr⟩ := fE_i I e e0 ef
  obtain ⟨hW, hWM, p1, ct⟩ := W_M I e ef
  have hM := I.1.2
  have k := kid_0 I e e0 ef z0
  have h11' : (sR (rdB s) 13 0).1 11 = nI (C.2 (j + 1)) := h11
  obtain ⟨W0, j0, z0', r0, a1, a2, a3, a4, a5, a6, a7, a8, a9, a10, a11, a12, a13, a14⟩ := I.2.1 t th e
  rw [ef] at a1
  cases a1
  have A := a10 (Or.inl e0)
  rw [e0] at A
  unfold aOK at A
  rw [hL] at A
  obtain ⟨b1, b2, b3, b4, b5, b6, b7⟩ := A ne
  have z3 := b7 (by show j + 1 ≠ 0; omega) (by decide)
  have mW : s.2.1 W ≠ -1 := by
    rcases b4 z3 with q | ⟨i, i1, i2, -⟩
    · exact q
    · have i1 : en ≤ i := i1
      have i2 : i < en := i2
      omega
  obtain ⟨i, b, n, c1, c2⟩ := b5 mW
  have c1 : gs[i]? = some (b, n) := c1
  have c2 : s.2.1 W = nI (C.2 n) - nI (C.2 (j + 1)) := c2
  have w3 := (ct 3 (by omega)).1
  have x3 := ad_b (k := 3) hE.1 hE.2.1 (by omega) (by omega) (by omega) (Or.inl (by omega))
  have x0 : adM (sR (rdB s) 13 0) ((sR (rdB s) 13 0).1 12) = some W := by rw [hE.2.1]; exact ad_n hE.1 hWM
  refine ⟨sR (sM (sR (rdB s) 13 0) (W - 3) 0) 11 ((sR (rdB s) 13 0).1 11 + s.2.1 W), w, ?_, Or.inl rfl, g, qU Q t ((W, n, zSL z (0, [], 0, 0, 0)) :: r, th.2), ?_, nFr_1 e ef (hR b n (List.mem_of_getElem? c1))⟩
  · rw [x_sch (by decide) (by decide)]
    show (adM (sR (rdB s) 13 0) ((sR (rdB s) 13 0).1 12 - 3)).bind _ = _
    rw [show (3 : Int32) = nI 3 from rfl, x3]
    show (adM (sR (rdB s) 13 0) ((sR (rdB s) 13 0).1 12)).map _ = _
    rw [x0]
    rfl
  · have em : ∀ x, x ≠ W - 3 → (sR (sM (sR (rdB s) 13 0) (W - 3) 0) 11 ((sR (rdB s) 13 0).1 11 + s.2.1 W)).2.1 x = s.2.1 x := fun x hx => if_neg hx
    refine al_go I e e0 ef k h1 (fun i hi => ?_) rfl (fun x hx => Or.inr (Or.inl (Classical.byContradiction fun y => hx (em x y)))) (Or.inl ⟨?_, rfl⟩) (fun ne => (ne rfl).elim) (fun c hc => Or.inr (Or.inr ⟨em c (fun y => by rw [y] at hc; omega), fun _ ae => ?_⟩))
    · show (if i = 11 then _ else (sR (rdB s) 13 0).1 i) = _
      rw [if_neg (by omega)]
      exact rd_r i (by omega)
    · show (sR (rdB s) 13 0).1 11 + s.2.1 W = _
      rw [h11', c2, Int32.add_comm, Int32.sub_add_cancel]
    · unfold aEn at ae
      rw [hL] at ae
      obtain ⟨i, n', d1, d2, -⟩ := ae
      have d1 : en ≤ i := d1
      have d2 : i < en := d2
      omega
end
