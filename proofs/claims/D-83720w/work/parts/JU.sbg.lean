/-! (S): sending; IN and OUT -/
section
variable {C : Cx} {M : Nat} {E : En} {s s' : Cr} {w w' : Wd} {g : Gh} {Q : Thr} {t b : Nat} {th tb : Th}
theorem out_go {W j c : Nat} {z : Sg} {r : List Fm} {v : Int32} (o : oneW E) (I : Inv C M s w g Q E) (hw : wGd w) (e : Q t = some th) (e0 : thS th = 0) (ef : thF th = (W, j, z) :: r) (ra : rAny z) (nl : (zL z).2.1 = []) (k : thK th = []) (h11 : s.1 11 = nI (C.2 j)) (c2 : g.2.1 c = 2) (cM : c < M) (ow : g.1 c ∈ t :: thA th) (sd : g.2.2.1 c = t) :
    ∃ s' w', cOut s w (nI c) v = some (s', w') ∧ wSt E w w' ∧ ∃ Q', Inv C M s' w' g Q' E ∧ nFr (fun _ _ => False) Q Q' := by
  obtain ⟨hW, hWM, p1, ct⟩ := W_M I e ef
  have hM := I.1.2
  obtain ⟨q14, q12, q15, qp, qr⟩ := run_0 I e e0 ef
  obtain ⟨n13, h⟩ := sd_w o I e e0 ef nl c2 sd
  have ac := ad_n I.1 cM
  have un : cOut s w (nI c) v = (if c = 12 then if w.1 4 < 0 then none else if 1000 ≤ w.1 4 then some (s, wH w 4 (w.1 4 + 1)) else some (s, wH (wO w (w.1 4).toNatClampNeg v) 4 (w.1 4 + 1))
    else if c < 12 then if w.2.1 c 0 = 0 ∧ w.2.1 c 2 = 0 ∧ w.2.1 c 3 = 0 then (cWait s c v).map fun s => (s, wL (wL w c 0 1) c 1 v) else none
    else if c = 13 then none
    else if s.2.1 c = -1 then (cWait s c v).map fun s => (s, w)
    else if mj_in (s.2.1 c) 8032 then (adM s (s.2.1 c / 2 - 3)).bind fun y =>
      if s.2.1 y = 0 then (adM s (s.2.1 c / 2 - 2)).bind fun z => (adM s (s.2.1 z)).bind fun x => (cReady (sM (sM s x v) c (-1)) (s.2.1 c)).map fun s => (s, w)
      else (adM s (s.1 12 - 1)).bind fun x1 => (adM s (s.1 12 - 2)).bind fun x2 => (adM s (s.1 12 - 3)).bind fun x3 => if y ≠ x1 ∧ y ≠ x2 ∧ y ≠ x3 ∧ y ≠ c then ((cWait s c v).bind fun s1 => cWake s1 (s.2.1 c)).map fun s => (s, w) else none
    else none) := by
    unfold cOut
    rw [ac]
    rfl
  have notw : ∀ b tb, b ≠ t → Q b = some tb → thS tb = 3 → thC tb ≠ c := fun b tb hb eb hs y => by
    have := (w3_sd I eb hs).1
    rw [y, sd] at this
    exact hb this.symm
  rw [un]
  by_cases c12 : c = 12
  · subst c12
    have hE := en_S I (by omega) e sd
    have hI : ∀ w' : Wd, w'.2.1 = w.2.1 → w'.1 1 = w.1 1 → w'.1 2 = w.1 2 → Inv C M s w' g Q E := fun w' f1 f2 f3 => by
      refine w_ch I (fun b tb Wb jb zb rb x _ _ _ _ _ _ => ?_) ?_
      · unfold hasC
        rw [f1, f2, f3]
        exact id
      · obtain ⟨u1, u2, u3⟩ := I.2.2.2.2
        refine ⟨u1, fun c' hc' ec => ?_, by rw [f2, f3]; exact u3⟩
        rw [f1]
        exact u2 c' hc' ec
    rw [if_pos rfl, if_neg hw.1]
    by_cases g1 : 1000 ≤ w.1 4
    · rw [if_pos g1]
      exact ⟨s, _, rfl, Or.inr (Or.inl ⟨v, hE, Or.inl rfl⟩), Q, hI _ rfl rfl rfl, nFr.rf⟩
    · rw [if_neg g1]
      exact ⟨s, _, rfl, Or.inr (Or.inl ⟨v, hE, Or.inr rfl⟩), Q, hI _ rfl rfl rfl, nFr.rf⟩
  · rw [if_neg c12]
    by_cases cl : c < 12
    · have hE := en_S I (by omega) e sd
      obtain ⟨u1, u2, u3⟩ := I.2.2.2.2
      obtain ⟨b1, b2⟩ := u2 c cl hE
      have f0 : w.2.1 c 0 = 0 := Classical.byContradiction fun y => by
        obtain ⟨b, tb, eb, b3, bc⟩ := b2 y
        have := (w3_sd I eb b3).1
        rw [bc, sd] at this
        subst this
        rw [e] at eb
        cases eb
        omega
      obtain ⟨f2, f3, f4⟩ := b1 f0
      have m1 : s.2.1 c = -1 := by
        rcases h with h | ⟨h, -⟩
        · exact h
        · omega
      rw [if_pos cl, if_pos ⟨f0, f2, f3⟩]
      have g0 : ∀ c' k, ¬ (c' = c ∧ (k = 0 ∨ k = 1)) → (wL (wL w c 0 1) c 1 v).2.1 c' k = w.2.1 c' k := by
        intro c' k hk
        show (if c' = c ∧ k = 1 then _ else if c' = c ∧ k = 0 then _ else w.2.1 c' k) = _
        rw [if_neg (fun y => hk ⟨y.1, Or.inr y.2⟩), if_neg (fun y => hk ⟨y.1, Or.inl y.2⟩)]
      have gc : (wL (wL w c 0 1) c 1 v).2.1 c 0 = 1 := by
        show (if c = c ∧ 0 = 1 then _ else if c = c ∧ 0 = 0 then _ else w.2.1 c 0) = _
        rw [if_neg (fun y => absurd y.2 (by decide)), if_pos ⟨rfl, rfl⟩]
      have hws : wsO (wL (wL w c 0 1) c 1 v) g (qU Q t (thN th 3 c)) E := by
        refine ⟨u1, fun c' hc' ec => ?_, fun x tx ex x2 x13 => ?_⟩
        rotate_left
        · by_cases xt : x = t
          · subst xt
            rw [qU_t] at ex
            cases ex
            exact absurd (show (3 : Nat) = 2 from x2) (by decide)
          · rw [qU_n xt] at ex
            exact u3 x tx ex x2 x13
        by_cases cc : c' = c
        · subst cc
          rw [gc]
          exact ⟨fun y => absurd y (by decide), fun _ => ⟨t, _, qU_t, rfl, rfl⟩⟩
        · rw [g0 c' 0 (by omega), g0 c' 2 (by omega), g0 c' 3 (by omega)]
          obtain ⟨d1, d2⟩ := u2 c' hc' ec
          refine ⟨fun y => ?_, fun y => ?_⟩
          · obtain ⟨y1, y2, y3⟩ := d1 y
            refine ⟨y1, y2, fun b tb eb b3 bc => ?_⟩
            by_cases bt : b = t
            · subst bt
              rw [qU_t] at eb
              cases eb
              exact cc bc.symm
            · rw [qU_n bt] at eb
              exact y3 b tb eb b3 bc
          · obtain ⟨b, tb, eb, b3, bc⟩ := d2 y
            have bt : b ≠ t := fun y => by subst y; rw [e] at eb; cases eb; omega
            exact ⟨b, tb, (qU_n bt).trans eb, b3, bc⟩
      obtain ⟨s', x1, x2, -⟩ := wt_go (w' := wL (wL w c 0 1) c 1 v) (st := 3) (v := v) I e e0 ef (Or.inr rfl) ra nl k h11 c2 ow (fun y => absurd y (by decide)) (fun _ => sd) (fun b tb _ eb hs => no_w I m1 b tb eb hs) ⟨fun c' => g0 c' 4 (by omega), rfl, rfl⟩ hws
      exact ⟨s', _, by rw [x1]; rfl, Or.inr (Or.inr (Or.inr (Or.inr ⟨c, v, cl, hE, f0, rfl⟩))), _, x2, nFr_N e⟩
    · rw [if_neg cl, if_neg n13]
      rcases h with h | ⟨h14, b, tb, Wb, jb, zb, rb, eb, hb, fb, md, bs⟩
      · rw [if_pos h]
        obtain ⟨s', x1, x2, -⟩ := wt_go (w' := w) (st := 3) (v := v) I e e0 ef (Or.inr rfl) ra nl k h11 c2 ow (fun y => absurd y (by decide)) (fun _ => sd) (fun b tb _ eb hs => no_w I h b tb eb hs) ⟨fun _ => rfl, rfl, rfl⟩ (wsO_r e I.2.2.2.2 (fun c' hc' => ⟨fun y => by have : c = c' := y.2; omega, fun y => by omega⟩) (fun h => absurd (show (3 : Nat) = 2 from h) (by decide)))
        exact ⟨s', w, by rw [x1]; rfl, Or.inl rfl, _, x2, nFr_N e⟩
      · obtain ⟨hWb, hWbM, pb, ctb⟩ := W_M I eb fb
        have d3 := ds_ad (s := s) (M := M) (n := Wb) (b := thP tb) (k := 3) I.1 pb (by omega) (by omega) (by omega)
        have d2 := ds_ad (s := s) (M := M) (n := Wb) (b := thP tb) (k := 2) I.1 pb (by omega) (by omega) (by omega)
        rw [md, if_neg (nI_m1 (by omega)), if_pos (ds_in pb (by omega)), show (3 : Int32) = nI 3 from rfl, d3]
        rcases bs with ⟨b2, bc⟩ | ⟨bs, en⟩
        · obtain ⟨W0, j0, z0, r0, a1, a2, a3, a4, a5, a6, a7, a8, a9, -⟩ := I.2.1 b tb eb
          rw [fb] at a1
          cases a1
          unfold sOK at a9
          rw [b2] at a9
          obtain ⟨l1, l2, l3, l4, l5, l6, l7, a, l8, l9⟩ := a9
          have rl := row_lt I
          have rd := rd_ok (s := sM (sM s a v) c (-1)) (n := Wb) (b := thP tb) pb (by omega) rl
          refine ⟨sQ (sM (sM s a v) c (-1)) (rAp (sM (sM s a v) c (-1)) (thP tb) Wb).1 (rAp (sM (sM s a v) c (-1)) (thP tb) Wb).2, w, ?_, Or.inl rfl, qU Q b (thN tb 1 0), ?_, nFr_N eb⟩
          · show (if s.2.1 (Wb - 3) = 0 then (adM s (nI (2 * Wb + thP tb) / 2 - nI 2)).bind _ else _) = _
            rw [if_pos l4, d2]
            show (adM s (s.2.1 (Wb - 2))).bind _ = _
            rw [l8, ad_n I.1 l9.2.1]
            show (cReady (sM (sM s a v) c (-1)) (nI (2 * Wb + thP tb))).map _ = _
            rw [rd, rap_eq]
            rfl
          · refine wk_go (c := c) I eb (Or.inl b2) fb bc (fun _ => rfl) rfl (if_pos rfl) (fun x hx => ?_) (fun b' tb' hb' eb' hs' y => ?_) ⟨fun _ => rfl, rfl, rfl⟩ (fun _ _ b' tb' Wb' jb' zb' rb' hb' eb' fb' ne y => ?_) (wsO_r eb I.2.2.2.2 (fun c' hc' => ⟨fun y => absurd (show (1 : Nat) = 3 from y.1) (by decide), fun y => by omega⟩) (fun h => absurd (show (1 : Nat) = 2 from h) (by decide)))
            · have hx : (if x = c then -1 else if x = a then v else s.2.1 x) ≠ s.2.1 x := hx
              by_cases c1 : x = c
              · exact Or.inr c1
              · rw [if_neg c1] at hx
                by_cases c3 : x = a
                · rw [c3]; exact Or.inl l9.2.2.1
                · rw [if_neg c3] at hx; exact (hx rfl).elim
            · rcases hs' with hs' | hs'
              · have a1 := (w2_tk I eb' hs').1
                rw [y] at a1
                rw [bc] at l5
                exact hb' (a1.symm.trans l5)
              · by_cases bt : b' = t
                · subst bt
                  rw [e] at eb'
                  cases eb'
                  omega
                · exact notw b' tb' bt eb' hs' y
            · rw [bc] at l5
              exact hb' (y.symm.trans l5)
        · have tkb := aE_tk I eb fb bs en
          obtain ⟨W0, j0, z0, r0, a1, a2, a3, a4, a5, a6, a7, a8, a9, a10, -⟩ := I.2.1 b tb eb
          rw [fb] at a1
          cases a1
          have A := a10 bs (aE_ne en)
          have m0 : s.2.1 (Wb - 3) ≠ 0 := by
            rcases A.2.1 with y | y | y <;> rw [y] <;> decide
          have r1 := ad_b (s := s) (M := M) (W := W) (k := 1) I.1 q12 (by omega) (by omega) (by omega) (Or.inl (by omega))
          have r2 := ad_b (s := s) (M := M) (W := W) (k := 2) I.1 q12 (by omega) (by omega) (by omega) (Or.inl (by omega))
          have r3 := ad_b (s := s) (M := M) (W := W) (k := 3) I.1 q12 (by omega) (by omega) (by omega) (Or.inl (by omega))
          have w4 := W_4 I e eb ef fb hb
          have w4 : Wb + 4 ≤ W ∨ W + 4 ≤ Wb := w4
          have yc : Wb - 3 ≠ c := fun y => by
            have := (ctb 3 (by omega)).1
            rw [y] at this
            omega
          obtain ⟨s1, x1, x2, x3, x4, x5, x6⟩ := wt_go (w' := w) (st := 3) (v := v) I e e0 ef (Or.inr rfl) ra nl k h11 c2 ow (fun y => absurd y (by decide)) (fun _ => sd) (fun b' tb' hb' eb' hs' y => by
            rcases hs' with hs' | hs'
            · have a1 := (w2_tk I eb' hs').1
              rw [y, tkb] at a1
              subst a1
              rw [eb] at eb'
              cases eb'
              omega
            · exact notw b' tb' hb' eb' hs' y) ⟨fun _ => rfl, rfl, rfl⟩ (wsO_r e I.2.2.2.2 (fun c' hc' => ⟨fun y => by have : c = c' := y.2; omega, fun y => by omega⟩) (fun h => absurd (show (3 : Nat) = 2 from h) (by decide)))
          have e1 : (qU Q t (thN th 3 c)) b = some tb := (qU_n hb).trans eb
          have en1 : aEn s1 Wb zb c := aEn_mv A.1 en (fun x _ h3 => x6 x (fun y => by rw [y] at h3; omega) (fun y => by
            have := (ct (W - x) (by omega)).1
            rw [show W - (W - x) = x by omega] at this
            omega))
          have av : hasC s1 w c (nI (2 * Wb + thP tb)) := by
            unfold hasC
            rw [if_neg n13, if_neg cl, x5]
            exact ⟨nI_m1 (by omega), ds_ne (by omega) p1 pb (by omega) (by omega)⟩
          obtain ⟨s2, h1, h2, Q2, h3, h4⟩ := hear x2 e1 fb bs en1 av
          refine ⟨s2, w, ?_, Or.inl rfl, Q2, h3, (nFr_N e).tr h4⟩
          show (if s.2.1 (Wb - 3) = 0 then _ else (adM s (s.1 12 - 1)).bind fun x1 => (adM s (s.1 12 - 2)).bind fun x2 => (adM s (s.1 12 - nI 3)).bind fun x3 => if Wb - 3 ≠ x1 ∧ Wb - 3 ≠ x2 ∧ Wb - 3 ≠ x3 ∧ Wb - 3 ≠ c then ((cWait s c v).bind fun s1 => cWake s1 (nI (2 * Wb + thP tb))).map fun s => (s, w) else none) = _
          rw [if_neg m0, show (1 : Int32) = nI 1 from rfl, show (2 : Int32) = nI 2 from rfl, r1, r2, r3]
          show (if Wb - 3 ≠ W - 1 ∧ Wb - 3 ≠ W - 2 ∧ Wb - 3 ≠ W - 3 ∧ Wb - 3 ≠ c then ((cWait s c v).bind fun s1 => cWake s1 (nI (2 * Wb + thP tb))).map fun s => (s, w) else none) = _
          rw [if_pos ⟨by omega, by omega, by omega, yc⟩, x1]
          show (cWake s1 (nI (2 * Wb + thP tb))).map _ = _
          rw [h1]
          rfl
variable {R : Nat → Sg → Prop} {j : Nat} {z : Sg}
theorem po2_r {s : Cr} (i : Nat) (h8 : i ≠ 8) (h9 : i ≠ 9) : (cPop (cPop s)).1 i = s.1 i := by rw [po_r i h8 h9, po_r i h8 h9]
/-- it goes on, its registers are popped -/
theorem pp_go {W : Nat} {r : List Fm} (I : Inv C M s w g Q E) (e : Q t = some th) (e0 : thS th = 0) (ef : thF th = (W, j, z) :: r) (h11 : s.1 11 + 1 = nI (C.2 (j + 1))) : Inv C M (cPop (cPop (sR (rdB s) 13 0))) w g (qU Q t ((W, j + 1, zSA z (k0, k0, k0)) :: r, th.2)) E := by
  refine dw_go I e e0 ef (fun i hi => ?_) rfl (fun x hx => (hx rfl).elim) (Or.inl ⟨?_, ?_⟩) ⟨trivial, trivial, trivial⟩
  · rw [po2_r i (by omega) (by omega)]
    exact rd_r i (by omega)
  · rw [po2_r 11 (by omega) (by omega)]; exact h11
  · rw [po2_r 13 (by omega) (by omega)]; rfl
theorem nFr_F {Q' : Thr} (h : nFr (fun _ _ => False) Q Q') : nFr R Q Q' := h.mo fun _ _ y => y.elim
theorem i_in (o : oneW E) (hC : C.1 j = some (15, nI 20)) (z0 : (zR z).1 = 0) (nl : (zL z).2.1 = []) (ha : chA (zG z) (zW z) 8 (zA z).1) (hd : daA (zG z) (zA z).2.1) (hR : R (j + 1) (zSA z (k0, k0, k0))) : rul C M E R j z := by
  refine ⟨15, nI 20, hC, fun s w g Q t th W r I hw e e0 ef h11 => ?_⟩
  obtain ⟨hE, hr⟩ := fE_i I e e0 ef
  obtain ⟨c, c1, c2, c3, c4, -, c6⟩ := chA_ok hE ha hr.1
  obtain ⟨a, -, a1, a2⟩ := daA_ok hE hd hr.2.1
  have k := kid_0 I e e0 ef z0
  have I1 := pp_go I e e0 ef h11
  obtain ⟨s', w', x1, x2, Q', x3, x4⟩ := in_go (a := a) (c := c) o I1 hw qU_t e0 rfl rfl nl k (by rw [po2_r 11 (by omega) (by omega)]; exact h11) c3 c2 c4 (bel_1 I e k (c6 rfl)) a2
  refine ⟨s', w', ?_, x2, g, Q', x3, (nFr_1 e ef hR).tr (nFr_F x4)⟩
  rw [x_sch (by decide) (by decide)]
  show cIn (cPop (cPop (sR (rdB s) 13 0))) w (s.1 8) (s.1 9) = _
  rw [c1, a1]
  exact x1
theorem i_out (o : oneW E) (hC : C.1 j = some (15, nI 21)) (z0 : (zR z).1 = 0) (nl : (zL z).2.1 = []) (ha : chA (zG z) (zW z) 4 (zA z).1) (hR : R (j + 1) (zSA z (k0, k0, k0))) : rul C M E R j z := by
  refine ⟨15, nI 21, hC, fun s w g Q t th W r I hw e e0 ef h11 => ?_⟩
  obtain ⟨hE, hr⟩ := fE_i I e e0 ef
  obtain ⟨c, c1, c2, c3, c4, c5, -⟩ := chA_ok hE ha hr.1
  have k := kid_0 I e e0 ef z0
  have I1 := pp_go I e e0 ef h11
  obtain ⟨s', w', x1, x2, Q', x3, x4⟩ := out_go (v := s.1 9) (c := c) o I1 hw qU_t e0 rfl rfl nl k (by rw [po2_r 11 (by omega) (by omega)]; exact h11) c3 c2 c4 (bel_1 I e k (c5 rfl))
  refine ⟨s', w', ?_, x2, g, Q', x3, (nFr_1 e ef hR).tr (nFr_F x4)⟩
  rw [x_sch (by decide) (by decide)]
  show cOut (cPop (cPop (sR (rdB s) 13 0))) w (s.1 8) (s.1 9) = _
  rw [c1]
  exact x1
end
