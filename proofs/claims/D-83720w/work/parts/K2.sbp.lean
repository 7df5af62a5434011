/-! (S): something comes from outside; the system -/
section
variable {C : Cx} {M : Nat} {E : En} {s s' : Cr} {w w' : Wd} {g : Gh} {Q : Thr} {t b : Nat} {th tb : Th}
theorem rol_w (I : Inv C M s w g Q E) (ex : ∃ b tb, Q b = some tb) {c : Nat} (hc : c < 14) : g.2.1 c = 2 ∧ c < M := by
  obtain ⟨b, tb, eb⟩ := ex
  obtain ⟨W0, j0, z0, r0, a1, a2, a3, a4, a5, -⟩ := I.2.1 b tb eb
  have := (a5 (W0, j0, z0) (by rw [a1]; exact List.mem_cons_self)).2.2.2.2.1 c hc
  exact ⟨this.2.1, this.1⟩
/-- the world changes, at wires alone -/
theorem w_lk (I : Inv C M s w g Q E) (h13 : E.2 13 → w'.1 1 = w.1 1 ∧ w'.1 2 = w.1 2) (h4 : ∀ c, c < 12 → E.2 c → w.2.1 c 4 = 4 → w'.2.1 c 4 = 4) (h0 : ∀ c, c < 12 → E.1 c → w'.2.1 c 0 = w.2.1 c 0 ∧ (w'.2.1 c 2 = w.2.1 c 2 ∧ w'.2.1 c 3 = w.2.1 c 3 ∨ ¬ w.2.1 c 0 = 0)) : Inv C M s w' g Q E := by
  obtain ⟨u1, u2, u3⟩ := I.2.2.2.2
  refine w_ch I (fun b tb W j z r x eb _ _ _ _ xt => ?_) ⟨u1, fun c hc ec => ?_, fun b tb eb b2 b13 => ?_⟩
  · unfold hasC
    by_cases c1 : x = 13
    · rw [if_pos c1, if_pos c1]
      subst c1
      obtain ⟨y1, y2⟩ := h13 (en_T I (by omega) eb xt)
      rw [y1, y2]
      exact id
    · rw [if_neg c1, if_neg c1]
      by_cases c2 : x < 12
      · rw [if_pos c2, if_pos c2]
        exact h4 x c2 (en_T I (by omega) eb xt)
      · rw [if_neg c2, if_neg c2]
        exact id
  · obtain ⟨y1, y2⟩ := h0 c hc ec
    rw [y1]
    obtain ⟨d1, d2⟩ := u2 c hc ec
    refine ⟨fun y => ?_, d2⟩
    rcases y2 with ⟨y3, y4⟩ | y2
    · rw [y3, y4]
      exact d1 y
    · exact (y2 y).elim
  · have := (w2_tk I eb b2).1
    rw [b13] at this
    obtain ⟨y1, y2⟩ := h13 (en_T I (by omega) eb this)
    rw [y1, y2]
    exact u3 b tb eb b2 b13
/-- something comes to a wire -/
theorem come_ok {c : Nat} {v : Int32} (o : oneW E) (I : Inv C M s w g Q E) (hI : (∀ b tb, Q b = some tb → thS tb = 2 → thC tb ≠ c) → Inv C M s w' g Q E) (ex : ∃ b tb, Q b = some tb) (hE : E.2 c) (hc : c < 14) (h13 : c = 13 → ¬ w'.1 1 ≤ w'.1 2) (h4 : c < 12 → w'.2.1 c 4 = 4) :
    (∃ s', cCome s c v = some (true, s') ∧ (c = 13 → w.1 1 ≤ w.1 2) ∧ ∃ Q', Inv C M s' w g Q' E ∧ nFr (fun _ _ => False) Q Q') ∨ (∃ s', cCome s c v = some (false, s') ∧ ∃ Q', Inv C M s' w' g Q' E ∧ nFr (fun _ _ => False) Q Q') := by
  obtain ⟨c2, cM⟩ := rol_w I ex hc
  have hM := I.1.2
  have n12 : c ≠ 12 := fun y => by subst y; exact o.2.1 hE
  rcases (I.2.2.1 c c2).2 with m1 | ⟨b, tb, eb, Wb, jb, zb, rb, fb, md, d3⟩
  · exact Or.inr ⟨s, if_pos m1, Q, hI (fun b tb eb h2 => no_w I m1 b tb eb (Or.inl h2)), nFr.rf⟩
  · obtain ⟨hWb, hWbM, pb, ctb⟩ := W_M I eb fb
    have a3 := ds_ad (s := s) (M := M) (n := Wb) (b := thP tb) (k := 3) I.1 pb (by omega) (by omega) (by omega)
    have a2 := ds_ad (s := s) (M := M) (n := Wb) (b := thP tb) (k := 2) I.1 pb (by omega) (by omega) (by omega)
    have un : cCome s c v = (if s.2.1 (Wb - 3) = 0 then (adM s (nI (2 * Wb + thP tb) / 2 - 2)).bind fun z => (adM s (s.2.1 z)).bind fun x => (cReady (sM (sM s x v) c (-1)) (nI (2 * Wb + thP tb))).map fun s => (true, s) else (cWake s (nI (2 * Wb + thP tb))).map fun s => (false, s)) := by
      unfold cCome
      rw [md, if_neg (nI_m1 (by omega)), if_pos (ds_in pb (by omega)), show (3 : Int32) = nI 3 from rfl, a3]
      rfl
    rcases d3 with ⟨b2, bc⟩ | ⟨b3, bc⟩ | ⟨bs, en⟩
    · obtain ⟨W0, j0, z0, r0, v1, v2, v3, v4, v5, v6, v7, v8, v9, -⟩ := I.2.1 b tb eb
      rw [fb] at v1
      cases v1
      unfold sOK at v9
      rw [b2] at v9
      obtain ⟨l1, l2, l3, l4, l5, l6, l7, a, l8, l9⟩ := v9
      have rl := row_lt I
      have rd := rd_ok (s := sM (sM s a v) c (-1)) (n := Wb) (b := thP tb) pb (by omega) rl
      refine Or.inl ⟨sQ (sM (sM s a v) c (-1)) (rAp (sM (sM s a v) c (-1)) (thP tb) Wb).1 (rAp (sM (sM s a v) c (-1)) (thP tb) Wb).2, ?_, fun y => I.2.2.2.2.2.2 b tb eb b2 (bc.trans y), qU Q b (thN tb 1 0), ?_, nFr_N eb⟩
      · rw [un, if_pos l4, show (2 : Int32) = nI 2 from rfl]
        rw [show nI (2 * Wb + thP tb) / nI 2 - nI 2 = nI (2 * Wb + thP tb) / 2 - nI 2 from rfl, a2]
        show (adM s (s.2.1 (Wb - 2))).bind _ = _
        rw [l8, ad_n I.1 l9.2.1]
        show (cReady (sM (sM s a v) c (-1)) (nI (2 * Wb + thP tb))).map _ = _
        rw [rd, rap_eq]
        rfl
      · rw [bc] at l5
        refine wk_go (c := c) I eb (Or.inl b2) fb bc (fun _ => rfl) rfl (if_pos rfl) (fun x hx => ?_) (fun b' tb' hb' eb' hs' y => ?_) ⟨fun _ => rfl, rfl, rfl⟩ (fun y1 y2 => by omega) (wsO_r eb I.2.2.2.2 (fun c' hc' => ⟨fun y => absurd (show (1 : Nat) = 3 from y.1) (by decide), fun y => by omega⟩) (fun h => absurd (show (1 : Nat) = 2 from h) (by decide)))
        · have hx : (if x = c then -1 else if x = a then v else s.2.1 x) ≠ s.2.1 x := hx
          by_cases c1 : x = c
          · exact Or.inr c1
          · rw [if_neg c1] at hx
            by_cases c3 : x = a
            · rw [c3]; exact Or.inl l9.2.2.1
            · rw [if_neg c3] at hx; exact (hx rfl).elim
        · rcases hs' with hs' | hs'
          · have a1 := (w2_tk I eb' hs').1
            rw [y] at a1
            exact hb' (a1.symm.trans l5)
          · have a1 := (w3_sd I eb' hs').1
            rw [y] at a1
            exact no_st o I hc eb' eb a1 l5
    · have a1 := (w3_sd I eb b3).1
      rw [bc] at a1
      have e1 := en_S I hc eb a1
      exfalso
      by_cases c1 : c < 12
      · exact o.1 c c1 ⟨e1, hE⟩
      · have : c = 13 := by omega
        subst this
        exact o.2.2 e1
    · obtain ⟨W0, j0, z0, r0, v1, v2, v3, v4, v5, v6, v7, v8, v9, v10, -⟩ := I.2.1 b tb eb
      rw [fb] at v1
      cases v1
      have A := v10 bs (aE_ne en)
      have m0 : s.2.1 (Wb - 3) ≠ 0 := by
        rcases A.2.1 with y | y | y <;> rw [y] <;> decide
      have av : hasC s w' c (nI (2 * Wb + thP tb)) := by
        unfold hasC
        by_cases c1 : c = 13
        · rw [if_pos c1]; exact h13 c1
        · have c12 : c < 12 := by omega
          rw [if_neg c1, if_pos c12]
          exact h4 c12
      have tk := aE_tk I eb fb bs en
      have I' := hI (fun b' tb' eb' h2 y => by
        have a1 := (w2_tk I eb' h2).1
        rw [y, tk] at a1
        subst a1
        rw [eb] at eb'
        cases eb'
        omega)
      obtain ⟨s', x1, -, Q', x3, x4⟩ := hear I' eb fb bs en av
      exact Or.inr ⟨s', by rw [un, if_neg m0, x1]; rfl, Q', x3, x4⟩
/-- a sender at a link is woken -/
theorem ack_ok {l : Nat} (o : oneW E) (I : Inv C M s w g Q E) (hl : l < 12) (hE : E.1 l) (h0 : ¬ w.2.1 l 0 = 0) (h4 : w.2.1 l 4 = 0) : ∃ s', cReady (sM s l (-1)) (s.2.1 l) = some s' ∧ ∃ Q', Inv C M s' (wClr w l) g Q' E ∧ nFr (fun _ _ => False) Q Q' := by
  obtain ⟨u1, u2, u3⟩ := I.2.2.2.2
  have hM := I.1.2
  obtain ⟨b, tb, eb, b3, bc⟩ := (u2 l hl hE).2 h0
  obtain ⟨Wb, jb, zb, rb, fb, v2, v3, v4, v5, v6, v7, v8, v9, -⟩ := I.2.1 b tb eb
  obtain ⟨hWb, hWbM, pb, ctb⟩ := W_M I eb fb
  unfold sOK at v9
  rw [b3, bc] at v9
  have md : s.2.1 l = nI (2 * Wb + thP tb) := v9.1
  have sd := (w3_sd I eb b3).1
  rw [bc] at sd
  have rl := row_lt I
  have rd := rd_ok (s := sM s l (-1)) (n := Wb) (b := thP tb) pb (by omega) rl
  rw [md, rd, rap_eq]
  have wf : ∀ c k, c ≠ l → (wClr w l).2.1 c k = w.2.1 c k := fun c k h => if_neg h
  have wl : ∀ k, (wClr w l).2.1 l k = 0 := fun k => if_pos rfl
  refine ⟨_, rfl, qU Q b (thN tb 1 0), ?_, nFr_N eb⟩
  refine wk_go (c := l) I eb (Or.inr b3) fb bc (fun _ => rfl) rfl (if_pos rfl) (fun x hx => ?_) (fun b' tb' hb' eb' hs' y => ?_) ⟨fun c => ?_, rfl, rfl⟩ (fun y1 y2 => by omega) ⟨u1, fun c hc ec => ?_, fun x tx ex x2 x13 => ?_⟩
  · have hx : (if x = l then -1 else s.2.1 x) ≠ s.2.1 x := hx
    by_cases c1 : x = l
    · exact Or.inr c1
    · rw [if_neg c1] at hx; exact (hx rfl).elim
  · rcases hs' with hs' | hs'
    · have a1 := (w2_tk I eb' hs').1
      rw [y] at a1
      exact no_st o I (by omega) eb eb' sd a1
    · have a1 := (w3_sd I eb' hs').1
      rw [y] at a1
      exact hb' (a1.symm.trans sd)
  · by_cases cl : c = l
    · rw [cl, wl, h4]
    · exact wf c 4 cl
  · by_cases cl : c = l
    · subst cl
      rw [wl, wl, wl]
      refine ⟨fun _ => ⟨rfl, rfl, fun x tx ex x3 xc => ?_⟩, fun y => (y rfl).elim⟩
      by_cases xb : x = b
      · subst xb
        rw [qU_t] at ex
        cases ex
        exact absurd (show (1 : Nat) = 3 from x3) (by decide)
      · rw [qU_n xb] at ex
        have a1 := (w3_sd I ex x3).1
        rw [xc] at a1
        exact xb (a1.symm.trans sd)
    · rw [wf c 0 cl, wf c 2 cl, wf c 3 cl]
      obtain ⟨d1, d2⟩ := u2 c hc ec
      refine ⟨fun y => ?_, fun y => ?_⟩
      · obtain ⟨y1, y2, y3⟩ := d1 y
        refine ⟨y1, y2, fun x tx ex x3 xc => ?_⟩
        by_cases xb : x = b
        · subst xb
          rw [qU_t] at ex
          cases ex
          exact absurd (show (1 : Nat) = 3 from x3) (by decide)
        · rw [qU_n xb] at ex
          exact y3 x tx ex x3 xc
      · obtain ⟨x, tx, ex, x3, xc⟩ := d2 y
        have xb : x ≠ b := fun y => by
          subst y
          rw [eb] at ex
          cases ex
          exact cl (xc.symm.trans bc)
        exact ⟨x, tx, (qU_n xb).trans ex, x3, xc⟩
  · by_cases xb : x = b
    · subst xb
      rw [qU_t] at ex
      cases ex
      exact absurd (show (1 : Nat) = 2 from x2) (by decide)
    · rw [qU_n xb] at ex
      exact u3 x tx ex x2 x13
end
