/-! (S): ALT waits, guards are disabled, it goes on -/
section
variable {C : Cx} {M : Nat} {E : En} {s s' : Cr} {w w' : Wd} {g : Gh} {Q : Thr} {t b : Nat} {th tb : Th}
/-- its frames and its place, where its first frame goes on -/
theorem fr_M {st c : Nat} {W j j' : Nat} {z z' : Sg} {r : List Fm} (I : Inv C M s w g Q E) (e : Q t = some th) (ef : thF th = (W, j, z) :: r) (zg : zG z' = zG z) (zi : zI z' = zI z) (zu : zU z' = zU z) (zw : zW z' = zW z) (k3 : ∀ x, g.1 x ∈ t :: thA th → g.2.1 x = 3 → s'.2.1 x = s.2.1 x) (k4 : ∀ x, g.1 x = t → g.2.1 x = 4 → ¬ (W ≤ x + 3 ∧ x < W) → s'.2.1 x = s.2.1 x) :
    thP th ≤ 1 ∧ 16 ≤ thL th ∧ thH th ≤ M ∧ (∀ f ∈ (W, j', z') :: r, fOK C M s' g (qU Q t ((W, j', z') :: r, (st, c, thP th), th.2.2)) t ((W, j', z') :: r, (st, c, thP th), th.2.2) f) ∧ lnk C s' g t ((W, j', z') :: r) ∧ (∀ x, thL th ≤ x → x < thH th → bel (qU Q t ((W, j', z') :: r, (st, c, thP th), th.2.2)) t (g.1 x)) ∧ uOK (qU Q t ((W, j', z') :: r, (st, c, thP th), th.2.2)) t ((W, j', z') :: r, (st, c, thP th), th.2.2) ∧ ctl g t W 3 ∧ W < M := by
  obtain ⟨W0, j0, z0, r0, h1, h2, h3, h4, h5, h6, h7, h8, h9, h10, h11, h12, h13, h14⟩ := I.2.1 t th e
  rw [ef] at h1
  cases h1
  have eA : thA (((W, j', z') :: r, (st, c, thP th), th.2.2) : Th) = thA th := rfl
  have bq := fun u b => bel_q (Q := Q) (t := t) (th' := ((W, j', z') :: r, (st, c, thP th), th.2.2)) e eA u b
  have sb : stb (fun _ => True) s.2.1 s'.2.1 g g Q (qU Q t ((W, j', z') :: r, (st, c, thP th), th.2.2)) (t :: thA th) t := ⟨fun x _ => k3 x, fun _ _ _ => ⟨rfl, rfl⟩, fun _ _ _ _ => ⟨(bq _ _).mpr, (bq _ _).mpr⟩⟩
  have mv : ∀ f ∈ thF th, fOK C M s' g (qU Q t ((W, j', z') :: r, (st, c, thP th), th.2.2)) t ((W, j', z') :: r, (st, c, thP th), th.2.2) f := fun f hf => fOK_mv (th' := ((W, j', z') :: r, (st, c, thP th), th.2.2)) (h5 f hf) rfl rfl (fun _ _ => trivial) (fun _ _ => trivial) sb
  refine ⟨h2, h3, h4, fun f hf => ?_, ?_, fun x x1 x2 => (bq _ _).mpr (h7 x x1 x2), ?_, h13, h14⟩
  · rcases List.mem_cons.mp hf with y | y
    · subst y
      have := mv (W, j, z) (by rw [ef]; exact List.mem_cons_self)
      unfold fOK at this ⊢
      simp only at this ⊢
      rw [zg, zi, zw]
      exact this
    · exact mv f (by rw [ef]; exact List.mem_cons_of_mem _ y)
  · rw [ef] at h6
    have hl : lnk C s' g t ((W, j, z) :: r) := by
      cases r with
      | nil => exact h6
      | cons f1 r => exact lnk_mv (P := fun x => W + (zI z).2 ≤ x) (fun x hx x1 x4 => k4 x x1 x4 (by omega)) (fun _ _ _ => ⟨rfl, rfl⟩) _ (fun f r' hf a ha => by cases hf; exact ha) h6
    cases r with
    | nil => show (zU z').1 ≠ 1; rw [zu]; exact hl
    | cons f1 r =>
      obtain ⟨k1, k2, k3, k4⟩ := hl
      exact ⟨by show (zU z').1 = 1; rw [zu]; exact k1, by show (f1.1 : Int) = W + (zU z').2.1 + 4; rw [zu]; exact k2, by show W + (zI z').2 + 4 ≤ f1.1; rw [zi]; exact k3, k4⟩
  · have u0 : uOK (qU Q t ((W, j', z') :: r, (st, c, thP th), th.2.2)) t th := uOK_mv h8 (fun c hc tc etc => ⟨tc, (qU_n (kid_ne I e hc)).trans etc, rfl⟩) (fun u tu hu eu hbu => by
      have : u ≠ t := fun y => h8.2.2.1 (y ▸ hu)
      exact ⟨tu, (qU_n this).trans eu, rfl, hbu, rfl, fun fu ru hf => ⟨fu, ru, hf, rfl⟩⟩)
    obtain ⟨u1, u2, u3, f, u4, u5, u6⟩ := u0
    rw [ef] at u4
    cases r with
    | nil =>
      have u4 : (W, j, z) = f := Option.some.inj u4
      subst u4
      refine ⟨u1, u2, u3, (W, j', z'), rfl, u5, ?_⟩
      have ez : zU (W, j', z').2.2 = zU (W, j, z).2.2 := zu
      rw [ez]
      exact u6
    | cons f1 r =>
      exact ⟨u1, u2, u3, f, by show ((W, j', z') :: f1 :: r).getLast? = _; rw [List.getLast?_cons_cons]; rw [List.getLast?_cons_cons] at u4; exact u4, u5, u6⟩
variable {R : Nat → Sg → Prop} {j : Nat} {z : Sg}
/-- ALT waits, or goes on -/
theorem i_altw {o : Int} {gs : List (Bool × Nat)} {en dis bs : Nat} (hC : C.1 j = some (15, nI 25)) (z0 : (zR z).1 = 0) (h1 : 1 ≤ (zI z).2) (hL : zL z = (o, gs, en, dis, 0)) (ne : gs ≠ []) (hb : bs ≠ 0) (hR : R (j + 1) (zSL z (o, gs, en, dis, bs))) : rul C M E R j z := by
  refine ⟨15, nI 25, hC, fun s w g Q t th W r I hw e e0 ef h11 => ?_⟩
  obtain ⟨hE, hr⟩ := fE_i I e e0 ef
  obtain ⟨hW, hWM, p1, ct⟩ := W_M I e ef
  have hM := I.1.2
  have k := kid_0 I e e0 ef z0
  have h11' : (sR (rdB s) 13 0).1 11 = nI (C.2 (j + 1)) := h11
  obtain ⟨W0, j0, z0', r0, a1, a2, a3, a4, a5, a6, a7, a8, a9, a10, a11, a12, a13, a14⟩ := I.2.1 t th e
  rw [ef] at a1
  cases a1
  have A := a10 (Or.inl e0)
  rw [e0] at A
  unfold aOK at A
  rw [hL] at A
  obtain ⟨b1, b2, b3, b4, b5, b6, b7⟩ := A ne
  have b1' := b1
  unfold aRl at b1'
  rw [hL] at b1'
  have w3 := (ct 3 (by omega)).1
  have mW := b6 rfl
  have x3 := ad_b (k := 3) hE.1 hE.2.1 (by omega) (by omega) (by omega) (Or.inl (by omega))
  have un : xI (sR (rdB s) 13 0) w 15 (nI 25) = if s.2.1 (W - 3) = 3 then some (sR (rdB s) 13 0, w) else (cRest (sM (sR (rdB s) 13 0) (W - 3) 2)).map fun s => (s, w) := by
    rw [x_sch (by decide) (by decide)]
    show (adM (sR (rdB s) 13 0) ((sR (rdB s) 13 0).1 12 - 3)).bind _ = _
    rw [show (3 : Int32) = nI 3 from rfl, x3]
    rfl
  rw [un]
  by_cases m3 : s.2.1 (W - 3) = 3
  · rw [if_pos m3]
    refine ⟨sR (rdB s) 13 0, w, rfl, Or.inl rfl, g, qU Q t ((W, j + 1, zSL z (o, gs, en, dis, bs)) :: r, th.2), ?_, nFr_1 e ef hR⟩
    refine al_go I e e0 ef k h1 (fun i hi => rd_r i (by omega)) rfl (fun x hx => (hx rfl).elim) (Or.inl ⟨h11, rfl⟩) (fun _ => ⟨b1', b2, b3, b4, fun y => (y mW).elim, fun y => (hb y).elim, fun _ _ => m3⟩) (fun c hc => Or.inr (Or.inr ⟨rfl, fun _ ae => ?_⟩))
    unfold aEn at ae
    rw [hL] at ae
    exact ae
  · rw [if_neg m3]
    have rs := rs_ok (s := sM (sR (rdB s) 13 0) (W - 3) 2) (M := M) (W := W) I.1 hE.2.1 (by omega) (by omega)
    rw [rs]
    have mm : ∀ x, x ≠ W - 1 → x ≠ W - 3 → (sR (sM (sM (sR (rdB s) 13 0) (W - 3) 2) (W - 1) ((sR (rdB s) 13 0).1 11)) 14 0).2.1 x = s.2.1 x := by
      intro x y1 y2
      show (if x = W - 1 then _ else if x = W - 3 then _ else s.2.1 x) = _
      rw [if_neg y1, if_neg y2]
    have mA : (sR (sM (sM (sR (rdB s) 13 0) (W - 3) 2) (W - 1) ((sR (rdB s) 13 0).1 11)) 14 0).2.1 (W - 1) = nI (C.2 (j + 1)) := by
      show (if W - 1 = W - 1 then (sR (rdB s) 13 0).1 11 else _) = _
      rw [if_pos rfl]; exact h11'
    have mB : (sR (sM (sM (sR (rdB s) 13 0) (W - 3) 2) (W - 1) ((sR (rdB s) 13 0).1 11)) 14 0).2.1 (W - 3) = 2 := by
      show (if W - 3 = W - 1 then _ else if W - 3 = W - 3 then _ else _) = _
      rw [if_neg (by omega), if_pos rfl]
    have er : ∀ i, i = 5 ∨ i = 15 ∨ (22 ≤ i ∧ i ≤ 27) → (sR (sM (sM (sR (rdB s) 13 0) (W - 3) 2) (W - 1) ((sR (rdB s) 13 0).1 11)) 14 0).1 i = s.1 i := by
      intro i hi
      show (if i = 14 then _ else (sR (rdB s) 13 0).1 i) = _
      rw [if_neg (by omega)]
      exact rd_r i (by omega)
    have n4 : ∀ x, g.2.1 x ≠ 4 → (sR (sM (sM (sR (rdB s) 13 0) (W - 3) 2) (W - 1) ((sR (rdB s) 13 0).1 11)) 14 0).2.1 x = s.2.1 x := fun x hx => mm x (fun y => by rw [y] at hx; exact hx (ct 1 (by omega)).1) (fun y => by rw [y] at hx; exact hx w3)
    refine ⟨sR (sM (sM (sR (rdB s) 13 0) (W - 3) 2) (W - 1) ((sR (rdB s) 13 0).1 11)) 14 0, w, rfl, Or.inl rfl, g, qU Q t ((W, j + 1, zSL z (o, gs, en, dis, bs)) :: r, (4, 0, thP th), th.2.2), ?_, nFr_1 e ef hR⟩
    obtain ⟨l2, l3, l4, l5, l6, l7, l8, l13, l14⟩ := fr_M (st := 4) (c := 0) (j' := j + 1) (z' := zSL z (o, gs, en, dis, bs)) (s' := sR (sM (sM (sR (rdB s) 13 0) (W - 3) 2) (W - 1) ((sR (rdB s) 13 0).1 11)) 14 0) I e ef rfl rfl rfl rfl (fun x _ h => n4 x (by omega)) (fun x _ _ h => mm x (by omega) (by omega))
    refine halt I e e0 rfl rfl (Or.inr (Or.inr (Or.inl rfl))) (fun ne => (ne k).elim) er rfl rfl (fun x hx => ?_) (fun b tb hb eb hs => ?_) (fun b tb Wb jb zb rb x hb eb hf _ _ x2 _ => ?_) ⟨W, j + 1, zSL z (o, gs, en, dis, bs), r, rfl, l2, l3, l4, l5, l6, l7, l8, ⟨mA, rfl, ne⟩, fun _ _ => ⟨?_, Or.inr (Or.inl mB), ⟨fun _ => rfl, fun _ => mB⟩, fun y => ?_, fun y => ?_, fun y => (hb y).elim, fun _ y => (y rfl).elim⟩, fun h => ?_, ⟨fun _ _ => k, fun ne => (ne k).elim, fun z1 => (z1 z0).elim⟩, l13, l14⟩ (fun c hc => Or.inr (Or.inr ⟨n4 c (by omega), ?_⟩)) (wsO_r e I.2.2.2.2 (fun c _ => ⟨fun y => absurd (show (4 : Nat) = 3 from y.1) (by decide), fun y => by omega⟩) (fun h => absurd (show (4 : Nat) = 2 from h) (by decide)))
    · by_cases y1 : x = W - 1
      · subst y1; exact Or.inr (Or.inr ⟨(ct 1 (by omega)).2, Or.inl (ct 1 (by omega)).1⟩)
      · by_cases y2 : x = W - 3
        · subst y2; exact Or.inr (Or.inr ⟨(ct 3 (by omega)).2, Or.inl w3⟩)
        · exact (hx (mm x y1 y2)).elim
    · refine n4 _ ?_
      rcases hs with hs | hs
      · have := (w2_tk I eb hs).2; omega
      · have := (w3_sd I eb hs).2; omega
    · unfold hasC
      rw [n4 x (by omega)]
      exact id
    · intro i b n hi
      obtain ⟨⟨c1, c2⟩, c3⟩ := b1' i b n hi
      refine ⟨⟨c1, c2⟩, fun y => ?_⟩
      obtain ⟨⟨d1, d2⟩, d3⟩ := c3 y
      refine ⟨⟨d1, d2⟩, ?_⟩
      have d1' : g.2.1 ((W : Int) + o + 2 * i + 1).toNat = 3 := d1
      have em := n4 _ (show g.2.1 ((W : Int) + o + 2 * i + 1).toNat ≠ 4 by omega)
      show g.2.1 (gCh _ W o i) = 2 ∧ g.1 (gCh _ W o i) ∈ t :: thA th ∧ g.2.2.2 (gCh _ W o i) = t ∧ (sR (sM (sM (sR (rdB s) 13 0) (W - 3) 2) (W - 1) ((sR (rdB s) 13 0).1 11)) 14 0).2.1 ((W : Int) + o + 2 * i + 1).toNat = nI (gCh _ W o i)
      unfold gCh
      rw [em]
      exact d3
    · rw [mB] at y
      exact absurd y (by decide)
    · rw [mm W (by omega) (by omega)] at y
      exact (y mW).elim
    · exact absurd (show (4 : Nat) = 2 ∨ (4 : Nat) = 3 ∨ (4 : Nat) = 5 ∨ (4 : Nat) = 8 from h) (by decide)
    · rintro ⟨W1, j1, z1, r1, d1, d2, d3⟩
      rw [ef] at d1
      cases d1
      rcases d3 with ⟨d, -⟩ | ⟨d, -⟩ | ⟨d, d'⟩
      · omega
      · omega
      · refine ⟨W, j + 1, _, r, rfl, (n4 c (by omega)).trans d2, Or.inr (Or.inr ⟨Or.inr (Or.inr (Or.inl rfl)), ?_⟩)⟩
        have := aEn_mv (s' := sR (sM (sM (sR (rdB s) 13 0) (W - 3) 2) (W - 1) ((sR (rdB s) 13 0).1 11)) 14 0) b1 d' (fun x _ h => n4 x (by omega))
        unfold aEn at this
        rw [hL] at this
        exact this
end
