/-! (S): ALT -/
/-- another state of its ALT -/
def zSL (z : Sg) (L : Int × List (Bool × Nat) × Nat × Nat × Nat) : Sg := (zG z, (k0, k0, k0), zI z, zU z, L, zR z, zW z)
section
variable {C : Cx} {M : Nat} {E : En} {s s' : Cr} {w w' : Wd} {g : Gh} {Q : Thr} {t b : Nat} {th tb : Th}
theorem al_go {W j j' : Nat} {z : Sg} {r : List Fm} {L : Int × List (Bool × Nat) × Nat × Nat × Nat} (I : Inv C M s w g Q E) (e : Q t = some th) (e0 : thS th = 0) (ef : thF th = (W, j, z) :: r) (k : thK th = []) (h1 : 1 ≤ (zI z).2)
    (er : ∀ i, i = 5 ∨ i = 12 ∨ i = 14 ∨ i = 15 ∨ (22 ≤ i ∧ i ≤ 27) → s'.1 i = s.1 i) (eq : s'.2.2 = s.2.2)
    (hm : ∀ x, s'.2.1 x ≠ s.2.1 x → x = W ∨ x = W - 3 ∨ (g.2.1 x = 2 ∧ g.2.2.2 x = t ∧ (s.2.1 x = -1 ∨ s.2.1 x = nI (2 * W + thP th))))
    (psN : pos C j' (s'.1 11) (s'.1 13)) (aN : aOK C s' w g (t :: thA th) t W (zSL z L) (thP th) 0)
    (cN : ∀ c, g.2.1 c = 2 → s'.2.1 c = -1 ∨ (s'.2.1 c = nI (2 * W + thP th) ∧ aEn s' W (zSL z L) c) ∨ (s'.2.1 c = s.2.1 c ∧ (s.2.1 c = nI (2 * W + thP th) → aEn s W z c → aEn s' W (zSL z L) c))) : Inv C M s' w g (qU Q t ((W, j', zSL z L) :: r, th.2)) E := by
  obtain ⟨hW, hWM, p1, ct⟩ := W_M I e ef
  have hM := I.1.2
  obtain ⟨W0, j0, z0, r0, a1, a2, a3, a4, a5, a6, a7, a8, a9, a10, a11, a12, a13, a14⟩ := I.2.1 t th e
  rw [ef] at a1
  cases a1
  obtain ⟨b1, b2, b3, b4, b5, b6⟩ := a5 (W, j, z) (by rw [ef]; exact List.mem_cons_self)
  simp only at b1 b2 b3 b4
  have w0 := (ct 0 (by omega)).1
  have w3 := (ct 3 (by omega)).1
  rw [Nat.sub_zero] at w0
  have e3 : ∀ x, g.2.1 x = 3 → s'.2.1 x = s.2.1 x := fun x hx => Classical.byContradiction fun y => by
    rcases hm x y with q | q | ⟨q, -⟩
    · rw [q] at hx; omega
    · rw [q] at hx; omega
    · omega
  have sb : stb (fun _ => True) s.2.1 s'.2.1 g g Q Q (t :: thA th) t := ⟨fun x _ _ x3 => e3 x x3, fun _ _ _ => ⟨rfl, rfl⟩, fun _ _ _ _ => ⟨id, id⟩⟩
  refine go_a I e e0 ef er eq (fun x hx => ?_) (fun _ => rfl) (fun _ _ => ⟨rfl, rfl, rfl⟩) rfl rfl rfl ⟨rfl, fun _ h => h⟩ (wk_mv b4 (fun _ _ => trivial) (fun _ _ => trivial) sb) (inj_mv b6 (wk_m b4 (fun _ _ => trivial) sb.1)) psN ⟨trivial, trivial, trivial⟩ aN (fun c hc => ⟨(I.2.2.1 c hc).1, (cN c hc).imp_right (Or.imp_right fun y => ⟨hc, y⟩)⟩)
  rcases hm x hx with q | q | ⟨q1, q2, q3⟩
  · exact Or.inr (Or.inl ⟨k, by omega, by omega⟩)
  · exact Or.inr (Or.inl ⟨k, by omega, by omega⟩)
  · refine Or.inr (Or.inr ⟨q1, q2, fun b tb hb eb hs y => ?_⟩)
    obtain ⟨W1, j1, z1, r1, c1, -, -, -, -, -, -, -, c9, -⟩ := I.2.1 b tb eb
    obtain ⟨hW1, hW1M, p1', -⟩ := W_M I eb c1
    have : s.2.1 (thC tb) = nI (2 * W1 + thP tb) := by
      unfold sOK at c9
      rcases hs with hs | hs
      · rw [hs] at c9; exact c9.1
      · rw [hs] at c9; exact c9.1
    rw [y] at this
    rcases q3 with q3 | q3
    · rw [q3] at this
      exact nI_m1 (by omega) this.symm
    · rw [q3] at this
      exact ds_ne (fun y => W_ne I e eb ef c1 hb y.symm) p1 p1' (by omega) (by omega) this
/-- an ALT's state alone -/
theorem aOK_L {A : List Nat} {W pri st o en dis bs : Nat} {z : Sg} {o' : Int} {gs : List (Bool × Nat)} (h : aOK C s w g A t W z pri st) (hL : zL z = (o', gs, en, dis, bs)) (ho : o = en + 1) : aOK C s w g A t W (zSL z (o', gs, o, dis, bs)) pri st := by
  intro ne
  have ne : gs ≠ [] := ne
  unfold aOK at h
  rw [hL] at h
  obtain ⟨a1, a2, a3, a4, a5, a6, a7⟩ := h ne
  unfold aRl at a1
  rw [hL] at a1
  refine ⟨a1, a2, a3, fun y => ?_, a5, a6, a7⟩
  rcases a4 y with q | ⟨i, i1, i2, i3⟩
  · exact Or.inl q
  · exact Or.inr ⟨i, i1, by show i < o; have i2 : i < en := i2; omega, i3⟩
theorem cHas_ok {c : Nat} (h : c ≠ 12) : ∃ b, cHas s w c = some b ∧ (b = true ↔ hasC s w c (cSelf s)) := by
  unfold cHas hasC
  by_cases c13 : c = 13
  · rw [if_pos c13, if_pos c13]
    exact ⟨_, rfl, by simp⟩
  · rw [if_neg c13, if_neg c13]
    by_cases c12 : c < 12
    · rw [if_pos c12, if_pos c12]
      exact ⟨_, rfl, by simp⟩
    · rw [if_neg c12, if_neg c12, if_neg h]
      exact ⟨_, rfl, by simp⟩
/-- what one that takes there may find at a channel, in its ALT -/
theorem tk_v {W j c : Nat} {z : Sg} {r : List Fm} (o : oneW E) (I : Inv C M s w g Q E) (e : Q t = some th) (e0 : thS th = 0) (ef : thF th = (W, j, z) :: r) (c2 : g.2.1 c = 2) (tk : g.2.2.2 c = t) : c ≠ 12 ∧ (s.2.1 c = -1 ∨ s.2.1 c = nI (2 * W + thP th) ∨ (14 ≤ c ∧ hasC s w c (nI (2 * W + thP th)))) := by
  obtain ⟨hW, hWM, p1, ct⟩ := W_M I e ef
  have hM := I.1.2
  refine ⟨fun y => ?_, ?_⟩
  · subst y
    exact o.2.1 (en_T I (by omega) e tk)
  · rcases (I.2.2.1 c c2).2 with y | ⟨b, tb, eb, Wb, jb, zb, rb, d1, d2, d3⟩
    · exact Or.inl y
    · refine Or.inr ?_
      rcases d3 with ⟨d, d'⟩ | ⟨d, d'⟩ | ⟨d, d'⟩
      · have := (w2_tk I eb d).1
        rw [d', tk] at this
        subst this
        rw [e] at eb
        cases eb
        omega
      · have sd := (w3_sd I eb d).1
        rw [d'] at sd
        have c14 : 14 ≤ c := Classical.byContradiction fun y => no_st o I (by omega) eb e sd tk
        obtain ⟨hWb, hWbM, pb, -⟩ := W_M I eb d1
        have bt : b ≠ t := fun y => by
          subst y
          rw [e] at eb
          cases eb
          omega
        refine Or.inr ⟨c14, ?_⟩
        unfold hasC
        rw [if_neg (by omega), if_neg (by omega), d2]
        exact ⟨nI_m1 (by omega), ds_ne (W_ne I e eb ef d1 bt) pb p1 (by omega) (by omega)⟩
      · have := aE_tk I eb d1 d d'
        rw [tk] at this
        subst this
        rw [e] at eb
        cases eb
        rw [ef] at d1
        cases d1
        exact Or.inl d2
/-- a guard's words -/
theorem gd_w {W j : Nat} {z : Sg} {r : List Fm} {o : Int} {gs : List (Bool × Nat)} {en dis bs i n : Nat} {b : Bool} (I : Inv C M s w g Q E) (e : Q t = some th) (e0 : thS th = 0) (ef : thF th = (W, j, z) :: r) (hL : zL z = (o, gs, en, dis, bs)) (hi : gs[i]? = some (b, n)) :
    aOK C s w g (t :: thA th) t W z (thP th) 0 ∧ gs ≠ [] ∧ g.2.1 (W + o + 2 * i).toNat = 3 ∧ (b = true → g.2.1 (W + o + 2 * i + 1).toNat = 3 ∧ g.2.1 (gCh s W o i) = 2 ∧ g.1 (gCh s W o i) ∈ t :: thA th ∧ g.2.2.2 (gCh s W o i) = t ∧ s.2.1 (W + o + 2 * i + 1).toNat = nI (gCh s W o i)) := by
  obtain ⟨W0, j0, z0, r0, a1, a2, a3, a4, a5, a6, a7, a8, a9, a10, a11, a12, a13, a14⟩ := I.2.1 t th e
  rw [ef] at a1
  cases a1
  have A := a10 (Or.inl e0)
  rw [e0] at A
  have ne : gs ≠ [] := fun y => by rw [y] at hi; exact nomatch hi
  refine ⟨A, ne, ?_⟩
  have h := (A (by rw [hL]; exact ne)).1 i b n (by rw [hL]; exact hi)
  rw [hL] at h
  exact ⟨h.1.1, fun y => ⟨(h.2 y).1.1, (h.2 y).2⟩⟩
variable {R : Nat → Sg → Prop} {j : Nat} {z : Sg}
/-- ALT begins -/
theorem i_alt {o : Int} {gs : List (Bool × Nat)} (hC : C.1 j = some (15, nI 22)) (z0 : (zR z).1 = 0) (nl : (zL z).2.1 = []) (h1 : 1 ≤ (zI z).2) (hg : ∀ (i : Nat) (b : Bool) (n : Nat), gs[i]? = some (b, n) → 10 ≤ (zG z (o + 2 * i)).1 ∧ (b = true → 10 ≤ (zG z (o + 2 * i + 1)).1 ∧ (zG z (o + 2 * i + 1)).1 ≤ 19 ∧ chA (zG z) (zW z) 8 ((zG z (o + 2 * i + 1)).1 - 10, (zG z (o + 2 * i + 1)).2)))
    (hR : R (j + 1) (zSL z (o, gs, 0, 0, 0))) : rul C M E R j z := by
  refine ⟨15, nI 22, hC, fun s w g Q t th W r I hw e e0 ef h11 => ?_⟩
  obtain ⟨hE, hr⟩ := fE_i I e e0 ef
  obtain ⟨hW, hWM, p1, ct⟩ := W_M I e ef
  have hM := I.1.2
  have k := kid_0 I e e0 ef z0
  have x3 := ad_b (k := 3) hE.1 hE.2.1 (by omega) (by omega) (by omega) (Or.inl (by omega))
  have x0 : adM (sR (rdB s) 13 0) ((sR (rdB s) 13 0).1 12) = some W := by rw [hE.2.1]; exact ad_n hE.1 hWM
  have w0 := (ct 0 (by omega)).1
  rw [Nat.sub_zero] at w0
  have w3 := (ct 3 (by omega)).1
  have em : ∀ x, x ≠ W → x ≠ W - 3 → (sM (sM (sR (rdB s) 13 0) (W - 3) 1) W (-1)).2.1 x = s.2.1 x := by
    intro x h1 h2
    show (if x = W then _ else if x = W - 3 then _ else s.2.1 x) = _
    rw [if_neg h1, if_neg h2]
  have m0 : (sM (sM (sR (rdB s) 13 0) (W - 3) 1) W (-1)).2.1 W = -1 := if_pos rfl
  have m3 : (sM (sM (sR (rdB s) 13 0) (W - 3) 1) W (-1)).2.1 (W - 3) = 1 := by
    show (if W - 3 = W then _ else if W - 3 = W - 3 then _ else _) = _
    rw [if_neg (by omega), if_pos rfl]
  refine ⟨sM (sM (sR (rdB s) 13 0) (W - 3) 1) W (-1), w, ?_, Or.inl rfl, g, qU Q t ((W, j + 1, zSL z (o, gs, 0, 0, 0)) :: r, th.2), ?_, nFr_1 e ef hR⟩
  · rw [x_sch (by decide) (by decide)]
    show (adM (sR (rdB s) 13 0) ((sR (rdB s) 13 0).1 12 - 3)).bind _ = _
    rw [show (3 : Int32) = nI 3 from rfl, x3]
    show (adM (sR (rdB s) 13 0) ((sR (rdB s) 13 0).1 12)).map _ = _
    rw [x0]
    rfl
  · have n3 : ∀ x, g.2.1 x ≠ 4 → (sM (sM (sR (rdB s) 13 0) (W - 3) 1) W (-1)).2.1 x = s.2.1 x := fun x hx => em x (fun y => by rw [y] at hx; exact hx w0) (fun y => by rw [y] at hx; exact hx w3)
    have wk0 := hE.2.2.2.2.2.2.2.2.1
    refine al_go I e e0 ef k h1 (fun i hi => rd_r i (by omega)) rfl (fun x hx => ?_) (Or.inl ⟨h11, rfl⟩) (fun ne => ⟨?_, Or.inl m3, ⟨fun y => ?_, fun y => absurd y (by decide)⟩, fun y => ?_, fun y => (y m0).elim, fun _ => m0, fun y => (y rfl).elim⟩) (fun c hc => Or.inr (Or.inr ⟨n3 c (by omega), fun _ ae => (aE_ne ae nl).elim⟩))
    · by_cases y1 : x = W
      · exact Or.inl y1
      · by_cases y2 : x = W - 3
        · exact Or.inr (Or.inl y2)
        · exact (hx (em x y1 y2)).elim
    · intro i b n hi
      have hi : gs[i]? = some (b, n) := hi
      obtain ⟨g1, g2⟩ := hg i b n hi
      obtain ⟨q0, q1, q2, q3, q4, q5⟩ := wk_h (wk0 _) g1
      have ea : (W : Int) + o + 2 * i = W + (o + 2 * i) := by omega
      have eb : (W : Int) + o + 2 * i + 1 = W + (o + 2 * i + 1) := by omega
      show (g.2.1 ((W : Int) + o + 2 * i).toNat = 3 ∧ g.1 ((W : Int) + o + 2 * i).toNat ∈ t :: thA th) ∧ (b = true → (g.2.1 ((W : Int) + o + 2 * i + 1).toNat = 3 ∧ g.1 ((W : Int) + o + 2 * i + 1).toNat ∈ t :: thA th) ∧ g.2.1 (gCh (sM (sM (sR (rdB s) 13 0) (W - 3) 1) W (-1)) W o i) = 2 ∧ g.1 (gCh (sM (sM (sR (rdB s) 13 0) (W - 3) 1) W (-1)) W o i) ∈ t :: thA th ∧ g.2.2.2 (gCh (sM (sM (sR (rdB s) 13 0) (W - 3) 1) W (-1)) W o i) = t ∧ (sM (sM (sR (rdB s) 13 0) (W - 3) 1) W (-1)).2.1 ((W : Int) + o + 2 * i + 1).toNat = nI (gCh (sM (sM (sR (rdB s) 13 0) (W - 3) 1) W (-1)) W o i))
      unfold gCh
      rw [eb, ea]
      refine ⟨⟨q3, q4⟩, fun hb => ?_⟩
      obtain ⟨f1, f2, f3⟩ := g2 hb
      obtain ⟨u0, u1, u2, u3, u4, u5, -⟩ := wk_h (wk0 _) f1
      obtain ⟨a, c1, c2, c3, c4, -, c6⟩ := chA_ok hE f3 (u5 f2)
      have cv : s.2.1 ((W : Int) + (o + 2 * i + 1)).toNat = nI a := c1
      rw [n3 _ (by omega), cv, nI_clamp (by omega)]
      exact ⟨⟨u3, u4⟩, c3, c4, bel_1 I e k (c6 rfl), rfl⟩
    · rw [m3] at y
      exact absurd y (by decide)
    · rw [m3] at y
      exact absurd y (by decide)
/-- what a register holds of a guard's word -/
theorem rg_5 {pl : Nat → Nat} {G : Int → Kd} {m : Nat → Int32} {pri W n : Nat} {x : Int} {v : Int32} (h : rk pl G m pri W (5, n, x) v) : v = m (W + x).toNat := h.2
/-- a guard with a channel is enabled -/
theorem i_enb {o : Int} {gs : List (Bool × Nat)} {en dis n n1 n2 : Nat} (ow : oneW E) (hC : C.1 j = some (15, nI 23)) (z0 : (zR z).1 = 0) (h1 : 1 ≤ (zI z).2) (hL : zL z = (o, gs, en, dis, 0)) (hd : dis ≤ en) (hi : gs[en]? = some (true, n)) (ha : (zA z).1 = (5, n1, o + 2 * en + 1)) (hb : (zA z).2.1 = (5, n2, o + 2 * en))
    (hR : R (j + 1) (zSL z (o, gs, en + 1, dis, 0))) : rul C M E R j z := by
  refine ⟨15, nI 23, hC, fun s w g Q t th W r I hw e e0 ef h11 => ?_⟩
  obtain ⟨hE, hr⟩ := fE_i I e e0 ef
  obtain ⟨hW, hWM, p1, ct⟩ := W_M I e ef
  have hM := I.1.2
  have k := kid_0 I e e0 ef z0
  obtain ⟨q14, q12, q15, qp, qr⟩ := run_0 I e e0 ef
  obtain ⟨A, ne, r1, r2⟩ := gd_w I e e0 ef hL hi
  obtain ⟨r2, r3, r4, r5, r6⟩ := r2 rfl
  have w0 := (ct 0 (by omega)).1
  rw [Nat.sub_zero] at w0
  have w3 := (ct 3 (by omega)).1
  have v8 : s.1 8 = nI (gCh s W o en) := by
    have := hr.1
    rw [ha] at this
    rw [rg_5 this, show (W : Int) + (o + 2 * en + 1) = W + o + 2 * en + 1 by omega]
    exact r6
  have v9 : s.1 9 = s.2.1 (W + o + 2 * en).toNat := by
    have := hr.2.1
    rw [hb] at this
    rw [rg_5 this, show (W : Int) + (o + 2 * en) = W + o + 2 * en by omega]
  have cM := (I.2.2.1 _ r3).1
  have A0 : aOK C s w g (t :: thA th) t W (zSL z (o, gs, en + 1, dis, 0)) (thP th) 0 := aOK_L A hL rfl
  have eE : ∀ (s1 : Cr) c, (∀ x, g.2.1 x = 3 → s1.2.1 x = s.2.1 x) → aEn s W z c → aEn s1 W (zSL z (o, gs, en + 1, dis, 0)) c := by
    intro s1 c h3 ae
    have := aEn_mv (s' := s1) (A (by rw [hL]; exact ne)).1 ae (fun x _ h => h3 x h)
    unfold aEn at this
    rw [hL] at this
    obtain ⟨i, n', d1, d2, d3, d4, d5⟩ := this
    exact ⟨i, n', d1, by show i < en + 1; have d2 : i < en := d2; omega, d3, d4, d5⟩
  by_cases f0 : s.1 9 = 0
  · refine ⟨cPop (sR (rdB s) 13 0), w, ?_, Or.inl rfl, g, qU Q t ((W, j + 1, zSL z (o, gs, en + 1, dis, 0)) :: r, th.2), ?_, nFr_1 e ef hR⟩
    · rw [x_sch (by decide) (by decide)]
      show (if (sR (rdB s) 13 0).1 9 = 0 then some (cPop (sR (rdB s) 13 0), w) else _) = _
      rw [if_pos (show (sR (rdB s) 13 0).1 9 = 0 from f0)]
    · exact al_go I e e0 ef k h1 (fun i hi => by rw [po_r i (by omega) (by omega)]; exact rd_r i (by omega)) rfl (fun x hx => (hx rfl).elim) (Or.inl ⟨h11, rfl⟩) A0 (fun c hc => Or.inr (Or.inr ⟨rfl, fun _ ae => eE _ c (fun _ _ => rfl) ae⟩))
  · obtain ⟨n12, tv⟩ := tk_v ow I e e0 ef r3 r5
    have q12' : (cPop (sR (rdB s) 13 0)).1 12 = nI W := by rw [po_r 12 (by omega) (by omega)]; exact q12
    have sf : cSelf (cPop (sR (rdB s) 13 0)) = nI (2 * W + thP th) := sf_ok q12' (by rw [po_r 15 (by omega) (by omega)]; exact q15)
    obtain ⟨b, hb1, hb2⟩ := cHas_ok (s := cPop (sR (rdB s) 13 0)) (w := w) n12
    rw [sf] at hb2
    have hb2 : b = true ↔ hasC s w (gCh s W o en) (nI (2 * W + thP th)) := hb2
    have gOp : gOpn s W o en := by
      unfold gOpn
      rw [← v9]
      exact f0
    have un : xI (sR (rdB s) 13 0) w 15 (nI 23) = (if b then some (sM (cPop (sR (rdB s) 13 0)) (W - 3) 3) else if s.2.1 (gCh s W o en) = -1 ∨ s.2.1 (gCh s W o en) = nI (2 * W + thP th) then some (sM (cPop (sR (rdB s) 13 0)) (gCh s W o en) (nI (2 * W + thP th))) else none).map fun s => (s, w) := by
      rw [x_sch (by decide) (by decide)]
      show (if (sR (rdB s) 13 0).1 9 = 0 then _ else (cEnb (cPop (sR (rdB s) 13 0)) w (s.1 8)).map fun s => (s, w)) = _
      rw [if_neg (show ¬ (sR (rdB s) 13 0).1 9 = 0 from f0), v8]
      unfold cEnb
      rw [ad_n (s := cPop (sR (rdB s) 13 0)) (M := M) I.1 cM]
      show ((cHas (cPop (sR (rdB s) 13 0)) w (gCh s W o en)).bind _).map _ = _
      rw [hb1, sf]
      show (if b = true then (adM (cPop (sR (rdB s) 13 0)) ((cPop (sR (rdB s) 13 0)).1 12 - 3)).map _ else _ : Option Cr).map _ = _
      have x3 := ad_b (s := cPop (sR (rdB s) 13 0)) (M := M) (W := W) (k := 3) I.1 q12' (by omega) (by omega) (by omega) (Or.inl (by omega))
      rw [show (3 : Int32) = nI 3 from rfl, x3]
      rfl
    rw [un]
    by_cases hb : b = true
    · rw [if_pos hb]
      refine ⟨sM (cPop (sR (rdB s) 13 0)) (W - 3) 3, w, rfl, Or.inl rfl, g, qU Q t ((W, j + 1, zSL z (o, gs, en + 1, dis, 0)) :: r, th.2), ?_, nFr_1 e ef hR⟩
      have em : ∀ x, x ≠ W - 3 → (sM (cPop (sR (rdB s) 13 0)) (W - 3) 3).2.1 x = s.2.1 x := fun x hx => if_neg hx
      have n4 : ∀ x, g.2.1 x ≠ 4 → (sM (cPop (sR (rdB s) 13 0)) (W - 3) 3).2.1 x = s.2.1 x := fun x hx => em x fun y => by rw [y] at hx; exact hx w3
      refine al_go I e e0 ef k h1 (fun i hi => by show (cPop (sR (rdB s) 13 0)).1 i = _; rw [po_r i (by omega) (by omega)]; exact rd_r i (by omega)) rfl (fun x hx => ?_) (Or.inl ⟨h11, rfl⟩) (aOK_3 A0 ⟨en, hd, by show en < en + 1; omega, gOp, true, n, hi, fun _ => hb2.mp hb⟩ w3 (by omega) em (if_pos rfl) (by decide)) (fun c hc => Or.inr (Or.inr ⟨n4 c (by omega), fun _ ae => eE _ c (fun x hx => n4 x (by omega)) ae⟩))
      exact Or.inr (Or.inl (Classical.byContradiction fun y => hx (em x y)))
    · rw [if_neg hb]
      have nh : ¬ hasC s w (gCh s W o en) (nI (2 * W + thP th)) := fun y => hb (hb2.mpr y)
      have mo : s.2.1 (gCh s W o en) = -1 ∨ s.2.1 (gCh s W o en) = nI (2 * W + thP th) := by
        rcases tv with y | y | ⟨-, y⟩
        · exact Or.inl y
        · exact Or.inr y
        · exact (nh y).elim
      rw [if_pos mo]
      generalize hc : gCh s W o en = c at r3 r4 r5 r6 cM nh mo tv n12 ⊢
      refine ⟨sM (cPop (sR (rdB s) 13 0)) c (nI (2 * W + thP th)), w, rfl, Or.inl rfl, g, qU Q t ((W, j + 1, zSL z (o, gs, en + 1, dis, 0)) :: r, th.2), ?_, nFr_1 e ef hR⟩
      have em : ∀ x, x ≠ c → (sM (cPop (sR (rdB s) 13 0)) c (nI (2 * W + thP th))).2.1 x = s.2.1 x := fun x hx => if_neg hx
      have n2 : ∀ x, g.2.1 x ≠ 2 → (sM (cPop (sR (rdB s) 13 0)) c (nI (2 * W + thP th))).2.1 x = s.2.1 x := fun x hx => em x fun y => by rw [y] at hx; exact hx r3
      have A1 : aOK C (sM (cPop (sR (rdB s) 13 0)) c (nI (2 * W + thP th))) w g (t :: thA th) t W (zSL z (o, gs, en + 1, dis, 0)) (thP th) 0 := aOK_mv A0 (fun x _ h => n2 x (by omega)) (fun _ _ => ⟨rfl, rfl⟩) (fun _ _ _ y => y) ⟨n2 W (by omega), n2 _ (by omega)⟩ (fun _ x _ x2 _ hx => by
        by_cases xc : x = c
        · rw [xc] at hx; exact (nh hx).elim
        · unfold hasC at hx ⊢
          rw [em x xc]
          exact hx)
      refine al_go I e e0 ef k h1 (fun i hi => by show (cPop (sR (rdB s) 13 0)).1 i = _; rw [po_r i (by omega) (by omega)]; exact rd_r i (by omega)) rfl (fun x hx => ?_) (Or.inl ⟨h11, rfl⟩) A1 (fun c' hc' => ?_)
      · have : x = c := Classical.byContradiction fun y => hx (em x y)
        subst this
        exact Or.inr (Or.inr ⟨r3, r5, mo⟩)
      · by_cases cc : c' = c
        · subst cc
          refine Or.inr (Or.inl ⟨if_pos rfl, en, n, hd, by show en < en + 1; omega, hi, ?_, ?_⟩)
          · show gOpn _ W o en
            unfold gOpn at gOp ⊢
            rw [n2 _ (by omega)]
            exact gOp
          · show gCh _ W o en = c'
            unfold gCh at hc ⊢
            rw [n2 _ (by omega)]
            exact hc
        · exact Or.inr (Or.inr ⟨em c' cc, fun _ ae => eE _ c' (fun x hx => n2 x (by omega)) ae⟩)
/-- a guard without a channel is enabled -/
theorem i_ens {o : Int} {gs : List (Bool × Nat)} {en dis n n1 : Nat} (hC : C.1 j = some (15, nI 24)) (z0 : (zR z).1 = 0) (h1 : 1 ≤ (zI z).2) (hL : zL z = (o, gs, en, dis, 0)) (hd : dis ≤ en) (hi : gs[en]? = some (false, n)) (ha : (zA z).1 = (5, n1, o + 2 * en))
    (hR : R (j + 1) (zSL z (o, gs, en + 1, dis, 0))) : rul C M E R j z := by
  refine ⟨15, nI 24, hC, fun s w g Q t th W r I hw e e0 ef h11 => ?_⟩
  obtain ⟨hE, hr⟩ := fE_i I e e0 ef
  obtain ⟨hW, hWM, p1, ct⟩ := W_M I e ef
  have hM := I.1.2
  have k := kid_0 I e e0 ef z0
  obtain ⟨A, ne, r1, r2⟩ := gd_w I e e0 ef hL hi
  have w3 := (ct 3 (by omega)).1
  have v8 : s.1 8 = s.2.1 (W + o + 2 * en).toNat := by
    have := hr.1
    rw [ha] at this
    rw [rg_5 this, show (W : Int) + (o + 2 * en) = W + o + 2 * en by omega]
  have A0 : aOK C s w g (t :: thA th) t W (zSL z (o, gs, en + 1, dis, 0)) (thP th) 0 := aOK_L A hL rfl
  have eE : ∀ (s1 : Cr) c, (∀ x, g.2.1 x = 3 → s1.2.1 x = s.2.1 x) → aEn s W z c → aEn s1 W (zSL z (o, gs, en + 1, dis, 0)) c := by
    intro s1 c h3 ae
    have := aEn_mv (s' := s1) (A (by rw [hL]; exact ne)).1 ae (fun x _ h => h3 x h)
    unfold aEn at this
    rw [hL] at this
    obtain ⟨i, n', d1, d2, d3, d4, d5⟩ := this
    exact ⟨i, n', d1, by show i < en + 1; have d2 : i < en := d2; omega, d3, d4, d5⟩
  have x3 := ad_b (k := 3) hE.1 hE.2.1 (by omega) (by omega) (by omega) (Or.inl (by omega))
  have un : xI (sR (rdB s) 13 0) w 15 (nI 24) = some (if s.1 8 = 0 then sR (rdB s) 13 0 else sM (sR (rdB s) 13 0) (W - 3) 3, w) := by
    rw [x_sch (by decide) (by decide)]
    show (adM (sR (rdB s) 13 0) ((sR (rdB s) 13 0).1 12 - 3)).map _ = _
    rw [show (3 : Int32) = nI 3 from rfl, x3]
    rfl
  rw [un]
  by_cases f0 : s.1 8 = 0
  · rw [if_pos f0]
    refine ⟨sR (rdB s) 13 0, w, rfl, Or.inl rfl, g, qU Q t ((W, j + 1, zSL z (o, gs, en + 1, dis, 0)) :: r, th.2), ?_, nFr_1 e ef hR⟩
    exact al_go I e e0 ef k h1 (fun i hi => rd_r i (by omega)) rfl (fun x hx => (hx rfl).elim) (Or.inl ⟨h11, rfl⟩) A0 (fun c hc => Or.inr (Or.inr ⟨rfl, fun _ ae => eE _ c (fun _ _ => rfl) ae⟩))
  · rw [if_neg f0]
    refine ⟨sM (sR (rdB s) 13 0) (W - 3) 3, w, rfl, Or.inl rfl, g, qU Q t ((W, j + 1, zSL z (o, gs, en + 1, dis, 0)) :: r, th.2), ?_, nFr_1 e ef hR⟩
    have em : ∀ x, x ≠ W - 3 → (sM (sR (rdB s) 13 0) (W - 3) 3).2.1 x = s.2.1 x := fun x hx => if_neg hx
    have n4 : ∀ x, g.2.1 x ≠ 4 → (sM (sR (rdB s) 13 0) (W - 3) 3).2.1 x = s.2.1 x := fun x hx => em x fun y => by rw [y] at hx; exact hx w3
    have gOp : gOpn s W o en := by
      unfold gOpn
      rw [← v8]
      exact f0
    refine al_go I e e0 ef k h1 (fun i hi => rd_r i (by omega)) rfl (fun x hx => ?_) (Or.inl ⟨h11, rfl⟩) (aOK_3 A0 ⟨en, hd, by show en < en + 1; omega, gOp, false, n, hi, fun y => absurd y (by decide)⟩ w3 (by omega) em (if_pos rfl) (by decide)) (fun c hc => Or.inr (Or.inr ⟨n4 c (by omega), fun _ ae => eE _ c (fun x hx => n4 x (by omega)) ae⟩))
    exact Or.inr (Or.inl (Classical.byContradiction fun y => hx (em x y)))
end
