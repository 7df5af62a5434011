/-! (S): PAR: branches come to be, all at once -/
section
variable {C : Cx} {M : Nat} {E : En} {s s' : Cr} {w w' : Wd} {g : Gh} {Q : Thr} {t u b : Nat} {th tu tb : Th} {R : Nat → Sg → Prop} {j : Nat} {z : Sg}
/-- within a header -/
def zSF (z : Sg) (q beh : Nat) (Bs : List Br) : Sg := (hdG (zG z) q, (k0, k0, k0), zI z, zU z, zL z, (beh + 1, Bs.map fun B => (B.1, B.2.1, B.2.2.1)), zW z)
theorem fork {W q beh j' : Nat} {r : List Fm} {Bs : List Br} {Sd Tk : Nat → Nat} (I : Inv C M s w g Q E) (e : Q t = some th) (e0 : thS th = 0) (ef : thF th = (W, j, z) :: r) (nl : (zL z).2.1 = []) (z0 : (zR z).1 = 0)
    (q1 : 1 ≤ q) (q3 : q + 3 ≤ (zI z).2) (hG : ∀ off, (zG z off).1 ≠ 0 → 0 < off) (nc : ∀ o, ¬ ((q : Int) ≤ o ∧ o < q + 3) → (zG z o).1 = 15 ∨ (zG z o).1 = 16 → ¬ ((q : Int) ≤ (zG z o).2.2 ∧ (zG z o).2.2 < q + 3))
    (er : ∀ i, i = 5 ∨ i = 12 ∨ i = 14 ∨ i = 15 ∨ (22 ≤ i ∧ i ≤ 27) → s'.1 i = s.1 i) (eq : s'.2.2 = s.2.2) (em : ∀ x, ¬ (W + q ≤ x ∧ x < W + q + 3) → s'.2.1 x = s.2.1 x)
    (m0 : s'.2.1 (W + q) = nI (C.2 beh)) (m1 : s'.2.1 (W + q + 1) = nI Bs.length) (m2 : s'.2.1 (W + q + 2) = nI (2 * W + thP th)) (psN : pos C j' (s'.1 11) (s'.1 13))
    (br : ∀ B ∈ Bs, brOK (hdG (zG z) q) (zW z) q (zI z).1 B) (pw : ∀ B ∈ Bs, ∀ B' ∈ Bs, B ≠ B' → brAp B B') (nd : Bs.Nodup) (lw : ∃ B ∈ Bs, B.2.2.1 ≠ 0)
    (hS : ∀ a, (∃ B ∈ Bs, rtB s'.2.1 W B 4 a ∧ Sd a = W - B.1) ∨ ((∀ B ∈ Bs, ¬ rtB s'.2.1 W B 4 a) ∧ Sd a = g.2.2.1 a))
    (hT : ∀ a, (∃ B ∈ Bs, rtB s'.2.1 W B 8 a ∧ Tk a = W - B.1) ∨ ((∀ B ∈ Bs, ¬ rtB s'.2.1 W B 8 a) ∧ Tk a = g.2.2.2 a)) :
    Inv C M s' w (gFk g W q Bs Sd Tk) (qFk Q t ((W, j', zSF z q beh Bs) :: r, th.2.1, th.2.2.1, thA th, Bs.map (fun B => W - B.1), (q, beh)) W (thP th) (t :: thA th) Bs) E := by
  obtain ⟨i4, i5, i6, i7, i8, i9, i10, i11, i12, i13⟩ := I.2.2.2.1
  have k := kid_0 I e e0 ef z0
  obtain ⟨hW, hWM, p1, ct⟩ := W_M I e ef
  have hM := I.1.2
  obtain ⟨W0, j0, z0', r0, a1, a2, a3, a4, a5, a6, a7, a8, a9, a10, a11, a12, a13, a14⟩ := I.2.1 t th e
  rw [ef] at a1
  cases a1
  obtain ⟨b1, b2, b3, b4, b5, b6⟩ := a5 (W, j, z) (by rw [ef]; exact List.mem_cons_self)
  simp only at b1 b2 b3 b4 b5 b6
  have hf0 : (W, j, z) ∈ thF th := by rw [ef]; exact List.mem_cons_self
  have Wt := (own_b I e ef).2
  generalize hth : (((W, j', zSF z q beh Bs) :: r, th.2.1, th.2.2.1, thA th, Bs.map (fun B => W - B.1), (q, beh)) : Th) = th'
  have hF' : thF th' = (W, j', zSF z q beh Bs) :: r := by rw [← hth]; rfl
  have hS' : thS th' = 0 := by rw [← hth]; exact e0
  have hP' : thP th' = thP th := by rw [← hth]; rfl
  have hA' : thA th' = thA th := by rw [← hth]; rfl
  have hK' : thK th' = Bs.map (fun B => W - B.1) := by rw [← hth]; rfl
  have hO' : thO th' = ((q : Int), beh) := by rw [← hth]; rfl
  have hL' : thL th' = thL th := by rw [← hth]; rfl
  have hH' : thH th' = thH th := by rw [← hth]; rfl
  generalize hgF : gFk g W q Bs Sd Tk = g'
  generalize hqF : qFk Q t th' W (thP th) (t :: thA th) Bs = Q'
  have eSd : g'.2.2.1 = Sd := by rw [← hgF]; rfl
  have eTk : g'.2.2.2 = Tk := by rw [← hgF]; rfl
  -- words of branches
  have inI : ∀ x B, fnB Bs W x = some B → B ∈ Bs ∧ x + 4 ≤ W ∧ 16 ≤ x ∧ g.1 x = t := by
    intro x B h
    obtain ⟨c1, c2, c3⟩ := fn_some h
    obtain ⟨-, -, -, -, d5, d6, d7, d8, -, -⟩ := br B c1
    exact ⟨c1, by omega, by omega, own_i I e k hf0 (by show W ≤ x + (zI z).1; omega) (by show x < W + (zI z).2; omega)⟩
  have g1n : ∀ x, fnB Bs W x = none → g'.1 x = g.1 x := fun x h => by rw [← hgF]; show (match fnB Bs W x with | some B => W - B.1 | none => g.1 x) = _; rw [h]
  have g1s : ∀ x B, fnB Bs W x = some B → g'.1 x = W - B.1 := fun x B h => by rw [← hgF]; show (match fnB Bs W x with | some B => W - B.1 | none => g.1 x) = _; rw [h]
  have g2n : ∀ x, fnB Bs W x = none → ¬ (W + q ≤ x ∧ x < W + q + 3) → g'.2.1 x = g.2.1 x := fun x h h2 => by rw [← hgF]; show (match fnB Bs W x with | some B => (if W ≤ x + 3 + B.1 ∧ x + B.1 ≤ W then 4 else 1) | none => if W + q ≤ x ∧ x < W + q + 3 then 4 else g.2.1 x) = _; rw [h]; exact if_neg h2
  have g2h : ∀ x, fnB Bs W x = none → W + q ≤ x ∧ x < W + q + 3 → g'.2.1 x = 4 := fun x h h2 => by rw [← hgF]; show (match fnB Bs W x with | some B => (if W ≤ x + 3 + B.1 ∧ x + B.1 ≤ W then 4 else 1) | none => if W + q ≤ x ∧ x < W + q + 3 then 4 else g.2.1 x) = _; rw [h]; exact if_pos h2
  have g2s : ∀ x B, fnB Bs W x = some B → g'.2.1 x = if W ≤ x + 3 + B.1 ∧ x + B.1 ≤ W then 4 else 1 := fun x B h => by rw [← hgF]; show (match fnB Bs W x with | some B => (if W ≤ x + 3 + B.1 ∧ x + B.1 ≤ W then 4 else 1) | none => if W + q ≤ x ∧ x < W + q + 3 then 4 else g.2.1 x) = _; rw [h]
  have outN : ∀ x, W ≤ x + 3 ∨ x < 16 → fnB Bs W x = none := fun x hx => by
    cases h : fnB Bs W x with
    | none => rfl
    | some B =>
      have := inI x B h
      omega
  have hdo : ∀ x, W + q ≤ x → x < W + q + 3 → g.1 x = t := fun x h1 h2 => own_i I e k hf0 (by show W ≤ x + (zI z).1; omega) (by show x < W + (zI z).2; omega)
  have notT : ∀ b tb x, b ≠ t → Q b = some tb → g.1 x ∈ b :: thA tb → g.1 x ≠ t := by
    intro b tb x hb eb hx y
    rw [y] at hx
    rcases List.mem_cons.mp hx with c | c
    · exact hb c.symm
    · exact no_d' I e k eb c
  have oth : ∀ x, g.1 x ≠ t → fnB Bs W x = none ∧ ¬ (W + q ≤ x ∧ x < W + q + 3) := fun x hx => ⟨by
    cases h : fnB Bs W x with
    | none => rfl
    | some B => exact (hx (inI x B h).2.2.2).elim, fun y => hx (hdo x y.1 y.2)⟩
  -- who is there
  have qt : Q' t = some th' := by rw [← hqF]; exact if_pos rfl
  have qo : ∀ b tb, b ≠ t → Q b = some tb → Q' b = some tb := by
    intro b tb hb eb
    obtain ⟨W1, j1, z1, r1, c1, -⟩ := I.2.1 b tb eb
    have ob := (own_b I eb c1).1
    have fn := (oth b (by rw [ob]; exact hb)).1
    rw [← hqF]
    unfold qFk
    rw [if_neg hb, fn]
    exact eb
  have qc : ∀ B ∈ Bs, Q' (W - B.1) = some (chT W (thP th) (t :: thA th) B) ∧ W - B.1 ≠ t := by
    intro B hB
    obtain ⟨-, -, -, -, d5, d6, d7, d8, -, -⟩ := br B hB
    have fn := fn_in (W := W) (x := W - B.1) pw hB (by omega) (by omega)
    have nt : W - B.1 ≠ t := by omega
    refine ⟨?_, nt⟩
    rw [← hqF]
    unfold qFk
    rw [if_neg nt, fn]
    exact if_pos (by omega)
  have back : ∀ b tb, Q' b = some tb → (b = t ∧ tb = th') ∨ (∃ B ∈ Bs, b = W - B.1 ∧ tb = chT W (thP th) (t :: thA th) B) ∨ (b ≠ t ∧ Q b = some tb) := by
    intro b tb hb
    rw [← hqF] at hb
    unfold qFk at hb
    by_cases c : b = t
    · rw [if_pos c] at hb
      exact Or.inl ⟨c, (Option.some.inj hb).symm⟩
    · rw [if_neg c] at hb
      cases fn : fnB Bs W b with
      | none =>
        rw [fn] at hb
        exact Or.inr (Or.inr ⟨c, hb⟩)
      | some B =>
        rw [fn] at hb
        have hb : (if b + B.1 = W then some (chT W (thP th) (t :: thA th) B) else Q b) = some tb := hb
        by_cases c2 : b + B.1 = W
        · rw [if_pos c2] at hb
          exact Or.inr (Or.inl ⟨B, (inI b B fn).1, by omega, (Option.some.inj hb).symm⟩)
        · rw [if_neg c2] at hb
          exact Or.inr (Or.inr ⟨c, hb⟩)
  -- below
  have belM : ∀ b y, bel Q b y → bel Q' b y := by
    intro b y h
    rcases h with h | ⟨ty, h1, h2⟩
    · exact Or.inl h
    · by_cases c : y = t
      · subst c
        rw [e] at h1
        cases h1
        exact Or.inr ⟨th', qt, by rw [hA']; exact h2⟩
      · exact Or.inr ⟨ty, qo y ty c h1, h2⟩
  have belC : ∀ b B, B ∈ Bs → bel Q b t → bel Q' b (W - B.1) := by
    intro b B hB h
    refine Or.inr ⟨_, (qc B hB).1, ?_⟩
    show b ∈ t :: thA th
    rcases h with h | ⟨ty, h1, h2⟩
    · rw [h]; exact List.mem_cons_self
    · rw [e] at h1
      cases h1
      exact List.mem_cons_of_mem _ h2
  have belS : ∀ b a, bel Q b (g.2.2.1 a) → bel Q' b (g'.2.2.1 a) := by
    intro b a h
    rw [eSd]
    rcases hS a with ⟨B, c1, c2, c3⟩ | ⟨c1, c2⟩
    · rw [c3]
      rw [(rt_par I e e0 ef k hG em (br B c1) (Or.inl rfl) c2).1 rfl] at h
      exact belC b B c1 h
    · rw [c2]; exact belM b _ h
  have belT : ∀ b a, bel Q b (g.2.2.2 a) → bel Q' b (g'.2.2.2 a) := by
    intro b a h
    rw [eTk]
    rcases hT a with ⟨B, c1, c2, c3⟩ | ⟨c1, c2⟩
    · rw [c3]
      rw [(rt_par I e e0 ef k hG em (br B c1) (Or.inr rfl) c2).2.1 rfl] at h
      exact belC b B c1 h
    · rw [c2]; exact belM b _ h
  have belO : ∀ b x, bel Q b (g.1 x) → bel Q' b (g'.1 x) := by
    intro b x h
    cases fn : fnB Bs W x with
    | none => rw [g1n x fn]; exact belM b _ h
    | some B =>
      obtain ⟨c1, -, -, c4⟩ := inI x B fn
      rw [g1s x B fn]
      rw [c4] at h
      exact belC b B c1 h
  have fwd4 : ∀ b x, b ≠ t → g.2.2.1 x = b → g'.2.2.1 x = b := by
    intro b x hb h
    rw [eSd]
    rcases hS x with ⟨B, c1, c2, c3⟩ | ⟨c1, c2⟩
    · exact (hb (h.symm.trans ((rt_par I e e0 ef k hG em (br B c1) (Or.inl rfl) c2).1 rfl))).elim
    · rw [c2]; exact h
  have fwd8 : ∀ b x, b ≠ t → g.2.2.2 x = b → g'.2.2.2 x = b := by
    intro b x hb h
    rw [eTk]
    rcases hT x with ⟨B, c1, c2, c3⟩ | ⟨c1, c2⟩
    · exact (hb (h.symm.trans ((rt_par I e e0 ef k hG em (br B c1) (Or.inr rfl) c2).2.1 rfl))).elim
    · rw [c2]; exact h
  have hP : ∀ x, W + (zI z).2 ≤ x ∨ x < 16 → fnB Bs W x = none ∧ ¬ (W + q ≤ x ∧ x < W + q + 3) := fun x hx => ⟨outN x (by omega), by omega⟩
  have hG1 : ∀ off, (hdG (zG z) q off).1 ≠ 0 → fnB Bs W (W + off).toNat = none ∧ ¬ (W + q ≤ (W + off).toNat ∧ (W + off).toNat < W + q + 3) ∧ hdG (zG z) q off = zG z off := by
    intro off h
    unfold hdG at h ⊢
    by_cases c : (q : Int) ≤ off ∧ off < q + 3
    · rw [if_pos c] at h; exact (h rfl).elim
    · rw [if_neg c] at h ⊢
      have := hG off h
      exact ⟨outN _ (by omega), by omega, rfl⟩
  -- known words
  have wk1 : ∀ off, wk C.2 M g Q (t :: thA th) t (thP th) (hdG (zG z) q) s'.2.1 W (zI z).2 off := by
    intro off
    by_cases c : (q : Int) ≤ off ∧ off < q + 3
    · exact Or.inl (by show (hdG (zG z) q off).1 = 0; unfold hdG; rw [if_pos c])
    · exact wk_G (P := fun o => (q : Int) ≤ o ∧ o < q + 3) (Z := fun x => ¬ (W + q ≤ x ∧ x < W + q + 3)) b4 nc (fun o ho => if_neg ho) (fun a ha => (hP a ha).2) (fun o ho h0 _ => by omega) (fun x hx _ => em x hx) (fun x _ => ⟨rfl, rfl, rfl, rfl⟩) c
  have sb : stb (fun x => fnB Bs W x = none ∧ ¬ (W + q ≤ x ∧ x < W + q + 3)) s'.2.1 s'.2.1 g g' Q Q' (t :: thA th) t := ⟨fun _ _ _ _ => rfl, fun x hx _ => ⟨g1n x hx.1, g2n x hx.1 hx.2⟩, fun x _ _ _ => ⟨belS t x, belT t x⟩⟩
  have sb2 : stb (fun x => fnB Bs W x = none ∧ ¬ (W + q ≤ x ∧ x < W + q + 3)) s.2.1 s'.2.1 g g' Q Q' (t :: thA th) t := ⟨fun x hx _ _ => em x hx.2, fun x hx _ => ⟨g1n x hx.1, g2n x hx.1 hx.2⟩, fun x _ _ _ => ⟨belS t x, belT t x⟩⟩
  have adE : ∀ o, hdG (zG z) q o = zG z o → ¬ ((q : Int) ≤ o ∧ o < q + 3) → (zG z o).1 ≠ 0 → adS (hdG (zG z) q) s'.2.1 W o = adS (zG z) s.2.1 W o := by
    intro o h1 h2 h3
    have := hG o h3
    unfold adS
    rw [h1]
    split
    · rw [em _ (by omega)]
    · rfl
  have btH : ∀ o, btS (hdG (zG z) q o) ≠ 0 → hdG (zG z) q o = zG z o ∧ ¬ ((q : Int) ≤ o ∧ o < q + 3) ∧ (zG z o).1 ≠ 0 := by
    intro o h
    by_cases c : (q : Int) ≤ o ∧ o < q + 3
    · have : hdG (zG z) q o = k0 := if_pos c
      rw [this] at h
      exact (h rfl).elim
    · have e1 : hdG (zG z) q o = zG z o := if_neg c
      refine ⟨e1, c, fun y => ?_⟩
      rw [e1] at h
      unfold btS at h
      rw [y, if_neg (by omega)] at h
      exact h rfl
  have nz : ∀ x y : Nat, x &&& y ≠ 0 → x ≠ 0 ∧ y ≠ 0 := fun x y h => ⟨fun c => h (by rw [c, Nat.zero_and]), fun c => h (by rw [c, Nat.and_zero])⟩
  have ij1 : inj (hdG (zG z) q) s'.2.1 W (zW z) := by
    refine ⟨fun o o' n h => ?_, fun o c hc h => ?_⟩
    · obtain ⟨x1, x2, x3⟩ := btH o (nz _ _ h).1
      obtain ⟨y1, y2, y3⟩ := btH o' (nz _ _ h).2
      rw [adE o x1 x2 x3, adE o' y1 y2 y3]
      rw [x1, y1] at h
      exact b6.1 o o' n h
    · obtain ⟨x1, x2, x3⟩ := btH o (nz _ _ h).1
      rw [adE o x1 x2 x3]
      rw [x1] at h
      exact b6.2 o c hc h
  have up := lnk_up (W, j, z) r (by rw [← ef]; exact a6)
  have dlt : ∀ B ∈ Bs, B.1 + 19 ≤ W := fun B hB => by
    obtain ⟨-, -, -, -, d5, d6, d7, d8, -, -⟩ := br B hB
    omega
  have kne : Bs ≠ [] := fun y => by
    obtain ⟨B, hB, -⟩ := lw
    rw [y] at hB
    exact nomatch hB
  -- the one above
  have tokT : tOK C M s' w g' Q' t th' := by
    refine ⟨W, j', zSF z q beh Bs, r, hF', by rw [hP']; exact a2, by rw [hL']; exact a3, by rw [hH']; exact a4, fun f hf => ?_, ?_, fun x x1 x2 => belO t x (a7 x (by rw [← hL']; exact x1) (by rw [← hH']; exact x2)), ?_, ?_, fun _ ne => (ne nl).elim, fun _ => nl, ⟨fun _ y => absurd y (Nat.succ_ne_zero _), fun _ => ⟨⟨⟨?_, fun i hi => ?_, ?_, ?_, ?_, fun y => ?_, Or.inl hS'⟩, ?_⟩, fun _ => ⟨fun c hc tc etc _ => ?_, ?_⟩⟩, fun _ _ => ⟨⟨?_, ?_⟩, fun p hp => ?_⟩⟩, fun kk hk => ?_, a14⟩
    · rw [hF'] at hf
      rcases List.mem_cons.mp hf with y | y
      · subst y
        unfold fOK
        rw [hL', hH', hA', hP']
        exact ⟨b1, b2, b3, wk_mv wk1 (fun off h => ⟨(hG1 off h).1, (hG1 off h).2.1⟩) hP sb, fun c hc => (b5 c hc).mv (P := fun x => fnB Bs W x = none ∧ ¬ (W + q ≤ x ∧ x < W + q + 3)) (hP c (Or.inr (by omega))) sb2.2.1 sb2.2.2, ij1⟩
      · obtain ⟨u1, u2⟩ := up f y
        have u1 : W + (zI z).2 + 4 ≤ f.1 := u1
        have := fOK_mv (th' := th) (a5 f (by rw [ef]; exact List.mem_cons_of_mem _ y)) rfl rfl (fun off ho => hP _ (Or.inl (by have := u2 off ho; omega))) (fun a ha => hP a (by omega)) sb2
        unfold fOK at this ⊢
        rw [hL', hH', hA', hP']
        exact this
    · rw [hF']
      rw [ef] at a6
      have hl := lnk_mv (s' := s') (g' := g') (P := fun x => W + (zI z).2 ≤ x) (fun x hx _ _ => em x (hP x (Or.inl hx)).2) (fun x hx _ => ⟨g1n x (hP x (Or.inl hx)).1, g2n x (hP x (Or.inl hx)).1 (hP x (Or.inl hx)).2⟩) _ (fun f r' hf a ha => by cases hf; exact ha) a6
      cases r with
      | nil => exact hl
      | cons f1 r => exact hl
    · obtain ⟨u1, u2, u3, f, u4, u5, u6⟩ := a8
      refine ⟨?_, fun c hc => ?_, by rw [hA']; exact u3, ?_⟩
      · rw [hK']
        refine List.pairwise_map.mpr (List.Pairwise.imp_of_mem (fun {B B'} hB hB' hne => ?_) nd)
        have := (pw B hB B' hB' hne).1
        have := dlt B hB
        have := dlt B' hB'
        obtain ⟨-, -, -, -, d5, d6, d7, d8, -, -⟩ := br B hB
        obtain ⟨-, -, -, -, d5', d6', d7', d8', -, -⟩ := br B' hB'
        omega
      · rw [hK'] at hc
        obtain ⟨B, hB, rfl⟩ := List.mem_map.mp hc
        exact ⟨_, (qc B hB).1, by rw [hA']; rfl⟩
      · have u7 : match thA th' with
          | [] => (zU f.2.2).1 = 0
          | u :: r => (zU f.2.2).1 = 2 ∧ ∃ tu fu ru, Q' u = some tu ∧ thA tu = r ∧ t ∈ thK tu ∧ thF tu = fu :: ru ∧ (fu.1 : Int) = f.1 + (zU f.2.2).2.1 ∧ (thO tu).1 = (zU f.2.2).2.2 := by
          rw [hA']
          revert u6 u3
          cases thA th with
          | nil => exact fun _ y => y
          | cons v vs =>
            rintro u3 ⟨y1, tv, fv, rv, y2, y3⟩
            have vt : v ≠ t := fun y => u3 (by rw [y]; exact List.mem_cons_self)
            exact ⟨y1, tv, fv, rv, qo v tv vt y2, y3⟩
        rw [hF']
        rw [ef] at u4
        cases r with
        | nil =>
          have u4 : (W, j, z) = f := Option.some.inj u4
          subst u4
          exact ⟨(W, j', zSF z q beh Bs), rfl, u5, u7⟩
        | cons f1 r =>
          exact ⟨f, by rw [List.getLast?_cons_cons] at u4 ⊢; exact u4, u5, u7⟩
    · unfold sOK
      rw [hS']
      obtain ⟨y14, y12, y15, -, -⟩ := run_0 I e e0 ef
      exact ⟨by rw [er 14 (by omega)]; exact y14, by rw [er 12 (by omega)]; exact y12, by rw [er 15 (by omega), hP']; exact y15, psN, trivial, trivial, trivial⟩
    · rw [hO']; show (1 : Int) ≤ (q : Int); omega
    · rw [hO']
      show (((W : Int) + (q : Int) + (i : Int)).toNat < M) ∧ g'.2.1 ((W : Int) + (q : Int) + (i : Int)).toNat = 4 ∧ g'.1 ((W : Int) + (q : Int) + (i : Int)).toNat = t
      rw [show ((W : Int) + (q : Int) + (i : Int)).toNat = W + q + i by omega]
      have fn := outN (W + q + i) (by omega)
      exact ⟨by omega, g2h _ fn (by omega), (g1n _ fn).trans (hdo _ (by omega) (by omega))⟩
    · rw [hO']
      show s'.2.1 ((W : Int) + (q : Int)).toNat = nI (C.2 beh)
      rw [show ((W : Int) + (q : Int)).toNat = W + q by omega]
      exact m0
    · rw [hO', hK', List.length_map]
      show s'.2.1 ((W : Int) + (q : Int) + 1).toNat = _
      rw [show ((W : Int) + (q : Int) + 1).toNat = W + q + 1 by omega]
      exact m1
    · rw [hO', hP']
      show s'.2.1 ((W : Int) + (q : Int) + 2).toNat = _
      rw [show ((W : Int) + (q : Int) + 2).toNat = W + q + 2 by omega]
      exact m2
    · omega
    · rw [hO']
      show (q : Int) + 3 ≤ (((zI z).2 : Nat) : Int)
      omega
    · rw [hK'] at hc
      obtain ⟨B, hB, rfl⟩ := List.mem_map.mp hc
      rw [(qc B hB).1] at etc
      cases etc
      exact Or.inr rfl
    · obtain ⟨B, hB, hl⟩ := lw
      refine ⟨W - B.1, by rw [hK']; exact List.mem_map.mpr ⟨B, hB, rfl⟩, _, (qc B hB).1, ?_⟩
      rw [hP']
      exact if_neg hl
    · rw [hK']
      exact fun y => kne (List.map_eq_nil_iff.mp y)
    · rw [hO']
      rfl
    · have hp : p ∈ Bs.map fun B => (B.1, B.2.1, B.2.2.1) := hp
      obtain ⟨B, hB, rfl⟩ := List.mem_map.mp hp
      have := dlt B hB
      refine ⟨by show B.1 ≤ W; omega, W - B.1, by rw [hK']; exact List.mem_map.mpr ⟨B, hB, rfl⟩, _, B.2.2.2, (qc B hB).1, rfl, rfl, ?_⟩
      rw [hP']
      rfl
    · have fn := outN (W - kk) (by omega)
      exact ⟨(g2n _ fn (by omega)).trans (a13 kk hk).1, (g1n _ fn).trans (a13 kk hk).2⟩
  -- a branch
  have tokC : ∀ B ∈ Bs, tOK C M s' w g' Q' (W - B.1) (chT W (thP th) (t :: thA th) B) := by
    intro B hB
    have hb := br B hB
    obtain ⟨d1, d2, d3, d4, d5, d6, d7, d8, d9, d10⟩ := hb
    have hdl := dlt B hB
    have cne := (qc B hB).2
    have fnC : ∀ x, W ≤ x + (zI B.2.2.2).1 + B.1 → x + B.1 < W + (zI B.2.2.2).2 → fnB Bs W x = some B := fun x h1 h2 => fn_in pw hB h1 h2
    have own' : ∀ x, g.1 x ∈ t :: thA th → g.1 x ∈ (W - B.1) :: t :: thA th := fun x h => List.mem_cons_of_mem _ h
    have okD' : ∀ a, fnB Bs W a = none → ¬ (W + q ≤ a ∧ a < W + q + 3) → okD M g (t :: thA th) a → okD M g' ((W - B.1) :: t :: thA th) a := fun a h1 h2 ho => ⟨ho.1, ho.2.1, (g2n a h1 h2).trans ho.2.2.1, by rw [g1n a h1]; exact own' _ ho.2.2.2⟩
    have okH' : ∀ a n n', fnB Bs W a = none → ¬ (W + q ≤ a ∧ a < W + q + 3) → okH M g Q (t :: thA th) t n a → (n' &&& 4 ≠ 0 → rtB s'.2.1 W B 4 a) → (n' &&& 8 ≠ 0 → rtB s'.2.1 W B 8 a) → okH M g' Q' ((W - B.1) :: t :: thA th) (W - B.1) n' a := by
      intro a n n' h1 h2 ho h4 h8
      refine ⟨ho.1, (g2n a h1 h2).trans ho.2.1, by rw [g1n a h1]; exact own' _ ho.2.2.1, fun y => ?_, fun y => ?_⟩
      · rw [eSd]
        rcases hS a with ⟨B', c1, c2, c3⟩ | ⟨c1, c2⟩
        · have : B' = B := Classical.byContradiction fun ne => rt_un I e e0 ef k hG em (br B' c1) (br B hB) (pw B' c1 B hB ne) (Or.inl rfl) c2 (h4 y)
          rw [c3, this]
          exact Or.inl rfl
        · exact (c1 B hB (h4 y)).elim
      · rw [eTk]
        rcases hT a with ⟨B', c1, c2, c3⟩ | ⟨c1, c2⟩
        · have : B' = B := Classical.byContradiction fun ne => rt_un I e e0 ef k hG em (br B' c1) (br B hB) (pw B' c1 B hB ne) (Or.inr rfl) c2 (h8 y)
          rw [c3, this]
          exact Or.inl rfl
        · exact (c1 B hB (h8 y)).elim
    have wkC : ∀ off, wk C.2 M g' Q' ((W - B.1) :: t :: thA th) (W - B.1) (thP (chT W (thP th) (t :: thA th) B)) (zG B.2.2.2) s'.2.1 (W - B.1) (zI B.2.2.2).2 off := by
      intro off
      have eo : (((W - B.1 : Nat) : Int) + off) = W + (off - B.1) := by omega
      unfold wk
      rw [eo]
      rcases d9 off with h | h
      · exact Or.inl h
      · refine Or.inr ?_
        have nz1 : (hdG (zG z) q (off - B.1)).1 ≠ 0 := by
          rcases h with ⟨-, h⟩ | ⟨-, h, -⟩ | ⟨-, h, -⟩ | ⟨-, h, -⟩ <;> omega
        obtain ⟨n1, n2, n3⟩ := hG1 (off - B.1) nz1
        have pos := hG (off - B.1) (by rw [← n3]; exact nz1)
        have hw := wk1 (off - B.1)
        refine ⟨by omega, by omega, ?_⟩
        rcases h with ⟨h1, h2⟩ | ⟨h1, h2, h3⟩ | ⟨h1, h2, h3⟩ | ⟨h1, h2, h3⟩
        · obtain ⟨a, c1, c2⟩ := wk_1 hw h2
          refine Or.inl ⟨h1, ?_⟩
          rw [c1] at n1 n2 ⊢
          exact okD' a n1 n2 c2
        · obtain ⟨a, c1, c0, c2⟩ := wk_2 hw h2
          refine Or.inr (Or.inl ⟨h1, ?_⟩)
          have ea : adS (zG B.2.2.2) s'.2.1 (W - B.1) off = a := by
            unfold adS
            rw [if_neg (by omega), eo, c1]
            rfl
          rw [c1] at n1 n2 ⊢
          have bt : btS (zG B.2.2.2 off) = (zG B.2.2.2 off).2.1 := if_pos (Or.inl h1)
          exact okH' a _ _ n1 n2 c2 (fun y => Or.inl ⟨off, by rw [bt]; exact y, ea⟩) (fun y => Or.inl ⟨off, by rw [bt]; exact y, ea⟩)
        · obtain ⟨-, -, c2, c3, c4, -, c6, -⟩ := wk_h hw (by omega)
          obtain ⟨a, e1, e2, e3⟩ := c6 h2
          refine Or.inr (Or.inr ⟨by omega, c2, (g2n _ n1 n2).trans c3, by rw [g1n _ n1]; exact own' _ c4, fun y => by omega, fun _ => ⟨a, e1, by omega, fun i hi => ?_⟩, fun y => by omega⟩)
          have hp := hP (a + i) (Or.inl (by omega))
          exact okD' _ hp.1 hp.2 (e3 i (by omega))
        · obtain ⟨-, -, c2, c3, c4, -, -, c7⟩ := wk_h hw (by omega)
          obtain ⟨a, e1, e2, e3⟩ := c7 h2
          have hp := hP a e2
          have ea : adS (zG B.2.2.2) s'.2.1 (W - B.1) off = a := by
            unfold adS
            rw [if_pos h1, eo, e1, nI_clamp (by have := e3.1; omega)]
          have bt : btS (zG B.2.2.2 off) = (zG B.2.2.2 off).2.1 := if_pos (Or.inr h1)
          exact Or.inr (Or.inr ⟨by omega, c2, (g2n _ n1 n2).trans c3, by rw [g1n _ n1]; exact own' _ c4, fun y => by omega, fun y => by omega, fun _ => ⟨a, e1, by omega, okH' a _ _ hp.1 hp.2 e3 (fun y => Or.inl ⟨off, by rw [bt]; exact y, ea⟩) (fun y => Or.inl ⟨off, by rw [bt]; exact y, ea⟩)⟩⟩)
    have ijC : inj (zG B.2.2.2) s'.2.1 (W - B.1) (zW B.2.2.2) := by
      have key : ∀ o, btS (zG B.2.2.2 o) ≠ 0 → subB (btS (zG B.2.2.2 o)) (btS (hdG (zG z) q (o - B.1))) ∧ adS (zG B.2.2.2) s'.2.1 (W - B.1) o = adS (hdG (zG z) q) s'.2.1 W (o - B.1) := by
        intro o h
        have h' := h
        unfold btS at h'
        rcases d9 o with h1 | ⟨h1, h2⟩ | ⟨h1, h2, h3⟩ | ⟨h1, h2, h3⟩ | ⟨h1, h2, h3⟩
        · rw [h1, if_neg (by omega)] at h'; exact (h' rfl).elim
        · rw [h1, if_neg (by omega)] at h'; exact (h' rfl).elim
        · exact ⟨by unfold btS; rw [if_pos (Or.inl h1), if_pos (Or.inl h2)]; exact h3, ad_br (by omega) (by rw [h1, h2])⟩
        · rw [h1, if_neg (by omega)] at h'; exact (h' rfl).elim
        · exact ⟨by unfold btS; rw [if_pos (Or.inr h1), if_pos (Or.inr h2)]; exact h3, ad_br (by omega) (by rw [h1, h2])⟩
      refine ⟨fun o o' n h => ?_, fun o c hc h => ?_⟩
      · obtain ⟨x1, x2⟩ := key o (nz _ _ h).1
        obtain ⟨y1, y2⟩ := key o' (nz _ _ h).2
        rw [x2, y2]
        exact ij1.1 _ _ (by omega) (sub_2 x1 y1 h)
      · obtain ⟨x1, x2⟩ := key o (nz _ _ h).1
        rw [x2]
        exact ij1.2 _ c hc (sub_2 x1 (d10 c hc) h)
    refine ⟨W - B.1, B.2.1, B.2.2.2, [], rfl, ?_, ?_, ?_, fun f hf => ?_, ?_, fun x x1 x2 => ?_, ?_, d1, fun h => ?_, fun _ => d2, ⟨fun _ _ => rfl, fun ne => (ne rfl).elim, fun y => (y d3).elim⟩, fun kk hk => ?_, by omega⟩
    · show (if B.2.2.1 = 0 then 0 else thP th) ≤ 1
      split <;> omega
    · show 16 ≤ W - B.1 - (zI B.2.2.2).1
      omega
    · show W - B.1 + (zI B.2.2.2).2 ≤ M
      omega
    · have hf : f ∈ [(W - B.1, B.2.1, B.2.2.2)] := hf
      rw [List.mem_singleton] at hf
      subst hf
      refine ⟨d5, by show W - B.1 - (zI B.2.2.2).1 + (zI B.2.2.2).1 ≤ W - B.1; omega, Nat.le_refl _, wkC, fun c hc => ?_, ijC⟩
      have hp := hP c (Or.inr (by omega))
      exact okH' c _ _ hp.1 hp.2 (b5 c hc) (fun y => Or.inr ⟨hc, y⟩) (fun y => Or.inr ⟨hc, y⟩)
    · show (zU B.2.2.2).1 ≠ 1
      rw [d4]
      exact (by decide : (2 : Nat) ≠ 1)
    · have x1 : W - B.1 - (zI B.2.2.2).1 ≤ x := x1
      have x2 : x < W - B.1 + (zI B.2.2.2).2 := x2
      exact Or.inl (g1s x B (fnC x (by omega) (by omega)))
    · refine ⟨List.nodup_nil, fun c hc => (by have hc : c ∈ ([] : List Nat) := hc; exact nomatch hc), fun y => ?_, (W - B.1, B.2.1, B.2.2.2), rfl, rfl, ?_⟩
      · have y : W - B.1 ∈ t :: thA th := y
        rcases List.mem_cons.mp y with y | y
        · exact cne y
        · obtain ⟨tv, ev⟩ := anc_ex I _ t th e (Nat.le_refl _) _ y
          obtain ⟨W1, j1, z1, r1, c1, -⟩ := I.2.1 _ tv ev
          have ob := (own_b I ev c1).1
          have fn := fnC (W - B.1) (by omega) (by omega)
          have := (inI _ B fn).2.2.2
          exact cne (ob.symm.trans this)
      · show (zU B.2.2.2).1 = 2 ∧ ∃ tu fu ru, Q' t = some tu ∧ thA tu = thA th ∧ W - B.1 ∈ thK tu ∧ thF tu = fu :: ru ∧ (fu.1 : Int) = ((W - B.1 : Nat) : Int) + (zU B.2.2.2).2.1 ∧ (thO tu).1 = (zU B.2.2.2).2.2
        rw [d4]
        refine ⟨rfl, th', _, _, qt, hA', by rw [hK']; exact List.mem_map.mpr ⟨B, hB, rfl⟩, hF', ?_, by rw [hO']⟩
        show (W : Int) = ((W - B.1 : Nat) : Int) + (B.1 : Int)
        omega
    · exact absurd (show (8 : Nat) = 0 ∨ (8 : Nat) = 1 ∨ (8 : Nat) = 4 ∨ (8 : Nat) = 7 from h) (by decide)
    · have fn := fnC (W - B.1 - kk) (by omega) (by omega)
      exact ⟨(g2s _ B fn).trans (if_pos (by omega)), g1s _ B fn⟩
  have n3 : ∀ b tb x, b ≠ t → Q b = some tb → g.1 x ∈ b :: thA tb → s'.2.1 x = s.2.1 x := fun b tb x hb eb hx => em x (oth x (notT b tb x hb eb hx)).2
  refine ⟨⟨(er 5 (by omega)).trans I.1.1, I.1.2⟩, fun b tb hb => ?_, fun c hc => ?_, ?_, ?_, ?_, ?_⟩
  · rcases back b tb hb with ⟨y1, y2⟩ | ⟨B, hB, y1, y2⟩ | ⟨bt, eb⟩
    · subst y1
      subst y2
      exact tokT
    · subst y1
      subst y2
      exact tokC B hB
    · have kg : ∀ x, g.1 x ∈ b :: thA tb → g'.1 x = g.1 x ∧ g'.2.1 x = g.2.1 x := fun x hx => by
        obtain ⟨y1, y2⟩ := oth x (notT b tb x bt eb hx)
        exact ⟨g1n x y1, g2n x y1 y2⟩
      refine keep (I.2.1 b tb eb) (fun x hx _ => n3 b tb x bt eb hx) (fun x hx _ => n3 b tb x bt eb (by rw [hx]; exact List.mem_cons_self)) kg (fun x _ _ => ⟨belS b x, belT b x⟩) (fun x _ _ => ⟨fun y _ => fwd4 b x bt y, fun y _ => fwd8 b x bt y⟩) (fun x _ _ => belO b x) (fun h => (bt (i5 b tb t th eb e h e0)).elim) (fun f r _ => by rw [eq]; exact ⟨id, id⟩) (fun hs => ?_) (fun _ => ⟨fun i h1 h2 => er i (by omega), by rw [eq]⟩) (fun W1 j1 z1 r1 x _ _ hx x2 _ => ?_) (fun c hc tc etc => ?_) (fun v tv hv ev hbv => ?_)
      · obtain ⟨W1, j1, z1, r1, -, -, -, -, -, -, -, -, k9, -⟩ := I.2.1 b tb eb
        unfold sOK at k9
        rcases hs with hs | hs
        · rw [hs] at k9; exact n3 b tb _ bt eb k9.2.2.2.2.2.2.1
        · rw [hs] at k9; exact n3 b tb _ bt eb k9.2.2.2.2.2.2
      · unfold hasC
        rw [n3 b tb x bt eb hx]
        exact id
      · by_cases cT : c = t
        · subst cT
          rw [e] at etc
          cases etc
          exact ⟨th', qt, hA', hP', fun _ _ y => by omega, fun _ _ _ _ _ _ _ h8 => by omega⟩
        · exact ⟨tc, qo c tc cT etc, rfl, rfl, fun _ _ y => y, fun _ _ _ _ _ _ _ _ _ _ _ => rfl⟩
      · have vt : v ≠ t := fun y => by
          subst y
          rw [e] at ev
          cases ev
          rw [k] at hbv
          exact nomatch hbv
        exact ⟨tv, qo v tv vt ev, rfl, hbv, rfl, fun f r hf => ⟨f, r, hf, rfl⟩⟩
  · have hc2 : fnB Bs W c = none ∧ ¬ (W + q ≤ c ∧ c < W + q + 3) ∧ g.2.1 c = 2 := by
      cases fn : fnB Bs W c with
      | some B =>
        rw [g2s c B fn] at hc
        split at hc <;> exact absurd hc (by decide)
      | none =>
        by_cases y : W + q ≤ c ∧ c < W + q + 3
        · rw [g2h c fn y] at hc; exact absurd hc (by decide)
        · exact ⟨rfl, y, (g2n c fn y).symm.trans hc⟩
    obtain ⟨-, h2, h3⟩ := hc2
    refine ⟨(I.2.2.1 c h3).1, ?_⟩
    rcases (I.2.2.1 c h3).2 with y | ⟨b, tb, eb, W1, j1, z1, r1, d1, d2, d3⟩
    · exact Or.inl ((em c h2).trans y)
    · have bt : b ≠ t := fun y => by
        subst y
        rw [e] at eb
        cases eb
        rw [ef] at d1
        cases d1
        rcases d3 with ⟨d, -⟩ | ⟨d, -⟩ | ⟨-, d⟩
        · omega
        · omega
        · exact aE_ne d nl
      refine Or.inr ⟨b, tb, qo b tb bt eb, W1, j1, z1, r1, d1, (em c h2).trans d2, ?_⟩
      rcases d3 with d3 | d3 | ⟨d3, d4⟩
      · exact Or.inl d3
      · exact Or.inr (Or.inl d3)
      · obtain ⟨W2, j2, z2, r2, c1, -, -, -, -, -, -, -, -, c10, -⟩ := I.2.1 b tb eb
        rw [d1] at c1
        cases c1
        exact Or.inr (Or.inr ⟨d3, aEn_mv (c10 d3 (aE_ne d4)).1 d4 (fun x hx _ => n3 b tb x bt eb hx)⟩)
  · have bk : ∀ b tb, Q' b = some tb → thS tb ≠ 8 → ∃ tb0, Q b = some tb0 ∧ thS tb0 = thS tb := by
      intro b tb hb h8
      rcases back b tb hb with ⟨y1, y2⟩ | ⟨B, hB, y1, y2⟩ | ⟨bt, eb⟩
      · subst y1
        subst y2
        exact ⟨th, e, by rw [hS', e0]⟩
      · subst y2
        exact (h8 rfl).elim
      · exact ⟨tb, eb, rfl⟩
    refine ⟨fun _ => ⟨t, th', qt, hS'⟩, fun b tb b' tb' hb hb' z1 z2 => ?_, fun b tb b' tb' hb hb' z1 z2 => ?_, fun n hn => ?_, fun n hn => ?_, by rw [eq]; exact i9, by rw [eq]; exact i10, fun y => ?_, fun y1 y2 => ?_, ?_⟩
    · obtain ⟨b0, c1, c2⟩ := bk b tb hb (by omega)
      obtain ⟨b0', c1', c2'⟩ := bk b' tb' hb' (by omega)
      exact i5 b b0 b' b0' c1 c1' (c2.trans z1) (c2'.trans z2)
    · obtain ⟨b0, c1, c2⟩ := bk b tb hb (by omega)
      obtain ⟨b0', c1', c2'⟩ := bk b' tb' hb' (by omega)
      exact i6 b b0 b' b0' c1 c1' (c2.trans z1) (c2'.trans z2)
    · rw [eq] at hn
      obtain ⟨b, tb, j0, r0, k1, k2, k3, k4⟩ := i7 n hn
      have bt : b ≠ t := fun z => by subst z; rw [e] at k1; cases k1; omega
      exact ⟨b, tb, j0, r0, qo b tb bt k1, k2, k3, k4⟩
    · rw [eq] at hn
      obtain ⟨b, tb, j0, r0, k1, k2, k3, k4⟩ := i8 n hn
      have bt : b ≠ t := fun z => by subst z; rw [e] at k1; cases k1; omega
      exact ⟨b, tb, j0, r0, qo b tb bt k1, k2, k3, k4⟩
    · obtain ⟨b, tb, k1, k2⟩ := i11 (by rw [← er 22 (by omega)]; exact y)
      have bt : b ≠ t := fun z => by subst z; rw [e] at k1; cases k1; omega
      exact ⟨b, tb, qo b tb bt k1, k2⟩
    · rw [er 22 (by omega)]
      exact i12 (by rw [← er 14 (by omega)]; exact y1) (by rw [← er 15 (by omega)]; exact y2)
    · have : s'.1 15 = s.1 15 := er 15 (by omega)
      unfold lo
      rw [this]
      exact i13
  · obtain ⟨u1, -⟩ := I.2.2.2.2
    intro c hc
    obtain ⟨y1, y2⟩ := u1 c hc
    have t5 := t_5 I e
    refine ⟨fun y => ?_, fun y => ?_⟩
    · rw [eSd]
      rcases hS c with ⟨B, c1, c2, c3⟩ | ⟨c1, c2⟩
      · have := (rt_par I e e0 ef k hG em (br B c1) (Or.inl rfl) c2).1 rfl
        exact (t5 (this.symm.trans (y1 y))).elim
      · exact c2.trans (y1 y)
    · rw [eTk]
      rcases hT c with ⟨B, c1, c2, c3⟩ | ⟨c1, c2⟩
      · have := (rt_par I e e0 ef k hG em (br B c1) (Or.inr rfl) c2).2.1 rfl
        exact (t5 (this.symm.trans (y2 y))).elim
      · exact c2.trans (y2 y)
  · obtain ⟨-, u2, -⟩ := I.2.2.2.2
    intro c hc ec
    obtain ⟨d1, d2⟩ := u2 c hc ec
    refine ⟨fun y => ?_, fun y => ?_⟩
    · obtain ⟨y1, y2, y3⟩ := d1 y
      refine ⟨y1, y2, fun b tb hb b3 bc => ?_⟩
      rcases back b tb hb with ⟨x1, x2⟩ | ⟨B, hB, x1, x2⟩ | ⟨bt, eb⟩
      · subst x2
        omega
      · subst x2
        exact absurd (show (8 : Nat) = 3 from b3) (by decide)
      · exact y3 b tb eb b3 bc
    · obtain ⟨b, tb, eb, b3, bc⟩ := d2 y
      have bt : b ≠ t := fun y => by subst y; rw [e] at eb; cases eb; omega
      exact ⟨b, tb, qo b tb bt eb, b3, bc⟩
  · intro b tb hb h2
    rcases back b tb hb with ⟨x1, x2⟩ | ⟨B, hB, x1, x2⟩ | ⟨bt, eb⟩
    · subst x2
      omega
    · subst x2
      exact absurd (show (8 : Nat) = 2 from h2) (by decide)
    · exact I.2.2.2.2.2.2 b tb eb h2
/-- the header is done -/
theorem i_fork {q beh : Nat} {Bs : List Br} {v : Int32} {n1 : Nat} {y1 : Int} (hC : C.1 j = some (13, v)) (hv : v.toInt = q + 2) (nl : (zL z).2.1 = []) (z0 : (zR z).1 = 0) (q1 : 1 ≤ q) (q3 : q + 3 ≤ (zI z).2) (hG : ∀ off, (zG z off).1 ≠ 0 → 0 < off) (nc : ∀ o, ¬ ((q : Int) ≤ o ∧ o < q + 3) → (zG z o).1 = 15 ∨ (zG z o).1 = 16 → ¬ ((q : Int) ≤ (zG z o).2.2 ∧ (zG z o).2.2 < q + 3))
    (h0 : zG z q = (17, beh, 0)) (h1 : zG z (q + 1) = (11, 0, (Bs.length : Int))) (hl : Bs.length < 2 ^ 31) (ha : (zA z).1 = (9, n1, y1))
    (br : ∀ B ∈ Bs, brOK (hdG (zG z) q) (zW z) q (zI z).1 B) (pw : ∀ B ∈ Bs, ∀ B' ∈ Bs, B ≠ B' → brAp B B') (nd : Bs.Nodup) (lw : ∃ B ∈ Bs, B.2.2.1 ≠ 0) (hB : ∀ B ∈ Bs, R B.2.1 B.2.2.2) (hR : R (j + 1) (zSF z q beh Bs)) : rul C M E R j z := by
  refine ⟨13, v, hC, fun s w g Q t th W r I hw e e0 ef h11 => ?_⟩
  obtain ⟨hE, hr⟩ := fE_i I e e0 ef
  obtain ⟨hW, hWM, p1, ct⟩ := W_M I e ef
  have hM := I.1.2
  have wk0 := hE.2.2.2.2.2.2.2.2.1
  have hhi := hE.2.2.2.2.2.2.2.1
  have ad := ad_w (v := v) (a := W + q + 2) hE.1 hE.2.1 (by omega) hv (by omega) (by omega)
  have mm : ∀ x, x ≠ W + q + 2 → (sM (cPop (sR (rdB s) 13 0)) (W + q + 2) ((sR (rdB s) 13 0).1 8)).2.1 x = s.2.1 x := fun x hx => if_neg hx
  have c0 : s.2.1 (W + q) = nI (C.2 beh) := by
    obtain ⟨-, -, -, -, -, c, -⟩ := wk_h (wk0 q) (by rw [h0]; exact (by decide : 10 ≤ 17))
    rw [h0, show ((W : Int) + (q : Int)).toNat = W + q by omega] at c
    exact c (by show (17 : Nat) ≤ 19; decide)
  have c1 : s.2.1 (W + q + 1) = nI Bs.length := by
    obtain ⟨-, -, -, -, -, c, -⟩ := wk_h (wk0 (q + 1)) (by rw [h1]; exact (by decide : 10 ≤ 11))
    rw [h1, show ((W : Int) + ((q : Int) + 1)).toNat = W + q + 1 by omega] at c
    have c : (s.2.1 (W + q + 1)).toInt = (Bs.length : Int) := c (by show (11 : Nat) ≤ 19; decide)
    exact Int32.toInt_inj.mp (by rw [c, nI_toInt hl])
  have c2 : s.1 8 = nI (2 * W + thP th) := by
    have := hr.1
    rw [ha] at this
    exact this
  -- who has which rights
  have ch : ∀ rg a x : Nat, ∃ y, (∃ B ∈ Bs, rtB (sM (cPop (sR (rdB s) 13 0)) (W + q + 2) ((sR (rdB s) 13 0).1 8)).2.1 W B rg a ∧ y = W - B.1) ∨ ((∀ B ∈ Bs, ¬ rtB (sM (cPop (sR (rdB s) 13 0)) (W + q + 2) ((sR (rdB s) 13 0).1 8)).2.1 W B rg a) ∧ y = x) := by
    intro rg a x
    by_cases c : ∃ B ∈ Bs, rtB (sM (cPop (sR (rdB s) 13 0)) (W + q + 2) ((sR (rdB s) 13 0).1 8)).2.1 W B rg a
    · obtain ⟨B, hB, hb⟩ := c
      exact ⟨W - B.1, Or.inl ⟨B, hB, hb, rfl⟩⟩
    · exact ⟨x, Or.inr ⟨fun B hB hb => c ⟨B, hB, hb⟩, rfl⟩⟩
  have J := fork (s' := sM (cPop (sR (rdB s) 13 0)) (W + q + 2) ((sR (rdB s) 13 0).1 8)) (Bs := Bs) (beh := beh) (q := q) (j' := j + 1) (Sd := fun a => Classical.choose (ch 4 a (g.2.2.1 a))) (Tk := fun a => Classical.choose (ch 8 a (g.2.2.2 a))) I e e0 ef nl z0 q1 q3 hG nc (fun i hi => by show (cPop (sR (rdB s) 13 0)).1 i = _; rw [po_r i (by omega) (by omega)]; exact rd_r i (by omega)) rfl (fun x hx => mm x (by omega)) ((mm _ (by omega)).trans c0) ((mm _ (by omega)).trans c1) ((if_pos rfl).trans c2) (Or.inl ⟨h11, rfl⟩) br pw nd lw (fun a => Classical.choose_spec (ch 4 a (g.2.2.1 a))) (fun a => Classical.choose_spec (ch 8 a (g.2.2.2 a)))
  refine ⟨_, w, ?_, Or.inl rfl, _, _, J, ?_⟩
  · rw [x_dir (by decide)]
    show ((adM _ _).map _).map _ = _
    rw [ad]
    rfl
  · refine ⟨?_, fun _ => ⟨t, _, if_pos rfl⟩⟩
    intro b tb f hb hf
    unfold qFk at hb
    by_cases c : b = t
    · rw [if_pos c] at hb
      cases hb
      have hf : f ∈ (W, j + 1, zSF z q beh Bs) :: r := hf
      rcases List.mem_cons.mp hf with y | y
      · subst y; exact Or.inl hR
      · exact Or.inr ⟨t, th, f, e, by rw [ef]; exact List.mem_cons_of_mem _ y, rfl⟩
    · rw [if_neg c] at hb
      cases fn : fnB Bs W b with
      | none =>
        rw [fn] at hb
        exact Or.inr ⟨b, tb, f, hb, hf, rfl⟩
      | some B =>
        rw [fn] at hb
        have hb : (if b + B.1 = W then some (chT W (thP th) (t :: thA th) B) else Q b) = some tb := hb
        by_cases c2 : b + B.1 = W
        · rw [if_pos c2] at hb
          cases hb
          have hf : f ∈ [(W - B.1, B.2.1, B.2.2.2)] := hf
          rw [List.mem_singleton] at hf
          subst hf
          exact Or.inl (hB B (fn_some fn).1)
        · rw [if_neg c2] at hb
          exact Or.inr ⟨b, tb, f, hb, hf, rfl⟩
end
