/-! (S): ALT is typed well: enabling, disabling, what follows -/
section
variable {C : Cx} {M : Nat} {E : En} {Y : Nat → Sg → Prop} {sy : List Sym} {vis : List Nat} {wd r : Nat → Int32} {pe : Nat → Nat} {pa : List (List Nat)}
/-- a guard's word is fetched -/
theorem ld_5 {a w : Nat} {z : Sg} {b c : Kd} (hw : w < 5000) (h10 : 10 ≤ (zG z w).1) (hc : C.1 a = some (7, nI w)) (hb : wR (zA z).1 b) (hc' : wR (zA z).2.1 c) (h : gfX C M E Y (a + 1) (zSA z ((5, 0, (w : Int)), b, c))) : rul C M E (gfX C M E Y) a z := by
  have wI : (nI w).toInt = (w : Int) := nI_toInt (by omega)
  exact i_ldl (k := (5, 0, (w : Int))) hc (by rw [wI]; omega) (Or.inr (Or.inl ⟨by rw [wI]; exact h10, by rw [wI]⟩)) h hb hc'
theorem ty_h2 {z : Sg} {q : Nat} {gl : List (Bool × Nat)} (o : oneW E) (z0 : (zR z).1 = 0) (h1 : 1 ≤ (zI z).2) : ∀ (gs : Tm) (w a en st : Nat), gsh gs → w = q + 2 * en → w + 2 * tmN gs < 5000 → gKd (zG z) (zW z) gs w → (∀ i : Nat, gl[en + i]? = (gLs sy pa gs st)[i]?) → cod C pe a (kH2 gs w) → gfX C M E Y (a + nH2 gs) (zSL z ((q : Int), gl, en + tmN gs, 0, 0)) → gfX C M E Y a (zSL z ((q : Int), gl, en, 0, 0)) := by
  intro gs
  induction gs using gsh.induct with
  | case1 u e c v p gs ih =>
    intro w a en st sh ew wb gk gi hc h
    rw [tmN] at wb h
    rw [kH2, cod_app, kG2_len] at hc
    rw [nH2] at h
    obtain ⟨g1, g2, g3⟩ := gk
    have g0 : gl[en]? = some (!isNl c, st) := by
      have := gi 0
      rw [Nat.add_zero] at this
      exact this
    have nx : gfX C M E Y (a + nG2 c) (zSL z ((q : Int), gl, en + 1, 0, 0)) := ih (w + 2) (a + nG2 c) (en + 1) (st + nB3 sy pa c v p) sh (by omega) (by omega) g3 (fun i => by
      have := gi (i + 1)
      rw [show en + 1 + i = en + (i + 1) by omega]
      exact this) hc.2 (by rw [show a + nG2 c + nH2 gs = a + (nG2 c + nH2 gs) by omega, show en + 1 + tmN gs = en + (tmN gs + 1) by omega]; exact h)
    have hg := hc.1
    unfold kG2 at hg
    unfold nG2 at nx
    by_cases nc : isNl c = true
    · rw [if_pos nc] at hg nx
      rw [nc] at g0
      refine gf_ru (ld_5 (z := zSL z ((q : Int), gl, en, 0, 0)) (b := k0) (c := k0) (by omega) g1 hg.1 (Or.inr rfl) (Or.inr rfl) (gf_ru ?_))
      exact i_ens (o := (q : Int)) (gs := gl) (en := en) (dis := 0) (n := st) (n1 := 0) (z := zSA (zSL z ((q : Int), gl, en, 0, 0)) ((5, 0, (w : Int)), k0, k0)) hg.2.1 z0 h1 rfl (by omega) g0 (by show ((5 : Nat), (0 : Nat), (w : Int)) = (5, 0, (q : Int) + 2 * (en : Int)); rw [ew]; simp) nx
    · have nc' : isNl c = false := Bool.not_eq_true _ |>.mp nc
      rw [if_neg nc] at hg nx
      rw [nc'] at g0
      obtain ⟨k1, k2, k3⟩ := g2 nc'
      refine gf_ru (ld_5 (z := zSL z ((q : Int), gl, en, 0, 0)) (b := k0) (c := k0) (by omega) g1 hg.1 (Or.inr rfl) (Or.inr rfl) (gf_ru ?_))
      refine ld_5 (w := w + 1) (z := zSA (zSL z ((q : Int), gl, en, 0, 0)) ((5, 0, (w : Int)), k0, k0)) (b := (5, 0, (w : Int))) (c := k0) (by omega) (by rw [show ((w + 1 : Nat) : Int) = (w : Int) + 1 by omega]; exact k1) hg.2.1 (Or.inl rfl) (Or.inr rfl) (gf_ru ?_)
      exact i_enb (o := (q : Int)) (gs := gl) (en := en) (dis := 0) (n := st) (n1 := 0) (n2 := 0) (z := zSA (zSL z ((q : Int), gl, en, 0, 0)) ((5, 0, ((w + 1 : Nat) : Int)), (5, 0, (w : Int)), k0)) o hg.2.2.1 z0 h1 rfl (by omega) g0 (by show ((5 : Nat), (0 : Nat), ((w + 1 : Nat) : Int)) = (5, 0, (q : Int) + 2 * (en : Int) + 1); rw [ew]; simp) (by show ((5 : Nat), (0 : Nat), (w : Int)) = (5, 0, (q : Int) + 2 * (en : Int)); rw [ew]; simp) nx
  | case2 =>
    intro w a en st _ _ _ _ _ _ h
    exact h
  | case3 gs h1' h2 =>
    intro w a en st sh
    unfold gsh at sh
    split at sh
    · exact (h1' _ _ _ _ _ _ rfl).elim
    · exact (h2 rfl).elim
    · exact sh.elim
theorem ty_h3 {z : Sg} {q bs T : Nat} {gl : List (Bool × Nat)} {en : Nat} (o : oneW E) (z0 : (zR z).1 = 0) (h1 : 1 ≤ (zI z).2) (hb : bs ≠ 0) (pm : ∀ i, bs ≤ i → i ≤ T → C.2 bs ≤ C.2 i ∧ C.2 i ≤ 6000) : ∀ (gs : Tm) (w a dis st : Nat), gsh gs → w = q + 2 * dis → w + 2 * tmN gs < 5000 → bs ≤ st → st + nQ sy pa gs 3 ≤ T → gKd (zG z) (zW z) gs w → (∀ i : Nat, gl[dis + i]? = (gLs sy pa gs st)[i]?) → cod C pe a (kH3 sy pa gs w st bs) → gfX C M E Y (a + nH3 gs) (zSL z ((q : Int), gl, en, dis + tmN gs, bs)) → gfX C M E Y a (zSL z ((q : Int), gl, en, dis, bs)) := by
  intro gs
  induction gs using gsh.induct with
  | case1 u e c v p gs ih =>
    intro w a dis st sh ew wb sb sT gk gi hc h
    rw [tmN] at wb h
    rw [kH3] at hc
    obtain ⟨c0, hc⟩ := hc
    rw [cod_app, kG2_len] at hc
    rw [nH3] at h
    rw [nQ] at sT
    obtain ⟨g1, g2, g3⟩ := gk
    obtain ⟨m1, m2⟩ := pm st sb (by omega)
    have g0 : gl[dis]? = some (!isNl c, st) := by
      have := gi 0
      rw [Nat.add_zero] at this
      exact this
    have nx : gfX C M E Y (a + 1 + nG2 c) (zSL z ((q : Int), gl, en, dis + 1, bs)) := ih (w + 2) (a + 1 + nG2 c) (dis + 1) (st + nB3 sy pa c v p) sh (by omega) (by omega) (by omega) (by unfold nB3; omega) g3 (fun i => by
      have := gi (i + 1)
      rw [show dis + 1 + i = dis + (i + 1) by omega]
      exact this) hc.2 (by rw [show a + 1 + nG2 c + nH3 gs = a + (nG2 c + 1 + nH3 gs) by omega, show dis + 1 + tmN gs = dis + (tmN gs + 1) by omega]; exact h)
    have hg := hc.1
    unfold kG2 at hg
    unfold nG2 at nx
    refine gf_ru (i_lway (p := st) (b := bs) (z := zSL z ((q : Int), gl, en, dis, bs)) (b' := k0) (c := k0) c0 rfl (gf_ru ?_) (Or.inr rfl) (Or.inr rfl))
    by_cases nc : isNl c = true
    · rw [if_pos nc] at hg nx
      rw [nc] at g0
      refine ld_5 (z := zSA (zSL z ((q : Int), gl, en, dis, bs)) ((8, st, (bs : Int)), k0, k0)) (b := (8, st, (bs : Int))) (c := k0) (by omega) g1 hg.1 (Or.inl rfl) (Or.inr rfl) (gf_ru ?_)
      exact i_dss (o := (q : Int)) (gs := gl) (en := en) (dis := dis) (n := st) (n1 := 0) (bs := bs) (z := zSA (zSL z ((q : Int), gl, en, dis, bs)) ((5, 0, (w : Int)), (8, st, (bs : Int)), k0)) hg.2.1 z0 h1 rfl hb g0 (by show ((5 : Nat), (0 : Nat), (w : Int)) = (5, 0, (q : Int) + 2 * (dis : Int)); rw [ew]; simp) rfl m1 m2 nx
    · have nc' : isNl c = false := Bool.not_eq_true _ |>.mp nc
      rw [if_neg nc] at hg nx
      rw [nc'] at g0
      obtain ⟨k1, k2, k3⟩ := g2 nc'
      refine ld_5 (z := zSA (zSL z ((q : Int), gl, en, dis, bs)) ((8, st, (bs : Int)), k0, k0)) (b := (8, st, (bs : Int))) (c := k0) (by omega) g1 hg.1 (Or.inl rfl) (Or.inr rfl) (gf_ru ?_)
      refine ld_5 (w := w + 1) (z := zSA (zSL z ((q : Int), gl, en, dis, bs)) ((5, 0, (w : Int)), (8, st, (bs : Int)), k0)) (b := (5, 0, (w : Int))) (c := (8, st, (bs : Int))) (by omega) (by rw [show ((w + 1 : Nat) : Int) = (w : Int) + 1 by omega]; exact k1) hg.2.1 (Or.inl rfl) (Or.inl rfl) (gf_ru ?_)
      exact i_dsb (o := (q : Int)) (gs := gl) (en := en) (dis := dis) (n := st) (n1 := 0) (n2 := 0) (bs := bs) (z := zSA (zSL z ((q : Int), gl, en, dis, bs)) ((5, 0, ((w + 1 : Nat) : Int)), (5, 0, (w : Int)), (8, st, (bs : Int)))) o hg.2.2.1 z0 h1 rfl hb g0 (by show ((5 : Nat), (0 : Nat), ((w + 1 : Nat) : Int)) = (5, 0, (q : Int) + 2 * (dis : Int) + 1); rw [ew]; simp) (by show ((5 : Nat), (0 : Nat), (w : Int)) = (5, 0, (q : Int) + 2 * (dis : Int)); rw [ew]; simp) rfl m1 m2 nx
  | case2 =>
    intro w a dis st _ _ _ _ _ _ _ _ h
    exact h
  | case3 gs h1' h2 =>
    intro w a dis st sh
    unfold gsh at sh
    split at sh
    · exact (h1' _ _ _ _ _ _ rfl).elim
    · exact (h2 rfl).elim
    · exact sh.elim
theorem gK_i {G : Int → Kd} {wr : Nat → Nat} : ∀ (gs : Tm) (w st i : Nat) (b : Bool) (n : Nat), gKd G wr gs w → (gLs sy pa gs st)[i]? = some (b, n) → 10 ≤ (G ((w : Int) + 2 * i)).1 ∧ (b = true → 10 ≤ (G ((w : Int) + 2 * i + 1)).1 ∧ (G ((w : Int) + 2 * i + 1)).1 ≤ 19 ∧ chA G wr 8 ((G ((w : Int) + 2 * i + 1)).1 - 10, (G ((w : Int) + 2 * i + 1)).2)) := by
  intro gs w
  induction gs, w using gKd.induct with
  | case1 u e c v p gs w ih =>
    intro st i b n h hi
    obtain ⟨a1, a2, a3⟩ := h
    cases i with
    | zero =>
      have hi : some (!isNl c, st) = some (b, n) := hi
      cases hi
      rw [show (w : Int) + 2 * ((0 : Nat) : Int) = w by omega]
      exact ⟨a1, fun y => a2 (by revert y; cases isNl c <;> decide)⟩
    | succ i =>
      have := ih (st + nB3 sy pa c v p) i b n a3 hi
      rw [show ((w + 2 : Nat) : Int) + 2 * (i : Int) = (w : Int) + 2 * ((i + 1 : Nat) : Int) by omega] at this
      exact this
  | case2 gs w hn =>
    intro st i b n _ hi
    unfold gLs at hi
    split at hi
    · exact (hn _ _ _ _ _ _ rfl).elim
    · exact nomatch hi
theorem gLs_len : ∀ (gs : Tm) (st : Nat), gsh gs → (gLs sy pa gs st).length = tmN gs := by
  intro gs
  induction gs using gsh.induct with
  | case1 u e c v p gs ih =>
    intro st sh
    rw [gLs, tmN, List.length_cons, ih _ sh]
  | case2 => intro st _; rfl
  | case3 gs h1 h2 =>
    intro st sh
    unfold gsh at sh
    split at sh
    · exact (h1 _ _ _ _ _ _ rfl).elim
    · exact (h2 rfl).elim
    · exact sh.elim
theorem zSG_any {z : Sg} (h : rAny z) : zSG z (zG z) = z := by
  have : zSH z (zG z) (zA z) = z := rfl
  rw [show zA z = (k0, k0, k0) from h] at this
  exact this
/-- ALT -/
theorem ty_alt {gs : Tm} {KP : List It} {q f a n T bs : Nat} {z : Sg} (o : oneW E) (qz : qt z) (hL0 : zL z = (0, [], 0, 0, 0)) (sh : gsh gs) (g1 : 1 ≤ tmN gs) (q1 : 1 ≤ q) (hb : (zI z).2 ≤ 5000) (hf : f = q + 2 * tmN gs) (fb : f + n ≤ (zI z).2) (h1 : q + 2 * tmN gs < 5000) (hi1 : 1 ≤ (zI z).2) (ly : lay sy vis wd q (zI z).2) (ec : eC sy vis wd (zG z)) (rd : gRd sy vis wd r (zG z) (zW z) n gs) (dt : ∀ o : Int, (q : Int) ≤ o → o < (zI z).2 → (zG z o).1 = 1) (tg : ∀ o, (zG z o).1 ≠ 15 ∧ (zG z o).1 ≠ 16)
    (eb : bs = a + nH1 sy gs + nH2 gs + nH3 gs + 3) (bT : bs + nQ sy pa gs 3 ≤ T) (pm : ∀ i, bs ≤ i → i ≤ T → C.2 bs ≤ C.2 i ∧ C.2 i ≤ 6000) (hc : cod C pe a (kH1 sy wd r gs q f a ++ iO 22 :: (kH2 gs q ++ iO 25 :: (kH3 sy pa gs q bs bs ++ iO 28 :: KP))))
    (tgt : ∀ G', (∀ o : Int, ¬ ((q : Int) ≤ o ∧ o < q + 2 * tmN gs) → G' o = zG z o) → gKd G' (zW z) gs q → ∀ b m, (b, m) ∈ gLs sy pa gs bs → gfX C M E Y m (zSG z G')) : gfX C M E Y a z := by
  rw [cod_app, kH1_len] at hc
  obtain ⟨c1, c2, c3⟩ := hc
  rw [cod_app, kH2_len] at c3
  obtain ⟨c3, c4, c5⟩ := c3
  rw [cod_app, kH3_len] at c5
  obtain ⟨c5, c6, -⟩ := c5
  have start : gfX C M E Y a (zSG z (zG z)) := by
    refine ty_h1 (q := q) (f := f) (n := n) (hi := (zI z).2) qz.2.1 qz.2.2 rfl hb fb gs q a (zG z) sh (Nat.le_refl _) q1 (by omega) ly ec rd dt (fun o ho => by have := tg o; omega) c1 fun G' k1 k2 k3 => ?_
    have ne : gLs sy pa gs bs ≠ [] := fun y => by
      have := gLs_len (sy := sy) (pa := pa) gs bs sh
      rw [y] at this
      have : 0 = tmN gs := this
      omega
    refine gf_ru (i_alt (z := zSG z G') (o := (q : Int)) (gs := gLs sy pa gs bs) c2 qz.2.1 qz.2.2 hi1 (fun i b m hi => gK_i (sy := sy) (pa := pa) gs q bs i b m k3 hi) ?_)
    refine ty_h2 (z := zSG z G') (q := q) (gl := gLs sy pa gs bs) o qz.2.1 hi1 gs q (a + nH1 sy gs + 1) 0 bs sh (by omega) h1 k3 (fun i => by rw [Nat.zero_add]) c3 (gf_ru ?_)
    rw [Nat.zero_add]
    refine i_altw (z := zSL (zSG z G') ((q : Int), gLs sy pa gs bs, tmN gs, 0, 0)) (bs := bs) (o := (q : Int)) (gs := gLs sy pa gs bs) (en := tmN gs) (dis := 0) c4 qz.2.1 hi1 rfl ne (by omega) ?_
    refine ty_h3 (z := zSG z G') (q := q) (gl := gLs sy pa gs bs) (bs := bs) (T := T) (en := tmN gs) o qz.2.1 hi1 (by omega) pm gs q (a + nH1 sy gs + 1 + nH2 gs + 1) 0 bs sh (by omega) h1 (Nat.le_refl _) bT k3 (fun i => by rw [Nat.zero_add]) c5 (gf_ru ?_)
    rw [Nat.zero_add]
    have ej : bs = a + nH1 sy gs + 1 + nH2 gs + 1 + nH3 gs + 1 := by omega
    refine i_alte (z := zSL (zSG z G') ((q : Int), gLs sy pa gs bs, tmN gs, tmN gs, bs)) (o := (q : Int)) (gs := gLs sy pa gs bs) (en := tmN gs) c6 qz.2.1 hi1 (by rw [← ej]; rfl) ne (fun b m hm => ?_)
    have := tgt G' k1 k3 b m hm
    have e2 : zSL (zSL (zSG z G') ((q : Int), gLs sy pa gs bs, tmN gs, tmN gs, bs)) (0, [], 0, 0, 0) = zSG z G' := by
      show (G', (k0, k0, k0), zI z, zU z, (0, [], 0, 0, 0), zR z, zW z) = (G', (k0, k0, k0), zI z, zU z, zL z, zR z, zW z)
      rw [hL0]
    rw [e2]
    exact this
  rw [zSG_any qz.1] at start
  exact start
end
