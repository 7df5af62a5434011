/-! (S): addresses, assignments, sending, taking -/
/-- the unit has the right m at what a key names -/
def rgt (sy : List Sym) (wd : Nat → Int32) (G : Int → Kd) (wr : Nat → Nat) (k : Ky) (m : Nat) : Prop := (srO sy k.1 = 7 → (G (wd k.1).toInt).1 = 2 ∧ (G (wd k.1).toInt).2.1 &&& m ≠ 0) ∧ (srO sy k.1 = 8 → (G (wd k.1).toInt).1 = 22 ∧ (G (wd k.1).toInt).2.1 &&& m ≠ 0) ∧ (srO sy k.1 = 1 → szO sy k.1 < 14 ∧ wr (szO sy k.1) &&& m ≠ 0) ∧
  (srO sy k.1 = 9 → (∀ i : Nat, i < szO sy k.1 → (G ((wd k.1).toInt + i)).1 = 2) ∧ (k.2.1 = true → ∀ i : Nat, i < szO sy k.1 → (G ((wd k.1).toInt + i)).2.1 &&& m ≠ 0) ∧ (k.2.1 = false → 0 ≤ k.2.2.toInt → k.2.2.toInt < szO sy k.1 → (G ((wd k.1).toInt + k.2.2.toInt)).2.1 &&& m ≠ 0))
section
variable {C : Cx} {M : Nat} {E : En} {Y : Nat → Sg → Prop} {sy : List Sym} {vis : List Nat} {wd r : Nat → Int32} {pe : Nat → Nat}
theorem kE_pl : ∀ (x : Tm) (f a : Nat), plC sy x = true → kE sy wd r x f a = [iV 4 (cstE r x)] ∧ nE sy x = 1 := by
  intro x
  induction x using plC.induct with
  | case1 v => intro f a _; rw [kE, nE, cstE]; exact ⟨rfl, rfl⟩
  | case2 s =>
    intro f a h
    have h : srO sy s = 11 := beq_iff_eq.mp h
    rw [kE, nE, cstE, if_pos h, if_neg (by omega)]
    exact ⟨rfl, rfl⟩
  | case3 e ih => intro f a h; rw [kE, nE, cstE]; exact ih f a h
  | case4 x h1 h2 h3 =>
    intro f a h
    unfold plC at h
    split at h
    · exact (h1 _ rfl).elim
    · exact (h2 _ rfl).elim
    · exact (h3 _ rfl).elim
    · cases h
theorem nu_plC : ∀ (x : Tm), nuE x = true → plC sy x = true ∧ smp x = true := by
  intro x
  induction x using nuE.induct with
  | case1 v => exact fun _ => ⟨rfl, rfl⟩
  | case2 e ih => exact fun h => ih h
  | case3 x h1 h2 =>
    intro h
    unfold nuE at h
    split at h
    · exact (h1 _ rfl).elim
    · exact (h2 _ rfl).elim
    · cases h
/-- a fixed index is known -/
theorem ty_F : ∀ (e : Tm) (f a : Nat) (z : Sg), fixE sy e = true → cod C pe a (kE sy wd r e f a) → gfX C M E Y (a + nE sy e) (zSA z ((1, 0, (cstE r e).toInt), (zA z).1, k0)) → rul C M E (gfX C M E Y) a z := by
  intro e
  induction e using fixE.induct with
  | case1 e ih =>
    intro f a z hf hc h
    rw [kE] at hc
    rw [nE] at h
    exact ih f a z hf hc h
  | case2 o x y =>
    intro f a z hf hc h
    have hf : ((o == 43 || o == 45) && plC sy x && nuE y) = true := hf
    rw [Bool.and_eq_true, Bool.and_eq_true, Bool.or_eq_true, beq_iff_eq, beq_iff_eq] at hf
    obtain ⟨⟨ho, hx⟩, hy⟩ := hf
    obtain ⟨hy1, hy2⟩ := nu_plC (sy := sy) y hy
    obtain ⟨kx, nx⟩ := kE_pl (wd := wd) (r := r) x f a hx
    obtain ⟨ky, ny⟩ := kE_pl (wd := wd) (r := r) y f (a + nE sy x) hy1
    rw [kE, if_neg (by omega), if_neg (by omega), if_pos hy2, kx, ky] at hc
    rw [nE, if_neg (by omega), if_neg (by omega), if_pos hy2, nx, ny] at h
    obtain ⟨c1, c2, c3⟩ := hc
    refine i_ldc (a := (1, 0, (cstE r x).toInt)) (b := (zA z).1) (c := k0) c1 (gf_ru ?_) (Or.inl rfl) (Or.inl rfl) (Or.inr rfl)
    refine i_ldc (z := zSA z ((1, 0, (cstE r x).toInt), (zA z).1, k0)) (a := (1, 0, (cstE r y).toInt)) (b := (1, 0, (cstE r x).toInt)) (c := (zA z).1) c2 (gf_ru ?_) (Or.inl rfl) (Or.inl rfl) (Or.inl rfl)
    rcases ho with ho | ho
    · subst ho
      have c3 : cod C pe (a + 1 + 1) [iO 1] := c3
      refine i_addc (x := cstE r x) (y := cstE r y) (z := zSA z ((1, 0, (cstE r y).toInt), (1, 0, (cstE r x).toInt), (zA z).1)) (b := (zA z).1) (c := k0) c3.1 rfl rfl ?_ (Or.inl rfl) (Or.inr rfl)
      rw [cstE, if_pos rfl] at h
      exact h
    · subst ho
      have c3 : cod C pe (a + 1 + 1) [iO 2] := c3
      refine i_subc (x := cstE r x) (y := cstE r y) (z := zSA z ((1, 0, (cstE r y).toInt), (1, 0, (cstE r x).toInt), (zA z).1)) (b := (zA z).1) (c := k0) c3.1 rfl rfl ?_ (Or.inl rfl) (Or.inr rfl)
      rw [cstE, if_neg (by omega)] at h
      exact h
  | case3 v =>
    intro f a z _ hc h
    rw [kE] at hc
    exact i_ldc hc.1 h (Or.inl rfl) (Or.inl rfl) (Or.inr rfl)
  | case4 s =>
    intro f a z hf hc h
    have hf : srO sy s = 11 := beq_iff_eq.mp hf
    rw [kE, if_pos hf] at hc
    rw [nE, if_neg (by omega)] at h
    exact i_ldc hc.1 h (Or.inl rfl) (Or.inl rfl) (Or.inr rfl)
  | case5 x h1 h2 h3 h4 =>
    intro f a z hf
    unfold fixE at hf
    split at hf
    · exact (h1 _ rfl).elim
    · exact (h2 _ _ _ rfl).elim
    · exact (h3 _ rfl).elim
    · exact (h4 _ rfl).elim
    · cases hf
/-- a variable's address -/
theorem ty_V {v : Tm} {f a : Nat} {z : Sg} (wf : wfV sy vis v) (ec : eC sy vis wd (zG z)) (tm : ∀ i : Nat, f ≤ i → i < f + exw v → (zG z i).1 = 1) (tb : f + exw v < 2 ^ 31) (z0 : (zR z).1 = 0) (nl : (zL z).2.1 = []) (hc : cod C pe a (kA sy wd r v f a)) (h : ∀ k, daA (zG z) k → (k.1 = 4 ∨ k.1 = 2 → ∃ s ∈ vis, srO sy s ≠ 1 ∧ srO sy s ≠ 11 ∧ k.2.2 = (wd s).toInt) → gfX C M E Y (a + nD sy v) (zSA z (k, (zA z).1, k0))) : rul C M E (gfX C M E Y) a z := by
  unfold wfV at wf
  split at wf
  · rename_i s
    obtain ⟨hs, hv⟩ := wf
    obtain ⟨e1, e2, -, -, -, eB⟩ := ec s hs
    rw [nD] at h
    unfold sVar at hv
    simp only [Bool.or_eq_true, beq_iff_eq] at hv
    rw [kA, if_neg (by omega)] at hc
    rcases hv with hv | hv
    · have c1 : C.1 a = some (1, wd s) := by
        have := hc.1
        rw [hv] at this
        exact this
      exact i_ldlp (b := (zA z).1) (c := k0) c1 (eB (by omega) (by omega)).1 (eB (by omega) (by omega)).2 (h _ (Or.inl ⟨rfl, e1 (Or.inl hv)⟩) (fun _ => ⟨s, hs, by omega, by omega, rfl⟩)) (Or.inl rfl) (Or.inr rfl)
    · have c1 : C.1 a = some (7, wd s) := by
        have := hc.1
        rw [hv] at this
        exact this
      obtain ⟨g1, g2⟩ := e2 hv
      exact i_ldl (k := (5, 0, (wd s).toInt)) (b := (zA z).1) (c := k0) c1 (by omega) (Or.inr (Or.inl ⟨by omega, rfl⟩)) (h _ (Or.inr (Or.inr (Or.inl ⟨rfl, g1, g2⟩))) (fun y => absurd (show (5 : Nat) = 4 ∨ (5 : Nat) = 2 from y) (by decide))) (Or.inl rfl) (Or.inr rfl)
  · rename_i s e
    obtain ⟨hs, ha, hx, -⟩ := wf
    rw [exw] at tm tb
    rw [nD] at h
    rw [kA, cod_app, kE_len] at hc
    refine ty_E e f a z hx ec tm tb z0 nl hc.1 (gf_ru ?_)
    exact ty_el (z := zSA z (k0, (zA z).1, k0)) (b := (zA z).1) hs ha ec z0 nl (Or.inr trivial) hc.2 (Or.inl rfl) (fun k hk h4 => h k hk fun y => ⟨s, hs, by unfold sArr at ha; simp only [Bool.or_eq_true, beq_iff_eq] at ha; omega, by unfold sArr at ha; simp only [Bool.or_eq_true, beq_iff_eq] at ha; omega, h4 y⟩)
  · exact wf.elim
/-- a channel's address -/
theorem ty_C {c : Tm} {f a m : Nat} {z : Sg} (wf : wfC sy vis c) (ec : eC sy vis wd (zG z)) (rg : rgt sy wd (zG z) (zW z) (kyT sy r c) m) (tm : ∀ i : Nat, f ≤ i → i < f + exw c → (zG z i).1 = 1) (tb : f + exw c < 2 ^ 31) (z0 : (zR z).1 = 0) (nl : (zL z).2.1 = []) (hc : cod C pe a (kA sy wd r c f a)) (h : ∀ k, chA (zG z) (zW z) m k → gfX C M E Y (a + nD sy c) (zSA z (k, (zA z).1, k0))) : rul C M E (gfX C M E Y) a z := by
  unfold wfC at wf
  split at wf
  · rename_i s
    obtain ⟨hs, hv⟩ := wf
    obtain ⟨-, -, -, -, e5, eB⟩ := ec s hs
    rw [nD] at h
    unfold sChn at hv
    simp only [Bool.or_eq_true, beq_iff_eq] at hv
    obtain ⟨r7, r8, r1, -⟩ := rg
    rw [kA] at hc
    rcases hv with (hv | hv) | hv
    · rw [if_neg (by omega)] at hc
      have c1 : C.1 a = some (1, wd s) := by
        have := hc.1
        rw [hv] at this
        exact this
      exact i_ldlp (b := (zA z).1) (c := k0) c1 (eB (by omega) (by omega)).1 (eB (by omega) (by omega)).2 (h _ (Or.inl ⟨rfl, r7 hv⟩)) (Or.inl rfl) (Or.inr rfl)
    · rw [if_neg (by omega)] at hc
      have c1 : C.1 a = some (7, wd s) := by
        have := hc.1
        rw [hv] at this
        exact this
      obtain ⟨g1, g2⟩ := r8 hv
      have g1 : (zG z (wd s).toInt).1 = 22 := g1
      exact i_ldl (k := (5, 0, (wd s).toInt)) (b := (zA z).1) (c := k0) c1 (by omega) (Or.inr (Or.inl ⟨by omega, rfl⟩)) (h _ (Or.inr (Or.inr (Or.inl ⟨rfl, g1, g2⟩)))) (Or.inl rfl) (Or.inr rfl)
    · rw [if_pos hv] at hc
      obtain ⟨g1, g2⟩ := r1 hv
      exact i_ldc (a := (1, 0, (nI (szO sy s)).toInt)) (b := (zA z).1) (c := k0) hc.1 (h _ (Or.inr (Or.inr (Or.inr ⟨rfl, szO sy s, g1, wd_sz (e5 (Or.inl hv)), g2⟩)))) (Or.inl rfl) (Or.inl rfl) (Or.inr rfl)
  · rename_i s e
    obtain ⟨hs, h9, hx, -⟩ := wf
    obtain ⟨-, -, -, -, e5, eB⟩ := ec s hs
    have e5 : szO sy s < 100000 := e5 (by omega)
    rw [exw] at tm tb
    rw [nD] at h
    rw [kA, cod_app, kE_len] at hc
    obtain ⟨-, -, -, r9⟩ := rg
    obtain ⟨t9, wA, wF⟩ := r9 h9
    obtain ⟨c0, c1, c2, c3, c4, -⟩ := hc
    have e0 : (if hldS (srO sy s) then 7 else 1) = 1 := by rw [h9]; rfl
    have c3 : C.1 (a + nE sy e + 1 + 1) = some (1, wd s) := by
      have := c3
      simp only [iV, e0] at this
      exact this
    have n1 : (nI (szO sy s)).toInt = (szO sy s : Int) := wd_sz e5
    by_cases hf : fixE sy e = true
    · have wF : 0 ≤ (cstE r e).toInt → (cstE r e).toInt < szO sy s → (zG z ((wd s).toInt + (cstE r e).toInt)).2.1 &&& m ≠ 0 := by
        have w := wF
        simp only [kyT, hf, Bool.not_true, if_true] at w
        exact w trivial
      refine ty_F e f a z hf c0 (gf_ru ?_)
      refine i_ldc (z := zSA z ((1, 0, (cstE r e).toInt), (zA z).1, k0)) (a := (1, 0, (nI (szO sy s)).toInt)) (b := (1, 0, (cstE r e).toInt)) (c := (zA z).1) c1 (gf_ru ?_) (Or.inl rfl) (Or.inl rfl) (Or.inl rfl)
      by_cases ir : 0 ≤ (cstE r e).toInt ∧ (cstE r e).toInt < szO sy s
      · refine i_chk (n := szO sy s) (k := (1, 0, (cstE r e).toInt)) (z := zSA z ((1, 0, (nI (szO sy s)).toInt), (1, 0, (cstE r e).toInt), (zA z).1)) (b := (zA z).1) (c := k0) c2 z0 nl (by rw [← n1]; rfl) (Or.inr ⟨(cstE r e).toInt, rfl, Or.inl ⟨ir.1, ir.2, rfl⟩⟩) (gf_ru ?_) (Or.inl rfl) (Or.inr rfl)
        refine i_ldlp (z := zSA z ((1, 0, (cstE r e).toInt), (zA z).1, k0)) (b := (1, 0, (cstE r e).toInt)) (c := (zA z).1) c3 (eB (by omega) (by omega)).1 (eB (by omega) (by omega)).2 (gf_ru ?_) (Or.inl rfl) (Or.inl rfl)
        refine i_wsub (k := (2, 0, (wd s).toInt + (cstE r e).toInt)) (z := zSA z ((2, 0, (wd s).toInt), (1, 0, (cstE r e).toInt), (zA z).1)) (b := (zA z).1) (c := k0) c4 (Or.inr (Or.inl ⟨0, (wd s).toInt, (cstE r e).toInt, rfl, rfl, (eB (by omega) (by omega)).1, (eB (by omega) (by omega)).2, ir.1, by omega, rfl⟩)) (h _ (Or.inl ⟨rfl, ?_, wF ir.1 ir.2⟩)) (Or.inl rfl) (Or.inr rfl)
        have := t9 (cstE r e).toInt.toNat (by show (cstE r e).toInt.toNat < szO sy s; omega)
        rw [show (((cstE r e).toInt.toNat : Nat) : Int) = (cstE r e).toInt by omega] at this
        exact this
      · refine i_chk (n := szO sy s) (k := (10, 0, 0)) (z := zSA z ((1, 0, (nI (szO sy s)).toInt), (1, 0, (cstE r e).toInt), (zA z).1)) (b := (zA z).1) (c := k0) c2 z0 nl (by rw [← n1]; rfl) (Or.inr ⟨(cstE r e).toInt, rfl, Or.inr ⟨ir, rfl⟩⟩) (gf_ru ?_) (Or.inl rfl) (Or.inr rfl)
        exact i_nv c3 (Or.inl rfl)
    · have wA : ∀ i : Nat, i < szO sy s → (zG z ((wd s).toInt + i)).2.1 &&& m ≠ 0 := by
        have w := wA
        simp only [kyT, hf, Bool.not_false] at w
        exact w (by simp)
      refine ty_E e f a z hx ec tm tb z0 nl c0 (gf_ru ?_)
      refine i_ldc (z := zSA z (k0, (zA z).1, k0)) (a := (1, 0, (nI (szO sy s)).toInt)) (b := k0) (c := (zA z).1) c1 (gf_ru ?_) (Or.inl rfl) (Or.inl rfl) (Or.inl rfl)
      refine i_chk (n := szO sy s) (k := (3, szO sy s, 0)) (z := zSA z ((1, 0, (nI (szO sy s)).toInt), k0, (zA z).1)) (b := (zA z).1) (c := k0) c2 z0 nl (by rw [← n1]; rfl) (Or.inl rfl) (gf_ru ?_) (Or.inl rfl) (Or.inr rfl)
      refine i_ldlp (z := zSA z ((3, szO sy s, 0), (zA z).1, k0)) (b := (3, szO sy s, 0)) (c := (zA z).1) c3 (eB (by omega) (by omega)).1 (eB (by omega) (by omega)).2 (gf_ru ?_) (Or.inl rfl) (Or.inl rfl)
      exact i_wsub (k := (4, szO sy s, (wd s).toInt)) (z := zSA z ((2, 0, (wd s).toInt), (3, szO sy s, 0), (zA z).1)) (b := (zA z).1) (c := k0) c4 (Or.inl ⟨szO sy s, 0, (wd s).toInt, rfl, rfl, (eB (by omega) (by omega)).1, (eB (by omega) (by omega)).2, e5, rfl⟩) (h _ (Or.inr (Or.inl ⟨rfl, fun i hi => ⟨t9 i hi, wA i hi⟩⟩))) (Or.inl rfl) (Or.inr rfl)
  · exact wf.elim
theorem zSA_any {z : Sg} (h : rAny z) : zSA z (k0, k0, k0) = z := by
  have : zSA z (zA z) = z := rfl
  rw [show zA z = (k0, k0, k0) from h] at this
  exact this
/-- an assignment -/
theorem ty_asg {v e : Tm} {f a : Nat} {z : Sg} (wv : wfV sy vis v) (we : wfE sy vis e) (ec : eC sy vis wd (zG z)) (tm : ∀ i : Nat, f ≤ i → i < f + max (exw v) (exw e) → (zG z i).1 = 1) (tb : f + max (exw v) (exw e) < 2 ^ 31) (ra : rAny z) (z0 : (zR z).1 = 0) (nl : (zL z).2.1 = []) (hc : cod C pe a (kE sy wd r e f a ++ kAs sy wd r v f (a + nE sy e))) (h : gfX C M E Y (a + (nE sy e + nAs sy v)) z) : rul C M E (gfX C M E Y) a z := by
  rw [cod_app, kE_len] at hc
  have zz := zSA_any ra
  have zA1 : (zA z).1 = k0 := by rw [show zA z = (k0, k0, k0) from ra]
  refine ty_E e f a z we ec (fun i h1 h2 => tm i h1 (by omega)) (by omega) z0 nl hc.1 ?_
  rw [zA1, zz]
  have hc2 := hc.2
  have adr : ∀ w : Tm, wfV sy vis w → exw w = exw v → cod C pe (a + nE sy e) (kA sy wd r w f (a + nE sy e) ++ [iV 14 0]) → gfX C M E Y (a + nE sy e + nD sy w + 1) z → gfX C M E Y (a + nE sy e) z := by
    intro w ww ew hw hg
    rw [cod_app, kA_len] at hw
    refine gf_ru (ty_V ww ec (fun i h1 h2 => tm i h1 (by omega)) (by omega) z0 nl hw.1 fun k hk _ => gf_ru ?_)
    rw [zA1]
    exact i_stnl (z := zSA z (k, k0, k0)) hw.2.1 hk (by rw [show zSA (zSA z (k, k0, k0)) (k0, k0, k0) = zSA z (k0, k0, k0) from rfl, zz]; exact hg)
  have wv' := wv
  unfold wfV at wv
  split at wv
  · rename_i s
    rw [kAs] at hc2
    rw [nAs] at h
    by_cases h2 : srO sy s = 2
    · rw [if_pos h2] at hc2 h
      obtain ⟨e1, -⟩ := ec s wv.1
      refine gf_ru (i_stl (a := k0) (b := k0) (c := k0) hc2.1 (e1 (Or.inl h2)) ?_ (Or.inr rfl) (Or.inr rfl) (Or.inr rfl))
      rw [zz]
      exact h
    · rw [if_neg h2] at hc2 h
      exact adr _ wv' rfl hc2 (by rw [nD, show a + nE sy e + 1 + 1 = a + (nE sy e + 2) by omega]; exact h)
  · rename_i s e'
    have hk : kAs sy wd r (.elem (.arg s) e') f (a + nE sy e) = kA sy wd r (.elem (.arg s) e') f (a + nE sy e) ++ [iV 14 0] := rfl
    have hn : nAs sy (.elem (.arg s) e') = nD sy (.elem (.arg s) e') + 1 := rfl
    rw [hk] at hc2
    rw [hn] at h
    exact adr _ wv' rfl hc2 (by rw [show a + nE sy e + nD sy (.elem (.arg s) e') + 1 = a + (nE sy e + (nD sy (.elem (.arg s) e') + 1)) by omega]; exact h)
  · exact wv.elim
/-- sending -/
theorem ty_snd {c e : Tm} {f a : Nat} {z : Sg} (o : oneW E) (wc : wfC sy vis c) (we : wfE sy vis e) (ec : eC sy vis wd (zG z)) (rg : rgt sy wd (zG z) (zW z) (kyT sy r c) 4) (tm : ∀ i : Nat, f ≤ i → i < f + max (exw c) (exw e) → (zG z i).1 = 1) (tb : f + max (exw c) (exw e) < 2 ^ 31) (ra : rAny z) (z0 : (zR z).1 = 0) (nl : (zL z).2.1 = []) (hc : cod C pe a (kE sy wd r e f a ++ kA sy wd r c f (a + nE sy e) ++ [iO 21])) (h : gfX C M E Y (a + (nE sy e + nD sy c + 1)) z) : rul C M E (gfX C M E Y) a z := by
  rw [cod_app, cod_app, kE_len, List.length_append, kE_len, kA_len] at hc
  have zz := zSA_any ra
  have zA1 : (zA z).1 = k0 := by rw [show zA z = (k0, k0, k0) from ra]
  refine ty_E e f a z we ec (fun i h1 h2 => tm i h1 (by omega)) (by omega) z0 nl hc.1.1 ?_
  rw [zA1, zz]
  refine gf_ru (ty_C wc ec rg (fun i h1 h2 => tm i h1 (by omega)) (by omega) z0 nl hc.1.2 fun k hk => gf_ru ?_)
  rw [zA1]
  refine i_out (z := zSA z (k, k0, k0)) o (by rw [show a + nE sy e + nD sy c = a + (nE sy e + nD sy c) by omega]; exact hc.2.1) z0 nl hk ?_
  rw [show zSA (zSA z (k, k0, k0)) (k0, k0, k0) = zSA z (k0, k0, k0) from rfl, zz, show a + nE sy e + nD sy c + 1 = a + (nE sy e + nD sy c + 1) by omega]
  exact h
/-- taking -/
theorem ty_tak {c v : Tm} {f a : Nat} {z : Sg} (o : oneW E) (wc : wfC sy vis c) (wv : wfV sy vis v) (ec : eC sy vis wd (zG z)) (rg : rgt sy wd (zG z) (zW z) (kyT sy r c) 8) (tm : ∀ i : Nat, f ≤ i → i < f + max (exw c) (exw v) → (zG z i).1 = 1) (tb : f + max (exw c) (exw v) < 2 ^ 31) (ra : rAny z) (z0 : (zR z).1 = 0) (nl : (zL z).2.1 = []) (hc : cod C pe a (kA sy wd r v f a ++ kA sy wd r c f (a + nD sy v) ++ [iO 20])) (h : gfX C M E Y (a + (nD sy v + nD sy c + 1)) z) : rul C M E (gfX C M E Y) a z := by
  rw [cod_app, cod_app, kA_len, List.length_append, kA_len, kA_len] at hc
  have zz := zSA_any ra
  have zA1 : (zA z).1 = k0 := by rw [show zA z = (k0, k0, k0) from ra]
  refine ty_V wv ec (fun i h1 h2 => tm i h1 (by omega)) (by omega) z0 nl hc.1.1 fun kv hv _ => gf_ru ?_
  rw [zA1]
  refine ty_C (z := zSA z (kv, k0, k0)) wc ec rg (fun i h1 h2 => tm i h1 (by omega)) (by omega) z0 nl hc.1.2 fun k hk => gf_ru ?_
  refine i_in (z := zSA z (k, kv, k0)) o (by rw [show a + nD sy v + nD sy c = a + (nD sy v + nD sy c) by omega]; exact hc.2.1) z0 nl hk hv ?_
  rw [show zSA (zSA z (k, kv, k0)) (k0, k0, k0) = zSA z (k0, k0, k0) from rfl, zz, show a + nD sy v + nD sy c + 1 = a + (nD sy v + nD sy c + 1) by omega]
  exact h
end
