/-! (S): expressions are typed well -/
/-- names that are seen have their words -/
def eC (sy : List Sym) (vis : List Nat) (wd : Nat → Int32) (G : Int → Kd) : Prop := ∀ s ∈ vis, (srO sy s = 2 ∨ srO sy s = 3 ∨ srO sy s = 10 → (G (wd s).toInt).1 = 1) ∧ (srO sy s = 4 → (G (wd s).toInt).1 = 21 ∧ 1 ≤ (G (wd s).toInt).2.1) ∧
  (srO sy s = 5 → (∀ i : Nat, i < szO sy s → (G ((wd s).toInt + i)).1 = 1) ∧ -100000 ≤ (wd s).toInt ∧ (wd s).toInt ≤ 100000) ∧ (srO sy s = 6 → (G (wd s).toInt).1 = 21 ∧ szO sy s ≤ (G (wd s).toInt).2.1) ∧ (srO sy s = 1 ∨ srO sy s = 5 ∨ srO sy s = 6 ∨ srO sy s = 9 → szO sy s < 100000) ∧ (srO sy s ≠ 1 → srO sy s ≠ 11 → -100000 ≤ (wd s).toInt ∧ (wd s).toInt ≤ 100000)
section
variable {C : Cx} {M : Nat} {E : En} {Y : Nat → Sg → Prop} {sy : List Sym} {vis : List Nat} {wd r : Nat → Int32} {pe : Nat → Nat}
/-- a value is fetched -/
theorem ty_ld {s a : Nat} {z : Sg} {b c : Kd} (hs : s ∈ vis) (hv : sVal (srO sy s) = true) (ec : eC sy vis wd (zG z)) (hc : cod C pe a (kE sy wd r (.arg s) 0 a)) (hb : wR (zA z).1 b) (hc' : wR (zA z).2.1 c) (h : gfX C M E Y (a + nE sy (.arg s)) (zSA z (k0, b, c))) : rul C M E (gfX C M E Y) a z := by
  obtain ⟨e1, e2, -, -, -⟩ := ec s hs
  rw [kE] at hc
  rw [nE] at h
  by_cases h11 : srO sy s = 11
  · rw [if_pos h11] at hc
    rw [if_neg (by omega)] at h
    exact i_ldc hc.1 h (Or.inr rfl) hb hc'
  · rw [if_neg h11] at hc
    by_cases h4 : srO sy s = 4
    · rw [if_pos h4] at hc h
      obtain ⟨f1, f2⟩ := e2 h4
      exact i_ldl (k := (5, 0, (wd s).toInt)) hc.1 (by show (zG z (wd s).toInt).1 ≠ 0; omega) (Or.inr (Or.inl ⟨by show 10 ≤ (zG z (wd s).toInt).1; omega, rfl⟩)) (gf_ru (i_ldnl (z := zSA z ((5, 0, (wd s).toInt), b, c)) hc.2.1 (Or.inr (Or.inr (Or.inl ⟨rfl, f1, f2⟩))) h)) hb hc'
    · rw [if_neg h4] at hc h
      have d1 : (zG z (wd s).toInt).1 = 1 := e1 (by
        unfold sVal at hv
        simp only [Bool.or_eq_true, beq_iff_eq] at hv
        omega)
      exact i_ldl (k := k0) hc.1 (by show (zG z (wd s).toInt).1 ≠ 0; omega) (Or.inl rfl) h hb hc'
theorem kE_arg {s f a : Nat} : kE sy wd r (.arg s) f a = kE sy wd r (.arg s) 0 a := by rw [kE, kE]
/-- a simple one keeps what lies below -/
theorem ty_S : ∀ (y : Tm) (f a : Nat) (z : Sg), smp y = true → wfE sy vis y → eC sy vis wd (zG z) → cod C pe a (kE sy wd r y f a) → gfX C M E Y (a + nE sy y) (zSA z (k0, (zA z).1, (zA z).2.1)) → rul C M E (gfX C M E Y) a z := by
  intro y
  induction y using smp.induct with
  | case1 v =>
    intro f a z _ _ _ hc h
    rw [kE] at hc
    exact i_ldc hc.1 h (Or.inr rfl) (Or.inl rfl) (Or.inl rfl)
  | case2 s =>
    intro f a z _ wf eC hc h
    rw [kE_arg] at hc
    exact ty_ld wf.1 wf.2 eC hc (Or.inl rfl) (Or.inl rfl) h
  | case3 e ih =>
    intro f a z hs wf eC hc h
    rw [kE] at hc
    rw [nE] at h
    exact ih f a z hs wf eC hc h
  | case4 x h1 h2 h3 =>
    intro f a z hs
    unfold smp at hs
    split at hs
    · exact (h1 _ rfl).elim
    · exact (h2 _ rfl).elim
    · exact (h3 _ rfl).elim
    · cases hs
/-- an operator -/
theorem ty_sg : ∀ (o a : Nat) (z : Sg), (zR z).1 = 0 → (zL z).2.1 = [] → cod C pe a (sgI o) → gfX C M E Y (a + (sgI o).length) (zSA z (k0, (zA z).2.2, k0)) → rul C M E (gfX C M E Y) a z := by
  intro o a z z0 nl hc h
  have t1 : ∀ n, n = 1 ∨ n = 2 ∨ n = 3 ∨ n = 6 ∨ n = 7 ∨ n = 8 ∨ n = 9 ∨ n = 10 → cod C pe a [iO n] → gfX C M E Y (a + 1) (zSA z (k0, (zA z).2.2, k0)) → rul C M E (gfX C M E Y) a z := fun n hn c g => i_two hn c.1 g (Or.inl rfl) (Or.inr rfl)
  have t2 : ∀ n, n = 4 ∨ n = 5 → cod C pe a [iO n] → gfX C M E Y (a + 1) (zSA z (k0, (zA z).2.2, k0)) → rul C M E (gfX C M E Y) a z := fun n hn c g => i_dm hn c.1 z0 nl g (Or.inl rfl) (Or.inr rfl)
  unfold sgI at hc h
  by_cases c43 : o = 43
  · rw [if_pos c43] at hc h
    exact t1 1 (by omega) hc h
  rw [if_neg c43] at hc h
  by_cases c45 : o = 45
  · rw [if_pos c45] at hc h
    exact t1 2 (by omega) hc h
  rw [if_neg c45] at hc h
  by_cases c42 : o = 42
  · rw [if_pos c42] at hc h
    exact t1 3 (by omega) hc h
  rw [if_neg c42] at hc h
  by_cases c47 : o = 47
  · rw [if_pos c47] at hc h
    exact t2 4 (by omega) hc h
  rw [if_neg c47] at hc h
  by_cases c92 : o = 92
  · rw [if_pos c92] at hc h
    exact t2 5 (by omega) hc h
  rw [if_neg c92] at hc h
  by_cases c15420 : o = 15420
  · rw [if_pos c15420] at hc h
    exact t1 9 (by omega) hc h
  rw [if_neg c15420] at hc h
  by_cases c15934 : o = 15934
  · rw [if_pos c15934] at hc h
    exact t1 10 (by omega) hc h
  rw [if_neg c15934] at hc h
  by_cases c12124 : o = 12124
  · rw [if_pos c12124] at hc h
    exact t1 7 (by omega) hc h
  rw [if_neg c12124] at hc h
  by_cases c23599 : o = 23599
  · rw [if_pos c23599] at hc h
    exact t1 8 (by omega) hc h
  rw [if_neg c23599] at hc h
  by_cases c61 : o = 61
  · rw [if_pos c61] at hc h
    exact i_two (o := 2) (by omega) hc.1 (gf_ru (i_eqc (z := zSA z (k0, (zA z).2.2, k0)) hc.2.1 h)) (Or.inl rfl) (Or.inr rfl)
  rw [if_neg c61] at hc h
  by_cases c15422 : o = 15422
  · rw [if_pos c15422] at hc h
    exact i_two (o := 2) (by omega) hc.1 (gf_ru (i_eqc (z := zSA z (k0, (zA z).2.2, k0)) hc.2.1 (gf_ru (i_eqc (z := zSA z (k0, (zA z).2.2, k0)) hc.2.2.1 h)))) (Or.inl rfl) (Or.inr rfl)
  rw [if_neg c15422] at hc h
  by_cases c60 : o = 60
  · rw [if_pos c60] at hc h
    exact i_rev hc.1 (gf_ru (i_two (o := 6) (z := zSA z (k0, k0, (zA z).2.2)) (by omega) hc.2.1 h (Or.inl rfl) (Or.inr rfl))) (Or.inr rfl) (Or.inr rfl) (Or.inl rfl)
  rw [if_neg c60] at hc h
  by_cases c15933 : o = 15933
  · rw [if_pos c15933] at hc h
    exact i_rev hc.1 (gf_ru (i_two (o := 6) (z := zSA z (k0, k0, (zA z).2.2)) (by omega) hc.2.1 (gf_ru (i_eqc (z := zSA z (k0, (zA z).2.2, k0)) hc.2.2.1 h)) (Or.inl rfl) (Or.inr rfl))) (Or.inr rfl) (Or.inr rfl) (Or.inl rfl)
  rw [if_neg c15933] at hc h
  by_cases c15421 : o = 15421
  · rw [if_pos c15421] at hc h
    exact i_two (o := 6) (by omega) hc.1 (gf_ru (i_eqc (z := zSA z (k0, (zA z).2.2, k0)) hc.2.1 h)) (Or.inl rfl) (Or.inr rfl)
  rw [if_neg c15421] at hc h
  exact t1 6 (by omega) hc h
theorem wd_sz {n : Nat} (h : n < 100000) : (nI n).toInt = (n : Int) := nI_toInt (by omega)
/-- an element's address; its index lies in A -/
theorem ty_el {s a : Nat} {z : Sg} {b : Kd} (hs : s ∈ vis) (ha : sArr (srO sy s) = true) (eC : eC sy vis wd (zG z)) (z0 : (zR z).1 = 0) (nl : (zL z).2.1 = []) (hz : (zA z).2.2 = k0 ∨ True) (hc : cod C pe a [iV 4 (nI (szO sy s)), iO 12, iV (if hldS (srO sy s) then 7 else 1) (wd s), iO 11]) (hb : wR (zA z).2.1 b)
    (h : ∀ k, daA (zG z) k → (k.1 = 4 ∨ k.1 = 2 → k.2.2 = (wd s).toInt) → gfX C M E Y (a + 4) (zSA z (k, b, k0))) : rul C M E (gfX C M E Y) a z := by
  obtain ⟨-, -, e3, e4, e5, -⟩ := eC s hs
  have e5 : szO sy s < 100000 := e5 (by
    have ha := ha
    unfold sArr at ha
    simp only [Bool.or_eq_true, beq_iff_eq] at ha
    omega)
  obtain ⟨c1, c2, c3, c4, -⟩ := hc
  have n1 : (nI (szO sy s)).toInt = (szO sy s : Int) := wd_sz e5
  refine i_ldc (a := (1, 0, (nI (szO sy s)).toInt)) (b := k0) (c := b) c1 (gf_ru ?_) (Or.inl rfl) (Or.inr rfl) hb
  refine i_chk (n := szO sy s) (k := (3, szO sy s, 0)) (z := zSA z ((1, 0, (nI (szO sy s)).toInt), k0, b)) (b := b) (c := k0) c2 z0 nl (by rw [← n1]; rfl) (Or.inl rfl) (gf_ru ?_) (Or.inl rfl) (Or.inr rfl)
  by_cases h5 : srO sy s = 5
  · obtain ⟨g1, g2, g3⟩ := e3 h5
    have e0 : (if hldS (srO sy s) then 7 else 1) = 1 := by rw [h5]; rfl
    have c3 : C.1 (a + 1 + 1) = some (1, wd s) := by
      have := c3
      simp only [iV, e0] at this
      exact this
    refine i_ldlp (z := zSA z ((3, szO sy s, 0), b, k0)) (b := (3, szO sy s, 0)) (c := b) c3 g2 g3 (gf_ru ?_) (Or.inl rfl) (Or.inl rfl)
    exact i_wsub (k := (4, szO sy s, (wd s).toInt)) (z := zSA z ((2, 0, (wd s).toInt), (3, szO sy s, 0), b)) (b := b) (c := k0) c4 (Or.inl ⟨szO sy s, 0, (wd s).toInt, rfl, rfl, g2, g3, e5, rfl⟩) (h _ (Or.inr (Or.inl ⟨rfl, g1⟩)) (fun _ => rfl)) (Or.inl rfl) (Or.inr rfl)
  · have h6 : srO sy s = 6 := by
      unfold sArr at ha
      simp only [Bool.or_eq_true, beq_iff_eq] at ha
      omega
    obtain ⟨g1, g2⟩ := e4 h6
    have e0 : (if hldS (srO sy s) then 7 else 1) = 7 := by rw [h6]; rfl
    have c3 : C.1 (a + 1 + 1) = some (7, wd s) := by
      have := c3
      simp only [iV, e0] at this
      exact this
    refine i_ldl (k := (5, 0, (wd s).toInt)) (z := zSA z ((3, szO sy s, 0), b, k0)) (b := (3, szO sy s, 0)) (c := b) c3 (by show (zG z (wd s).toInt).1 ≠ 0; omega) (Or.inr (Or.inl ⟨by show 10 ≤ (zG z (wd s).toInt).1; omega, rfl⟩)) (gf_ru ?_) (Or.inl rfl) (Or.inl rfl)
    exact i_wsub (k := (6, szO sy s, (wd s).toInt)) (z := zSA z ((5, 0, (wd s).toInt), (3, szO sy s, 0), b)) (b := b) (c := k0) c4 (Or.inr (Or.inr (Or.inl ⟨szO sy s, 0, (wd s).toInt, rfl, rfl, rfl⟩))) (h _ (Or.inr (Or.inr (Or.inr ⟨rfl, g1, g2⟩))) (fun y => absurd (show (6 : Nat) = 4 ∨ (6 : Nat) = 2 from y) (by decide))) (Or.inl rfl) (Or.inr rfl)
/-- EXPRESSIONS -/
theorem ty_E : ∀ (e : Tm) (f a : Nat) (z : Sg), wfE sy vis e → eC sy vis wd (zG z) → (∀ i : Nat, f ≤ i → i < f + exw e → (zG z i).1 = 1) → f + exw e < 2 ^ 31 → (zR z).1 = 0 → (zL z).2.1 = [] → cod C pe a (kE sy wd r e f a) → gfX C M E Y (a + nE sy e) (zSA z (k0, (zA z).1, k0)) → rul C M E (gfX C M E Y) a z := by
  intro e
  induction e using nE.induct sy with
  | case1 v =>
    intro f a z _ _ _ _ _ _ hc h
    rw [kE] at hc
    exact i_ldc hc.1 h (Or.inr rfl) (Or.inl rfl) (Or.inr rfl)
  | case2 s hs4 =>
    intro f a z wf ec _ _ _ _ hc h
    rw [kE_arg] at hc
    exact ty_ld wf.1 wf.2 ec hc (Or.inl rfl) (Or.inr rfl) h
  | case3 s hs4 =>
    intro f a z wf ec _ _ _ _ hc h
    rw [kE_arg] at hc
    exact ty_ld wf.1 wf.2 ec hc (Or.inl rfl) (Or.inr rfl) h
  | case4 s e ih =>
    intro f a z wf ec tm tb z0 nl hc h
    rw [kE, cod_app, kE_len] at hc
    rw [nE] at h
    refine ih f a z wf.2.2 ec tm tb z0 nl hc.1 (gf_ru ?_)
    have hc2 := hc.2
    have c5 : cod C pe (a + nE sy e) [iV 4 (nI (szO sy s)), iO 12, iV (if hldS (srO sy s) then 7 else 1) (wd s), iO 11] := ⟨hc2.1, hc2.2.1, hc2.2.2.1, hc2.2.2.2.1, trivial⟩
    exact ty_el (z := zSA z (k0, (zA z).1, k0)) (b := (zA z).1) wf.1 wf.2.1 ec z0 nl (Or.inr trivial) c5 (Or.inl rfl) (fun k hk _ => gf_ru (i_ldnl (z := zSA z (k, (zA z).1, k0)) hc2.2.2.2.2.1 hk h))
  | case5 e ih =>
    intro f a z wf ec tm tb z0 nl hc h
    rw [kE, cod_app, kE_len] at hc
    rw [nE] at h
    obtain ⟨c1, c2, c3, c4, -⟩ := hc
    refine ih f a z wf ec tm tb z0 nl c1 (gf_ru ?_)
    exact i_ldc (a := k0) (b := k0) (c := (zA z).1) (z := zSA z (k0, (zA z).1, k0)) c2 (gf_ru (i_rev (z := zSA z (k0, k0, (zA z).1)) (a := k0) (b := k0) (c := (zA z).1) c3 (gf_ru (i_two (o := 2) (z := zSA z (k0, k0, (zA z).1)) (by omega) c4 h (Or.inl rfl) (Or.inr rfl))) (Or.inr rfl) (Or.inr rfl) (Or.inl rfl))) (Or.inr rfl) (Or.inr rfl) (Or.inl rfl)
  | case6 e ih =>
    intro f a z wf ec tm tb z0 nl hc h
    rw [kE, cod_app, kE_len] at hc
    rw [nE] at h
    refine ih f a z wf ec tm tb z0 nl hc.1 (gf_ru ?_)
    exact i_eqc (z := zSA z (k0, (zA z).1, k0)) hc.2.1 h
  | case7 e ih =>
    intro f a z wf ec tm tb z0 nl hc h
    rw [kE] at hc
    rw [nE] at h
    exact ih f a z wf ec tm tb z0 nl hc h
  | case8 x y i1 i2 =>
    intro f a z wf ec tm tb z0 nl hc h
    rw [exw, if_pos (Or.inl rfl)] at tm tb
    rw [kE, if_pos rfl, cod_app, kE_len] at hc
    rw [nE, if_pos rfl] at h
    obtain ⟨c1, c2, c3⟩ := hc
    rw [cod_app, kE_len] at c3
    obtain ⟨c3, c4, c5, -⟩ := c3
    refine i1 f a z wf.2.1 ec (fun i h1 h2 => tm i h1 (by omega)) (by omega) z0 nl c1 (gf_ru ?_)
    refine i_cj (z := zSA z (k0, (zA z).1, k0)) (p := a + nE sy x + nE sy y + 3) (a := (zA z).1) (b := k0) (c := k0) (b' := (zA z).1) (c' := k0) c2 rfl (gf_ru ?_) (by rw [show a + nE sy x + nE sy y + 3 = a + (nE sy x + nE sy y + 3) by omega]; exact h) (Or.inl rfl) (Or.inr rfl) (Or.inr rfl) (Or.inl rfl) (Or.inr rfl)
    refine i2 f (a + nE sy x + 1) (zSA z ((zA z).1, k0, k0)) wf.2.2 ec (fun i h1 h2 => tm i h1 (by omega)) (by omega) z0 nl c3 (gf_ru ?_)
    exact i_eqc (z := zSA z (k0, (zA z).1, k0)) c4 (gf_ru (i_eqc (z := zSA z (k0, (zA z).1, k0)) c5 (by rw [show a + nE sy x + 1 + nE sy y + 1 + 1 = a + (nE sy x + nE sy y + 3) by omega]; exact h)))
  | case9 x y h1 i1 i2 =>
    intro f a z wf ec tm tb z0 nl hc h
    rw [exw, if_pos (Or.inr (Or.inl rfl))] at tm tb
    rw [kE, if_neg h1, if_pos rfl, cod_app, kE_len] at hc
    rw [nE, if_neg h1, if_pos rfl] at h
    obtain ⟨c1, c0, c2, c3⟩ := hc
    rw [cod_app, kE_len] at c3
    obtain ⟨c3, c4, c5, -⟩ := c3
    refine i1 f a z wf.2.1 ec (fun i h1 h2 => tm i h1 (by omega)) (by omega) z0 nl c1 (gf_ru ?_)
    refine i_eqc (z := zSA z (k0, (zA z).1, k0)) (b := (zA z).1) (c := k0) c0 (gf_ru ?_)
    have last : gfX C M E Y (a + nE sy x + nE sy y + 3) (zSA z (k0, (zA z).1, k0)) := gf_ru (i_eqc (z := zSA z (k0, (zA z).1, k0)) (by rw [show a + nE sy x + nE sy y + 3 = a + nE sy x + 1 + 1 + nE sy y + 1 by omega]; exact c5) (by rw [show a + nE sy x + nE sy y + 3 + 1 = a + (nE sy x + nE sy y + 4) by omega]; exact h))
    refine i_cj (z := zSA z (k0, (zA z).1, k0)) (p := a + nE sy x + nE sy y + 3) (a := (zA z).1) (b := k0) (c := k0) (b' := (zA z).1) (c' := k0) c2 rfl (gf_ru ?_) last (Or.inl rfl) (Or.inr rfl) (Or.inr rfl) (Or.inl rfl) (Or.inr rfl)
    refine i2 f (a + nE sy x + 2) (zSA z ((zA z).1, k0, k0)) wf.2.2 ec (fun i h1 h2 => tm i h1 (by omega)) (by omega) z0 nl c3 (gf_ru ?_)
    exact i_eqc (z := zSA z (k0, (zA z).1, k0)) c4 (by rw [show a + nE sy x + 2 + nE sy y + 1 = a + nE sy x + nE sy y + 3 by omega]; exact last)
  | case10 o x y h1 h2 h3 i1 i2 =>
    intro f a z wf ec tm tb z0 nl hc h
    rw [exw, if_pos (Or.inr (Or.inr h3))] at tm tb
    rw [kE, if_neg h1, if_neg h2, if_pos h3, cod_app, cod_app, kE_len, List.length_append, kE_len, kE_len] at hc
    rw [nE, if_neg h1, if_neg h2, if_pos h3] at h
    obtain ⟨⟨c1, c2⟩, c3⟩ := hc
    refine i1 f a z wf.2.1 ec (fun i h1 h2 => tm i h1 (by omega)) (by omega) z0 nl c1 (gf_ru ?_)
    refine ty_S y f (a + nE sy x) (zSA z (k0, (zA z).1, k0)) h3 wf.2.2 ec c2 (gf_ru ?_)
    exact ty_sg o (a + nE sy x + nE sy y) (zSA z (k0, k0, (zA z).1)) z0 nl (by rw [show a + nE sy x + nE sy y = a + (nE sy x + nE sy y) by omega]; exact c3) (by rw [show a + nE sy x + nE sy y + (sgI o).length = a + (nE sy x + nE sy y + (sgI o).length) by omega]; exact h)
  | case11 o x y h1 h2 h3 i1 i2 =>
    intro f a z wf ec tm tb z0 nl hc h
    have ne : ¬ (o = 65 ∨ o = 79 ∨ smp y = true) := by
      rintro (q | q | q)
      · exact h1 q
      · exact h2 q
      · exact h3 q
    rw [exw, if_neg ne] at tm tb
    rw [kE, if_neg h1, if_neg h2, if_neg h3, cod_app, kE_len] at hc
    rw [nE, if_neg h1, if_neg h2, if_neg h3] at h
    obtain ⟨c1, c2, c3⟩ := hc
    rw [cod_app, kE_len] at c3
    obtain ⟨c3, c4, c5⟩ := c3
    have f1 : (nI f).toInt = (f : Int) := nI_toInt (by omega)
    have fd : (zG z (nI f).toInt).1 = 1 := by rw [f1]; exact tm f (by omega) (by omega)
    refine i1 f a z wf.2.2 ec (fun i h1 h2 => tm i h1 (by omega)) (by omega) z0 nl c1 (gf_ru ?_)
    refine i_stl (z := zSA z (k0, (zA z).1, k0)) (a := (zA z).1) (b := k0) (c := k0) c2 fd (gf_ru ?_) (Or.inl rfl) (Or.inr rfl) (Or.inr rfl)
    refine i2 (f + 1) (a + nE sy y + 1) (zSA z ((zA z).1, k0, k0)) wf.2.1 ec (fun i h1 h2 => tm i (by omega) (by omega)) (by omega) z0 nl c3 (gf_ru ?_)
    refine i_ldl (k := k0) (z := zSA z (k0, (zA z).1, k0)) (b := k0) (c := (zA z).1) c4 (by show (zG z (nI f).toInt).1 ≠ 0; omega) (Or.inl rfl) (gf_ru ?_) (Or.inr rfl) (Or.inl rfl)
    exact ty_sg o _ (zSA z (k0, k0, (zA z).1)) z0 nl c5 (by rw [show a + nE sy y + 1 + nE sy x + 1 + (sgI o).length = a + (nE sy y + nE sy x + 2 + (sgI o).length) by omega]; exact h)
  | case12 x h1 h2 h3 h4 h5 h6 h7 =>
    intro f a z h
    unfold wfE at h
    split at h
    · exact (h1 _ rfl).elim
    · exact (h2 _ rfl).elim
    · exact (h3 _ _ rfl).elim
    · exact (h4 _ rfl).elim
    · exact (h5 _ rfl).elim
    · exact (h6 _ rfl).elim
    · exact (h7 _ _ _ rfl).elim
    · exact h.elim
end
