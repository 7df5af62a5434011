/-! (S): arguments -/
/-- what an argument's word is of -/
def aRes (sy : List Sym) (vis : List Nat) (wd r : Nat → Int32) (G : Int → Kd) (q : Nat) (x : Tm) (k : Kd) : Prop := (srO sy q = 3 ∧ k = (1, 0, 0)) ∨ (srO sy q = 4 ∧ ∃ k', daA G k' ∧ (k'.1 = 4 ∨ k'.1 = 2 → 0 < k'.2.2) ∧ k = (10 + k'.1, k'.2)) ∨
  (srO sy q = 6 ∧ ∃ s ∈ vis, (srO sy s = 5 ∧ szO sy s = szO sy q ∧ k = (12, 0, (wd s).toInt)) ∨ (srO sy s = 6 ∧ szO sy s = szO sy q ∧ k = (15, 0, (wd s).toInt))) ∨ (srO sy q ≠ 3 ∧ srO sy q ≠ 4 ∧ srO sy q ≠ 6 ∧ ∃ k', chK sy wd (kyT sy r x) k' ∧ (kyT sy r x).1 ∈ vis ∧ k = (10 + k'.1, k'.2))
/-- arguments' words: k from the top -/
def aOf (sz k : Nat) : Int := (k : Int) + 1 - 7 - sz
def aRs (sy : List Sym) (vis : List Nat) (wd r : Nat → Int32) (G G' : Int → Kd) (sz : Nat) : Nat → List Nat → Tm → Prop
  | k, q :: qs, .elem x as => aRes sy vis wd r G q x (G' (aOf sz k)) ∧ aRs sy vis wd r G G' sz (k + 1) qs as
  | _, _, _ => True
/-- names' words lie above -/
def pOs (sy : List Sym) (vis : List Nat) (wd : Nat → Int32) : Prop := ∀ s ∈ vis, srO sy s ≠ 1 → srO sy s ≠ 11 → 0 < (wd s).toInt
theorem eC_po {sy : List Sym} {vis : List Nat} {wd : Nat → Int32} {G G' : Int → Kd} (ps : pOs sy vis wd) (ag : ∀ o, 0 < o → G' o = G o) (h : eC sy vis wd G) : eC sy vis wd G' := by
  intro s hs
  obtain ⟨a1, a2, a3, a4, a5⟩ := h s hs
  have one : srO sy s ≠ 1 → srO sy s ≠ 11 → ∀ i : Nat, G' ((wd s).toInt + i) = G ((wd s).toInt + i) := fun n1 n11 i => ag _ (by have := ps s hs n1 n11; omega)
  have one0 : srO sy s ≠ 1 → srO sy s ≠ 11 → G' (wd s).toInt = G (wd s).toInt := fun n1 n11 => ag _ (ps s hs n1 n11)
  refine ⟨fun y => ?_, fun y => ?_, fun y => ⟨fun i hi => ?_, (a3 y).2⟩, fun y => ?_, a5⟩
  · rw [one0 (by omega) (by omega)]; exact a1 y
  · rw [one0 (by omega) (by omega)]; exact a2 y
  · rw [one (by omega) (by omega) i]; exact (a3 y).1 i hi
  · rw [one0 (by omega) (by omega)]; exact a4 y
theorem cT_po {sy : List Sym} {vis : List Nat} {wd : Nat → Int32} {G G' : Int → Kd} (ps : pOs sy vis wd) (ag : ∀ o, 0 < o → G' o = G o) (h : cTg sy vis wd G) : cTg sy vis wd G' := by
  intro s hs
  obtain ⟨a1, a2, a3, a4⟩ := h s hs
  refine ⟨fun y => ?_, fun y => ?_, fun y i hi => ?_, a4⟩
  · rw [ag _ (ps s hs (by omega) (by omega))]; exact a1 y
  · rw [ag _ (ps s hs (by omega) (by omega))]; exact a2 y
  · rw [ag _ (by have := ps s hs (by omega) (by omega); omega)]; exact a3 y i hi
theorem daA_po {G G' : Int → Kd} {k : Kd} (ag : ∀ o, 0 < o → G' o = G o) (h : daA G' k) (h4 : k.1 = 4 ∨ k.1 = 2 → 0 < k.2.2) (h21 : ∀ o, o ≤ 0 → (G' o).1 = 21 → False) : daA G k := by
  rcases h with ⟨a, b⟩ | ⟨a, b⟩ | ⟨a, b, c⟩ | ⟨a, b, c⟩
  · rw [ag _ (h4 (Or.inr a))] at b
    exact Or.inl ⟨a, b⟩
  · exact Or.inr (Or.inl ⟨a, fun i hi => by have := b i hi; rw [ag _ (by have := h4 (Or.inl a); omega)] at this; exact this⟩)
  · have : 0 < k.2.2 := by
      rcases Int.lt_or_le 0 k.2.2 with y | y
      · exact y
      · exact (h21 _ y b).elim
    rw [ag _ this] at b c
    exact Or.inr (Or.inr (Or.inl ⟨a, b, c⟩))
  · have : 0 < k.2.2 := by
      rcases Int.lt_or_le 0 k.2.2 with y | y
      · exact y
      · exact (h21 _ y b).elim
    rw [ag _ this] at b c
    exact Or.inr (Or.inr (Or.inr ⟨a, b, c⟩))
theorem wfA_c {sy : List Sym} {vis : List Nat} {q : Nat} {qs : List Nat} {as : Tm} (h : wfA sy vis (q :: qs) as) : ∃ x r, as = .elem x r ∧ ((srO sy q = 3 ∧ wfX sy vis x) ∨ (srO sy q = 6 ∧ ∃ s, x = .arg s ∧ s ∈ vis ∧ sArr (srO sy s) = true ∧ szO sy s = szO sy q) ∨ (srO sy q = 4 ∧ wfV sy vis x) ∨ (srO sy q ≠ 3 ∧ srO sy q ≠ 6 ∧ srO sy q ≠ 4 ∧ wfC sy vis x)) ∧ wfA sy vis qs r := by
  unfold wfA at h
  split at h
  · rename_i e1; cases e1
  · rename_i e1; cases e1; exact ⟨_, _, rfl, h.1, h.2⟩
  · exact h.elim
theorem wfC_v {sy : List Sym} {vis : List Nat} {r : Nat → Int32} {c : Tm} (h : wfC sy vis c) : (kyT sy r c).1 ∈ vis := by
  unfold wfC at h
  split at h
  · exact h.1
  · exact h.1
  · exact h.elim
section
variable {C : Cx} {M : Nat} {E : En} {Y : Nat → Sg → Prop} {sy : List Sym} {vis : List Nat} {wd r : Nat → Int32} {pe : Nat → Nat}
theorem aO_I {sz k : Nat} (h : sz < 10000) (hk : k < 100) : (nI (k + 1) - 7 - nI sz).toInt = aOf sz k := by
  have e1 : (nI (k + 1) - 7).toInt = (k : Int) + 1 - 7 := by
    rw [i_sub (nI_toInt (by omega)) (show ((7 : Int32)).toInt = 7 from rfl) (by omega) (by omega)]
    omega
  rw [i_sub e1 (nI_toInt (by omega)) (by omega) (by omega)]
  rfl
/-- arguments are laid down -/
theorem ty_args {z : Sg} {G : Int → Kd} {sz f n : Nat} (z0 : (zR z).1 = 0) (nl : (zL z).2.1 = []) (hsz : sz < 10000) (hhi : 1 ≤ (zI z).2) (hlo : 7 + sz ≤ (zI z).1) (f1 : 1 ≤ f) (fb : f + n < 5000) (ps : pOs sy vis wd) (ec : eC sy vis wd G) (ct : cTg sy vis wd G) (hG : ∀ o, (G o).1 ≠ 0 → 0 < o) (dt : ∀ i : Nat, f ≤ i → i < f + n → (G i).1 = 1) (tg : ∀ o, (G o).1 ≠ 15 ∧ (G o).1 ≠ 16) :
    ∀ (k : Nat) (qs : List Nat) (as : Tm) (a : Nat) (G1 : Int → Kd), wfA sy vis qs as → mxA as ≤ n → k + qs.length + 1 ≤ sz → k + qs.length < 50 → (∀ o, 0 < o → G1 o = G o) → (∀ o : Int, -4 < o → o ≤ 0 → (G1 o).1 = 0) → (∀ o, (G1 o).1 = 15 ∨ (G1 o).1 = 16 → 0 < (G1 o).2.2) → (∀ o : Int, o ≤ 0 → (G1 o).1 ≠ 21 ∧ (G1 o).1 ≠ 22 ∧ (G1 o).1 ≠ 2) → cod C pe a (kC sy wd r sz k qs as f a) →
    (∀ G', (∀ o, 0 < o → G' o = G o) → (∀ i : Nat, i < k → G' (aOf sz i) = G1 (aOf sz i)) → (∀ o, (G' o).1 = 15 ∨ (G' o).1 = 16 → 0 < (G' o).2.2) → aRs sy vis wd r G G' sz k qs as → gfX C M E Y (a + nCa sy qs as) (zSG z G')) → gfX C M E Y a (zSG z G1) := by
  intro k qs
  induction qs generalizing k with
  | nil =>
    intro as a G1 wf _ _ _ ag _ cp _ _ h
    exact h G1 ag (fun _ _ => rfl) cp trivial
  | cons q qs ih =>
    intro as a G1 wf mx hk hk5 ag z4 cp lt hc h
    obtain ⟨x, as', rfl, wx, wr⟩ := wfA_c wf
    have mx' : max (exw x) (mxA as') ≤ n := mx
    rw [List.length_cons] at hk hk5
    rw [kC, cod_app] at hc
    have ln : (if srO sy q = 3 then kE sy wd r x f a else kA sy wd r x f a).length = (if srO sy q = 3 then nE sy x else nD sy x) := by
      split
      · exact kE_len _ _ _
      · exact kA_len _ _ _
    rw [ln] at hc
    obtain ⟨hx, h13, hr⟩ := hc
    have oI : (nI (k + 1) - 7 - nI sz).toInt = aOf sz k := aO_I hsz (by omega)
    have oV : aOf sz k = (k : Int) + 1 - 7 - sz := rfl
    have ec1 := eC_po ps ag ec
    have ct1 := cT_po ps ag ct
    have qz : qt (zSG z G1) := ⟨rfl, z0, nl⟩
    have tm1 : ∀ i : Nat, f ≤ i → i < f + exw x → (G1 i).1 = 1 := fun i i1 i2 => by rw [ag _ (by omega)]; exact dt i i1 (by omega)
    have aInj : ∀ i, aOf sz i = aOf sz k → i = k := fun i y => by unfold aOf at y; omega
    -- it is laid down
    have step : ∀ (kr kw : Kd), hKd kr kw → (kr.1 = 5 ∨ kr.1 = 6 → 0 < kr.2.2) → (kw.1 = 15 ∨ kw.1 = 16 → 0 < kw.2.2) → (kw.1 ≠ 21 ∧ kw.1 ≠ 22 ∧ kw.1 ≠ 2) → aRes sy vis wd r G q x kw → gfX C M E Y (a + (if srO sy q = 3 then nE sy x else nD sy x)) (zSA (zSG z G1) (kr, k0, k0)) := by
      intro kr kw s1 s2 s3 s4 s5
      refine gf_ru (i_hold (v := nI (k + 1) - 7 - nI sz) (z := zSA (zSG z G1) (kr, k0, k0)) (k := kw) (a' := k0) (b' := k0) (c' := k0) h13 z0 nl (by rw [oI, oV]; show -(((zI z).1 : Nat) : Int) ≤ _; omega) (by rw [oI, oV]; show _ < (((zI z).2 : Nat) : Int); omega) (by rw [oI, oV]; omega) (fun o ho y => ?_) s1 (fun h5 y => ?_) ?_ (Or.inr rfl) (Or.inr rfl) (Or.inr rfl) (by intro k' hk' h5; rcases hk' with y | y | y <;> (rw [y] at h5; exact absurd h5 (by decide))))
      · rw [oI, oV] at y
        have := cp o ho
        have y : (G1 o).2.2 = (k : Int) + 1 - 7 - sz := y
        omega
      · rw [oI, oV] at y
        have := s2 h5
        have y : kr.2.2 = (k : Int) + 1 - 7 - sz := y
        omega
      · rw [oI]
        have u1 : ∀ o : Int, o ≠ aOf sz k → upG G1 (aOf sz k) kw o = G1 o := fun o ho => if_neg ho
        have u2 : upG G1 (aOf sz k) kw (aOf sz k) = kw := if_pos rfl
        refine ih (k + 1) as' _ (upG G1 (aOf sz k) kw) wr (by omega) (by omega) (by omega) (fun o ho => by rw [u1 o (by omega)]; exact ag o ho) (fun o o1 o2 => by rw [u1 o (by omega)]; exact z4 o o1 o2) (fun o ho => ?_) (fun o ho => ?_) hr fun G' k1 k2 k3 k4 => ?_
        · by_cases e : o = aOf sz k
          · rw [e, u2] at ho ⊢; exact s3 ho
          · rw [u1 o e] at ho ⊢; exact cp o ho
        · by_cases e : o = aOf sz k
          · rw [e, u2]; exact s4
          · rw [u1 o e]; exact lt o ho
        · have gk : G' (aOf sz k) = kw := (k2 k (by omega)).trans u2
          have := h G' k1 (fun i hi => (k2 i (by omega)).trans (u1 _ (fun y => by have := aInj i y; omega))) k3 ⟨by rw [gk]; exact s5, k4⟩
          rw [nCa] at this
          rw [show a + (if srO sy q = 3 then nE sy x else nD sy x) + 1 + nCa sy qs as' = a + ((if srO sy q = 3 then nE sy x else nD sy x) + 1 + nCa sy qs as') by omega]
          exact this
    rcases wx with ⟨w3, wx⟩ | ⟨w6, s, rfl, hs, sa, ssz⟩ | ⟨w4, wx⟩ | ⟨n3, n6, n4, wx⟩
    · rw [if_pos w3] at hx step
      exact gf_ru (ty_E' (f := f) (z := zSG z G1) wx.1 ec1 tm1 (by omega) qz hx (step k0 (1, 0, 0) (Or.inl rfl) (fun y => absurd y (by decide)) (fun y => absurd y (by decide)) (by decide) (Or.inl ⟨w3, rfl⟩)))
    · rw [if_neg (by omega)] at hx step
      unfold sArr at sa
      simp only [Bool.or_eq_true, beq_iff_eq] at sa
      obtain ⟨-, -, -, e4, -, eB⟩ := ec1 s hs
      rw [kA, if_neg (by omega)] at hx
      rw [nD] at step
      have psx := ps s hs (by omega) (by omega)
      rcases sa with sa | sa
      · have c1 : C.1 a = some (1, wd s) := by
          have := hx.1
          rw [sa] at this
          exact this
        exact gf_ru (i_ldlp (z := zSG z G1) (b := k0) (c := k0) c1 (eB (by omega) (by omega)).1 (eB (by omega) (by omega)).2 (step (2, 0, (wd s).toInt) (12, 0, (wd s).toInt) (Or.inr (Or.inr (Or.inl ⟨by show (2 : Nat) ≤ 9; decide, rfl⟩))) (fun y => absurd y (by show ¬ ((2 : Nat) = 5 ∨ (2 : Nat) = 6); decide)) (fun y => absurd y (by show ¬ ((12 : Nat) = 15 ∨ (12 : Nat) = 16); decide)) (by show (12 : Nat) ≠ 21 ∧ (12 : Nat) ≠ 22 ∧ (12 : Nat) ≠ 2; decide) (Or.inr (Or.inr (Or.inl ⟨w6, s, hs, Or.inl ⟨sa, ssz, rfl⟩⟩)))) (Or.inr rfl) (Or.inr rfl))
      · have c1 : C.1 a = some (7, wd s) := by
          have := hx.1
          rw [sa] at this
          exact this
        obtain ⟨g1, g2⟩ := e4 sa
        exact gf_ru (i_ldl (k := (5, 0, (wd s).toInt)) (z := zSG z G1) (b := k0) (c := k0) c1 (by show (G1 _).1 ≠ 0; omega) (Or.inr (Or.inl ⟨by show 10 ≤ (G1 _).1; omega, rfl⟩)) (step (5, 0, (wd s).toInt) (15, 0, (wd s).toInt) (Or.inr (Or.inr (Or.inl ⟨by show (5 : Nat) ≤ 9; decide, rfl⟩))) (fun _ => psx) (fun _ => psx) (by show (15 : Nat) ≠ 21 ∧ (15 : Nat) ≠ 22 ∧ (15 : Nat) ≠ 2; decide) (Or.inr (Or.inr (Or.inl ⟨w6, s, hs, Or.inr ⟨sa, ssz, rfl⟩⟩)))) (Or.inr rfl) (Or.inr rfl))
    · rw [if_neg (by omega)] at hx step
      refine gf_ru (ty_V (f := f) (z := zSG z G1) wx ec1 tm1 (by omega) z0 nl hx fun k' hk' h42 => ?_)
      have hk' : daA G1 k' := hk'
      have p42 : k'.1 = 4 ∨ k'.1 = 2 → 0 < k'.2.2 := fun y => by
        obtain ⟨s, hs, y1, y2, y3⟩ := h42 y
        rw [y3]; exact ps s hs y1 y2
      have p56 : k'.1 = 5 ∨ k'.1 = 6 → 0 < k'.2.2 := fun y => by
        rcases Int.lt_or_le 0 k'.2.2 with p | p
        · exact p
        · rcases hk' with ⟨q1, -⟩ | ⟨q1, -⟩ | ⟨-, q2, -⟩ | ⟨-, q2, -⟩
          · omega
          · omega
          · exact ((lt _ p).1 q2).elim
          · exact ((lt _ p).1 q2).elim
      have kb : k'.1 = 2 ∨ k'.1 = 4 ∨ k'.1 = 5 ∨ k'.1 = 6 := by
        rcases hk' with ⟨q1, -⟩ | ⟨q1, -⟩ | ⟨q1, -⟩ | ⟨q1, -⟩ <;> omega
      exact step k' (10 + k'.1, k'.2) (Or.inr (Or.inr (Or.inl ⟨by omega, rfl⟩))) p56 (fun y => p56 (by have y : 10 + k'.1 = 15 ∨ 10 + k'.1 = 16 := y; omega)) (by show 10 + k'.1 ≠ 21 ∧ 10 + k'.1 ≠ 22 ∧ 10 + k'.1 ≠ 2; omega) (Or.inr (Or.inl ⟨w4, k', daA_po ag hk' p42 (fun o ho y => (lt o ho).1 y), p42, rfl⟩))
    · rw [if_neg n3] at hx step
      refine gf_ru (ty_K (f := f) (z := zSG z G1) wx ec1 ct1 tm1 (by omega) z0 nl hx fun k' hk' => ?_)
      have hv := wfC_v (r := r) wx
      have kb : (k'.1 = 1 ∨ k'.1 = 2 ∨ k'.1 = 4 ∨ k'.1 = 5) ∧ (k'.1 = 5 → 0 < k'.2.2) := by
        rcases hk' with ⟨y, rfl⟩ | ⟨y, rfl⟩ | ⟨y, rfl⟩ | ⟨y, -, rfl⟩ | ⟨y, -, -, -, rfl⟩
        · exact ⟨Or.inr (Or.inl rfl), fun z => absurd (show (2 : Nat) = 5 from z) (by decide)⟩
        · exact ⟨Or.inr (Or.inr (Or.inr rfl)), fun _ => ps _ hv (by omega) (by omega)⟩
        · exact ⟨Or.inl rfl, fun z => absurd (show (1 : Nat) = 5 from z) (by decide)⟩
        · exact ⟨Or.inr (Or.inr (Or.inl rfl)), fun z => absurd (show (4 : Nat) = 5 from z) (by decide)⟩
        · exact ⟨Or.inr (Or.inl rfl), fun z => absurd (show (2 : Nat) = 5 from z) (by decide)⟩
      exact step k' (10 + k'.1, k'.2) (Or.inr (Or.inr (Or.inl ⟨by omega, rfl⟩))) (fun y => kb.2 (by omega)) (fun y => kb.2 (by have y : 10 + k'.1 = 15 ∨ 10 + k'.1 = 16 := y; omega)) (by show 10 + k'.1 ≠ 21 ∧ 10 + k'.1 ≠ 22 ∧ 10 + k'.1 ≠ 2; omega) (Or.inr (Or.inr (Or.inr ⟨n3, n4, n6, k', hk', hv, rfl⟩)))
end
