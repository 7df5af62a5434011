/-! (S): calls -/
/-- the words of channels are channels -/
def cTg (sy : List Sym) (vis : List Nat) (wd : Nat → Int32) (G : Int → Kd) : Prop := ∀ s ∈ vis, (srO sy s = 7 → (G (wd s).toInt).1 = 2) ∧ (srO sy s = 8 → (G (wd s).toInt).1 = 22) ∧ (srO sy s = 9 → ∀ i : Nat, i < szO sy s → (G ((wd s).toInt + i)).1 = 2) ∧ (srO sy s = 1 → szO sy s < 14)
/-- what a channel's address is -/
def chK (sy : List Sym) (wd : Nat → Int32) (k : Ky) (x : Kd) : Prop := (srO sy k.1 = 7 ∧ x = (2, 0, (wd k.1).toInt)) ∨ (srO sy k.1 = 8 ∧ x = (5, 0, (wd k.1).toInt)) ∨ (srO sy k.1 = 1 ∧ x = (1, 0, ((szO sy k.1 : Nat) : Int))) ∨ (srO sy k.1 = 9 ∧ k.2.1 = true ∧ x = (4, szO sy k.1, (wd k.1).toInt)) ∨ (srO sy k.1 = 9 ∧ k.2.1 = false ∧ 0 ≤ k.2.2.toInt ∧ k.2.2.toInt < szO sy k.1 ∧ x = (2, 0, (wd k.1).toInt + k.2.2.toInt))
section
variable {C : Cx} {M : Nat} {E : En} {Y : Nat → Sg → Prop} {sy : List Sym} {vis : List Nat} {wd r : Nat → Int32} {pe : Nat → Nat}
/-- a channel's address, exactly -/
theorem ty_K {c : Tm} {f a : Nat} {z : Sg} (wf : wfC sy vis c) (ec : eC sy vis wd (zG z)) (ct : cTg sy vis wd (zG z)) (tm : ∀ i : Nat, f ≤ i → i < f + exw c → (zG z i).1 = 1) (tb : f + exw c < 2 ^ 31) (z0 : (zR z).1 = 0) (nl : (zL z).2.1 = []) (hc : cod C pe a (kA sy wd r c f a)) (h : ∀ k, chK sy wd (kyT sy r c) k → gfX C M E Y (a + nD sy c) (zSA z (k, (zA z).1, k0))) : rul C M E (gfX C M E Y) a z := by
  unfold wfC at wf
  split at wf
  · rename_i s
    obtain ⟨hs, hv⟩ := wf
    obtain ⟨-, -, -, -, e5, eB⟩ := ec s hs
    rw [nD] at h
    unfold sChn at hv
    simp only [Bool.or_eq_true, beq_iff_eq] at hv
    obtain ⟨-, r8, -, -⟩ := ct s hs
    rw [kA] at hc
    rcases hv with (hv | hv) | hv
    · rw [if_neg (by omega)] at hc
      have c1 : C.1 a = some (1, wd s) := by
        have := hc.1
        rw [hv] at this
        exact this
      exact i_ldlp (b := (zA z).1) (c := k0) c1 (eB (by omega) (by omega)).1 (eB (by omega) (by omega)).2 (h _ (Or.inl ⟨hv, rfl⟩)) (Or.inl rfl) (Or.inr rfl)
    · rw [if_neg (by omega)] at hc
      have c1 : C.1 a = some (7, wd s) := by
        have := hc.1
        rw [hv] at this
        exact this
      have g1 : (zG z (wd s).toInt).1 = 22 := r8 hv
      exact i_ldl (k := (5, 0, (wd s).toInt)) (b := (zA z).1) (c := k0) c1 (by omega) (Or.inr (Or.inl ⟨by omega, rfl⟩)) (h _ (Or.inr (Or.inl ⟨hv, rfl⟩))) (Or.inl rfl) (Or.inr rfl)
    · rw [if_pos hv] at hc
      exact i_ldc (a := (1, 0, (nI (szO sy s)).toInt)) (b := (zA z).1) (c := k0) hc.1 (h _ (Or.inr (Or.inr (Or.inl ⟨hv, by rw [wd_sz (e5 (Or.inl hv))]; rfl⟩)))) (Or.inl rfl) (Or.inl rfl) (Or.inr rfl)
  · rename_i s e
    obtain ⟨hs, h9, hx, -⟩ := wf
    obtain ⟨-, -, -, -, e5, eB⟩ := ec s hs
    have e5 : szO sy s < 100000 := e5 (by omega)
    rw [exw] at tm tb
    rw [nD] at h
    rw [kA, cod_app, kE_len] at hc
    obtain ⟨c0, c1, c2, c3, c4, -⟩ := hc
    have e0 : (if hldS (srO sy s) then 7 else 1) = 1 := by rw [h9]; rfl
    have c3 : C.1 (a + nE sy e + 1 + 1) = some (1, wd s) := by
      have := c3
      simp only [iV, e0] at this
      exact this
    have n1 : (nI (szO sy s)).toInt = (szO sy s : Int) := wd_sz e5
    by_cases hf : fixE sy e = true
    · have ky : kyT sy r (.elem (.arg s) e) = (s, false, cstE r e) := by simp [kyT, hf]
      rw [ky] at h
      refine ty_F e f a z hf c0 (gf_ru ?_)
      refine i_ldc (z := zSA z ((1, 0, (cstE r e).toInt), (zA z).1, k0)) (a := (1, 0, (nI (szO sy s)).toInt)) (b := (1, 0, (cstE r e).toInt)) (c := (zA z).1) c1 (gf_ru ?_) (Or.inl rfl) (Or.inl rfl) (Or.inl rfl)
      by_cases ir : 0 ≤ (cstE r e).toInt ∧ (cstE r e).toInt < szO sy s
      · refine i_chk (n := szO sy s) (k := (1, 0, (cstE r e).toInt)) (z := zSA z ((1, 0, (nI (szO sy s)).toInt), (1, 0, (cstE r e).toInt), (zA z).1)) (b := (zA z).1) (c := k0) c2 z0 nl (by rw [← n1]; rfl) (Or.inr ⟨(cstE r e).toInt, rfl, Or.inl ⟨ir.1, ir.2, rfl⟩⟩) (gf_ru ?_) (Or.inl rfl) (Or.inr rfl)
        refine i_ldlp (z := zSA z ((1, 0, (cstE r e).toInt), (zA z).1, k0)) (b := (1, 0, (cstE r e).toInt)) (c := (zA z).1) c3 (eB (by omega) (by omega)).1 (eB (by omega) (by omega)).2 (gf_ru ?_) (Or.inl rfl) (Or.inl rfl)
        refine i_wsub (k := (2, 0, (wd s).toInt + (cstE r e).toInt)) (z := zSA z ((2, 0, (wd s).toInt), (1, 0, (cstE r e).toInt), (zA z).1)) (b := (zA z).1) (c := k0) c4 (Or.inr (Or.inl ⟨0, (wd s).toInt, (cstE r e).toInt, rfl, rfl, (eB (by omega) (by omega)).1, (eB (by omega) (by omega)).2, ir.1, by omega, rfl⟩)) (h _ (Or.inr (Or.inr (Or.inr (Or.inr ⟨h9, rfl, ir.1, ir.2, rfl⟩))))) (Or.inl rfl) (Or.inr rfl)
      · refine i_chk (n := szO sy s) (k := (10, 0, 0)) (z := zSA z ((1, 0, (nI (szO sy s)).toInt), (1, 0, (cstE r e).toInt), (zA z).1)) (b := (zA z).1) (c := k0) c2 z0 nl (by rw [← n1]; rfl) (Or.inr ⟨(cstE r e).toInt, rfl, Or.inr ⟨ir, rfl⟩⟩) (gf_ru ?_) (Or.inl rfl) (Or.inr rfl)
        exact i_nv c3 (Or.inl rfl)
    · have ky : kyT sy r (.elem (.arg s) e) = (s, true, 0) := by simp [kyT, hf]
      rw [ky] at h
      refine ty_E e f a z hx ec tm tb z0 nl c0 (gf_ru ?_)
      refine i_ldc (z := zSA z (k0, (zA z).1, k0)) (a := (1, 0, (nI (szO sy s)).toInt)) (b := k0) (c := (zA z).1) c1 (gf_ru ?_) (Or.inl rfl) (Or.inl rfl) (Or.inl rfl)
      refine i_chk (n := szO sy s) (k := (3, szO sy s, 0)) (z := zSA z ((1, 0, (nI (szO sy s)).toInt), k0, (zA z).1)) (b := (zA z).1) (c := k0) c2 z0 nl (by rw [← n1]; rfl) (Or.inl rfl) (gf_ru ?_) (Or.inl rfl) (Or.inr rfl)
      refine i_ldlp (z := zSA z ((3, szO sy s, 0), (zA z).1, k0)) (b := (3, szO sy s, 0)) (c := (zA z).1) c3 (eB (by omega) (by omega)).1 (eB (by omega) (by omega)).2 (gf_ru ?_) (Or.inl rfl) (Or.inl rfl)
      exact i_wsub (k := (4, szO sy s, (wd s).toInt)) (z := zSA z ((2, 0, (wd s).toInt), (3, szO sy s, 0), (zA z).1)) (b := (zA z).1) (c := k0) c4 (Or.inl ⟨szO sy s, 0, (wd s).toInt, rfl, rfl, (eB (by omega) (by omega)).1, (eB (by omega) (by omega)).2, e5, rfl⟩) (h _ (Or.inr (Or.inr (Or.inr (Or.inl ⟨h9, rfl, rfl⟩))))) (Or.inl rfl) (Or.inr rfl)
  · exact wf.elim
end
