/-! (S): loops, choices -/
section
variable {C : Cx} {M : Nat} {E : En} {Y : Nat → Sg → Prop} {sy : List Sym} {vis : List Nat} {wd r : Nat → Int32} {pe : Nat → Nat}
/-- what a process may lean on: the registers are unknown, it stands in no header and no ALT -/
def qt (z : Sg) : Prop := rAny z ∧ (zR z).1 = 0 ∧ (zL z).2.1 = []
theorem ty_E' {e : Tm} {f a : Nat} {z : Sg} (we : wfE sy vis e) (ec : eC sy vis wd (zG z)) (tm : ∀ i : Nat, f ≤ i → i < f + exw e → (zG z i).1 = 1) (tb : f + exw e < 2 ^ 31) (qz : qt z) (hc : cod C pe a (kE sy wd r e f a)) (h : gfX C M E Y (a + nE sy e) z) : rul C M E (gfX C M E Y) a z := by
  refine ty_E e f a z we ec tm tb qz.2.1 qz.2.2 hc ?_
  rw [show (zA z).1 = k0 by rw [show zA z = (k0, k0, k0) from qz.1], zSA_any qz.1]
  exact h
theorem qt_j {a p : Nat} {z : Sg} {x : Nat} (qz : qt z) (hc : cod C pe a [iW 0 p]) (h : gfX C M E Y p z) : rul C M E (gfX C M E Y) a z := i_j hc.1 rfl qz.2.1 (by rw [zSA_any qz.1]; exact h)
theorem qt_cj {a p : Nat} {z : Sg} {L : List It} (qz : qt z) (hc : cod C pe a (iW 10 p :: L)) (h1 : gfX C M E Y (a + 1) z) (h2 : gfX C M E Y p z) : rul C M E (gfX C M E Y) a z := i_cj (a := k0) (b := k0) (c := k0) (b' := k0) (c' := k0) hc.1 rfl (by rw [zSA_any qz.1]; exact h1) (by rw [zSA_any qz.1]; exact h2) (Or.inr rfl) (Or.inr rfl) (Or.inr rfl) (Or.inr rfl) (Or.inr rfl)
/-- WHILE -/
theorem ty_while {e : Tm} {KP : List It} {f a nP : Nat} {z : Sg} (hY : clo Y) (we : wfE sy vis e) (ec : eC sy vis wd (zG z)) (tm : ∀ i : Nat, f ≤ i → i < f + exw e → (zG z i).1 = 1) (tb : f + exw e < 2 ^ 31) (qz : qt z) (hl : KP.length = nP) (hc : cod C pe a (kE sy wd r e f a ++ iW 10 (a + nE sy e + nP + 2) :: (KP ++ [iW 0 a])))
    (body : ∀ Y, clo Y → gfX C M E Y (a + nE sy e + 1 + nP) z → gfX C M E Y (a + nE sy e + 1) z) (h : gfX C M E Y (a + (nE sy e + nP + 2)) z) : gfX C M E Y a z := by
  rw [cod_app, kE_len] at hc
  obtain ⟨c1, c2, c3⟩ := hc
  rw [cod_app, hl] at c3
  refine gf_lpc (ty_E' we ec tm tb qz c1 (gf_ru (qt_cj qz (L := []) ⟨c2, trivial⟩ (body _ (clo_lp hY) (gf_ru ?_)) ?_)))
  · exact qt_j (x := 0) qz c3.2 (gf_in (Or.inr ⟨rfl, Or.inl rfl⟩))
  · rw [show a + nE sy e + nP + 2 = a + (nE sy e + nP + 2) by omega]
    exact gf_mo h fun _ _ y => Or.inl y
/-- a choice -/
theorem ty_ch {e : Tm} {KP L : List It} {f a nP x : Nat} {z : Sg} (we : wfE sy vis e) (ec : eC sy vis wd (zG z)) (tm : ∀ i : Nat, f ≤ i → i < f + exw e → (zG z i).1 = 1) (tb : f + exw e < 2 ^ 31) (qz : qt z) (hl : KP.length = nP) (hc : cod C pe a (kE sy wd r e f a ++ iW 10 (a + nE sy e + nP + 2) :: (KP ++ iW 0 x :: L)))
    (body : gfX C M E Y (a + nE sy e + 1 + nP) z → gfX C M E Y (a + nE sy e + 1) z) (hx : gfX C M E Y x z) (next : gfX C M E Y (a + nE sy e + nP + 2) z) : gfX C M E Y a z := by
  rw [cod_app, kE_len] at hc
  obtain ⟨c1, c2, c3⟩ := hc
  rw [cod_app, hl] at c3
  refine gf_ru (ty_E' we ec tm tb qz c1 (gf_ru (qt_cj qz (L := []) ⟨c2, trivial⟩ (body (gf_ru ?_)) next)))
  exact qt_j (x := 0) qz ⟨c3.2.1, trivial⟩ hx
/-- SEQ FOR -/
theorem ty_for {e1 e2 : Tm} {KP : List It} {f q a nP : Nat} {v0 v1 : Int32} {z : Sg} (hY : clo Y) (w1 : wfE sy vis e1) (w2 : wfE sy vis e2) (ec : eC sy vis wd (zG z)) (tm : ∀ i : Nat, f ≤ i → i < f + max (exw e1) (exw e2) → (zG z i).1 = 1) (tb : f + max (exw e1) (exw e2) < 2 ^ 31) (qz : qt z) (hl : KP.length = nP)
    (d0 : (zG z v0.toInt).1 = 1) (d1 : (zG z v1.toInt).1 = 1)
    (hc : cod C pe a (kE sy wd r e1 f a ++ iV 13 v0 :: (kE sy wd r e2 f (a + nE sy e1 + 1) ++ [iV 13 v1, iV 7 v1, iV 4 0, iO 6, iW 10 (a + nE sy e1 + nE sy e2 + nP + 13)] ++ KP ++ [iV 7 v0, iV 8 1, iV 13 v0, iV 7 v1, iV 8 (-1), iV 13 v1, iW 0 (a + nE sy e1 + nE sy e2 + 2)])))
    (body : ∀ Y, clo Y → gfX C M E Y (a + nE sy e1 + nE sy e2 + 6 + nP) z → gfX C M E Y (a + nE sy e1 + nE sy e2 + 6) z) (h : gfX C M E Y (a + (nE sy e1 + nE sy e2 + nP + 13)) z) : gfX C M E Y a z := by
  rw [cod_app, kE_len] at hc
  obtain ⟨c1, c2, c3⟩ := hc
  rw [cod_app, cod_app, cod_app] at c3
  simp only [List.length_append, kE_len, hl, List.length_cons, List.length_nil] at c3
  obtain ⟨⟨⟨c3, c4⟩, c5⟩, c6⟩ := c3
  obtain ⟨k1, k2, k3, k4, k5, -⟩ := c4
  obtain ⟨j1, j2, j3, j4, j5, j6, j7, -⟩ := c6
  have zz := zSA_any qz.1
  have stl : ∀ (Y : Nat → Sg → Prop) (i : Nat) (v : Int32), (zG z v.toInt).1 = 1 → C.1 i = some (13, v) → gfX C M E Y (i + 1) z → gfX C M E Y i z := fun Y i v hd hi hg => gf_ru (i_stl (a := k0) (b := k0) (c := k0) hi hd (by rw [zz]; exact hg) (Or.inr rfl) (Or.inr rfl) (Or.inr rfl))
  have ldl : ∀ (Y : Nat → Sg → Prop) (i : Nat) (v : Int32), (zG z v.toInt).1 = 1 → C.1 i = some (7, v) → gfX C M E Y (i + 1) z → rul C M E (gfX C M E Y) i z := fun Y i v hd hi hg => i_ldl (k := k0) (b := k0) (c := k0) hi (by omega) (Or.inl rfl) (by rw [zz]; exact hg) (Or.inr rfl) (Or.inr rfl)
  have adc : ∀ (Y : Nat → Sg → Prop) (i : Nat) (v : Int32), C.1 i = some (8, v) → gfX C M E Y (i + 1) z → gfX C M E Y i z := fun Y i v hi hg => gf_ru (i_adc (b := k0) (c := k0) hi (by rw [zz]; exact hg) (Or.inr rfl) (Or.inr rfl))
  refine gf_ru (ty_E' w1 ec (fun i h1 h2 => tm i h1 (by omega)) (by omega) qz c1 (stl _ _ v0 d0 c2 (gf_ru (ty_E' w2 ec (fun i h1 h2 => tm i h1 (by omega)) (by omega) qz c3 (stl _ _ v1 d1 k1 ?_)))))
  have e1' : a + nE sy e1 + 1 + nE sy e2 + 1 = a + nE sy e1 + nE sy e2 + 2 := by omega
  rw [e1'] at k2 k3 k4 k5
  rw [e1']
  have ldc : ∀ (Y : Nat → Sg → Prop) (i : Nat) (v : Int32), C.1 i = some (4, v) → gfX C M E Y (i + 1) z → gfX C M E Y i z := fun Y i v hi hg => gf_ru (i_ldc (a := k0) (b := k0) (c := k0) hi (by rw [zz]; exact hg) (Or.inr rfl) (Or.inr rfl) (Or.inr rfl))
  have gt : ∀ (Y : Nat → Sg → Prop) (i : Nat), C.1 i = some (15, nI 6) → gfX C M E Y (i + 1) z → gfX C M E Y i z := fun Y i hi hg => gf_ru (i_two (o := 6) (b := k0) (c := k0) (by omega) hi (by rw [zz]; exact hg) (Or.inr rfl) (Or.inr rfl))
  refine gf_lpc (ldl _ _ v1 d1 k2 (ldc _ _ 0 k3 (gt _ _ k4 (gf_ru (qt_cj qz (L := []) ⟨k5, trivial⟩ (body _ (clo_lp hY) ?_) ?_)))))
  · have e2' : a + nE sy e1 + 1 + (nE sy e2 + 5 + nP) = a + nE sy e1 + nE sy e2 + 6 + nP := by omega
    have e3 : a + nE sy e1 + 1 + (nE sy e2 + (0 + 1 + 1 + 1 + 1 + 1) + nP) = a + nE sy e1 + nE sy e2 + 6 + nP := by omega
    first | rw [e2'] at j1 j2 j3 j4 j5 j6 j7 | rw [e3] at j1 j2 j3 j4 j5 j6 j7
    exact gf_ru (ldl _ _ v0 d0 j1 (adc _ _ 1 j2 (stl _ _ v0 d0 j3 (gf_ru (ldl _ _ v1 d1 j4 (adc _ _ (-1) j5 (stl _ _ v1 d1 j6 (gf_ru (qt_j (x := 0) qz ⟨j7, trivial⟩ (gf_in (Or.inr ⟨rfl, Or.inl rfl⟩)))))))))))
  · rw [show a + nE sy e1 + nE sy e2 + nP + 13 = a + (nE sy e1 + nE sy e2 + nP + 13) by omega]
    exact gf_mo h fun _ _ y => Or.inl y
end
