/-! (S): guards' processes, declarations, PAR -/
/-- what declared words become -/
def dGk (sy : List Sym) (s q : Nat) (G : Int → Kd) : Nat → Int → Kd
  | 0 => G
  | k + 1 => if srO sy (s + k) = 7 ∨ srO sy (s + k) = 9 then filG (dGk sy s q G k) ((q + dsz sy s k : Nat) : Int) (wsz sy (s + k)) (fun _ => (2, 12, 0)) else dGk sy s q G k
theorem dGk_out {sy : List Sym} {s q : Nat} {G : Int → Kd} : ∀ (k : Nat) (o : Int), o < q ∨ ((q + dsz sy s k : Nat) : Int) ≤ o → dGk sy s q G k o = G o := by
  intro k
  induction k with
  | zero => intro o _; rfl
  | succ k ih =>
    intro o ho
    have e : dsz sy s (k + 1) = dsz sy s k + wsz sy (s + k) := rfl
    rw [e] at ho
    unfold dGk
    split
    · unfold filG
      rw [if_neg (by omega)]
      exact ih o (by omega)
    · exact ih o (by omega)
theorem dGk_tag {sy : List Sym} {s q : Nat} {G : Int → Kd} : ∀ (k : Nat) (o : Int), dGk sy s q G k o = G o ∨ dGk sy s q G k o = (2, 12, 0) := by
  intro k
  induction k with
  | zero => intro o; exact Or.inl rfl
  | succ k ih =>
    intro o
    unfold dGk
    split
    · unfold filG
      split
      · exact Or.inr rfl
      · exact ih o
    · exact ih o
section
variable {C : Cx} {M : Nat} {E : En} {Y : Nat → Sg → Prop} {sy : List Sym} {vis : List Nat} {wd r : Nat → Int32} {pe : Nat → Nat} {pa : List (List Nat)}
/-- a guard's process -/
theorem ty_g3 {c v : Tm} {KP L : List It} {w f a nP x : Nat} {z : Sg} {G' : Int → Kd} (hY : clo Y) (o : oneW E) (qz : qt z) (cvz : cv (zSG z G') z) (ec : eC sy vis wd G') (gk : isNl c = false → wfV sy vis v ∧ (∀ i : Nat, f ≤ i → i < f + exw v → (G' i).1 = 1) ∧ f + exw v < 2 ^ 31 ∧ w + 1 < 5000 ∧ 10 ≤ (G' (w + 1)).1 ∧ (G' (w + 1)).1 ≤ 19 ∧ chA G' (zW z) 8 ((G' (w + 1)).1 - 10, (G' (w + 1)).2)) (hl : KP.length = nP)
    (hc : cod C pe a ((if isNl c then [] else kA sy wd r v f a ++ [iV 7 (nI (w + 1)), iO 20]) ++ KP ++ iW 0 x :: L)) (body : gfX C M E Y (a + (if isNl c then 0 else nD sy v + 2) + nP) z → gfX C M E Y (a + (if isNl c then 0 else nD sy v + 2)) z) (hx : gfX C M E Y x z) : gfX C M E Y a (zSG z G') := by
  have ln : (if isNl c = true then [] else kA sy wd r v f a ++ [iV 7 (nI (w + 1)), iO 20]).length = (if isNl c then 0 else nD sy v + 2) := by
    split
    · rfl
    · rw [List.length_append, kA_len]; rfl
  rw [cod_app, cod_app, List.length_append, ln, hl] at hc
  obtain ⟨⟨c1, c2⟩, c3, -⟩ := hc
  have fin : gfX C M E Y (a + (if isNl c then 0 else nD sy v + 2)) z := body (gf_ru (qt_j (x := 0) qz (by rw [show a + (if isNl c then 0 else nD sy v + 2) + nP = a + ((if isNl c then 0 else nD sy v + 2) + nP) by omega]; exact ⟨c3, trivial⟩) hx))
  by_cases nc : isNl c = true
  · rw [if_pos nc, Nat.add_zero] at fin
    exact gf_cv hY fin cvz
  · obtain ⟨wv, tm, tb, wb, k1, k2, k3⟩ := gk (Bool.not_eq_true _ |>.mp nc)
    rw [if_neg nc] at fin c1
    rw [cod_app, kA_len] at c1
    obtain ⟨h1, h2, h3, -⟩ := c1
    have wI1 : (nI (w + 1)).toInt = (w : Int) + 1 := by rw [nI_toInt (by omega)]; omega
    refine gf_ru (ty_V (f := f) (z := zSG z G') wv ec tm tb qz.2.1 qz.2.2 h1 fun ka hka _ => gf_ru ?_)
    refine i_ldl (v := nI (w + 1)) (k := ((G' (w + 1)).1 - 10, (G' (w + 1)).2)) (z := zSA (zSG z G') (ka, k0, k0)) (b := ka) (c := k0) h2 (by show (G' _).1 ≠ 0; rw [wI1]; omega) (Or.inr (Or.inr ⟨by show 10 ≤ (G' _).1; rw [wI1]; exact k1, by show (G' _).1 ≤ 19; rw [wI1]; exact k2, by show _ = ((G' _).1 - 10, (G' _).2); rw [wI1]⟩)) (gf_ru ?_) (Or.inl rfl) (Or.inr rfl)
    refine i_in (z := zSA (zSG z G') (((G' (w + 1)).1 - 10, (G' (w + 1)).2), ka, k0)) o h3 qz.2.1 qz.2.2 k3 hka ?_
    show gfX C M E Y (a + nD sy v + 1 + 1) (zSG z G')
    rw [show a + nD sy v + 1 + 1 = a + (nD sy v + 2) by omega]
    exact gf_cv hY fin cvz
/-- words are declared -/
theorem ty_dc {s q lv : Nat} {D : Nat → Int32} {z : Sg} (D0 : D lv = 0) (z0 : (zR z).1 = 0) (nl : (zL z).2.1 = []) (q1 : 1 ≤ q) (hb : (zI z).2 ≤ 5000) : ∀ (c a : Nat) (G : Int → Kd), (∀ o, (G o).1 ≠ 15 ∧ (G o).1 ≠ 16) → q + dsz sy s c ≤ (zI z).2 → (∀ o : Int, (q : Int) ≤ o → o < (zI z).2 → G o = (1, 0, 0)) → cod C pe a (dcI sy s lv q D c) → gfX C M E Y (a + 4 * c) (zSG z (dGk sy s q G c)) → gfX C M E Y a (zSG z G) := by
  intro c
  induction c with
  | zero => intro a G _ _ _ _ h; exact h
  | succ c ih =>
    intro a G tg hx dt hc h
    have e : dsz sy s (c + 1) = dsz sy s c + wsz sy (s + c) := rfl
    rw [e] at hx
    have w1 : 1 ≤ wsz sy (s + c) := by unfold wsz; omega
    have hc : cod C pe a (dcI sy s lv q D c ++ [iV 4 (if srO sy (s + c) = 7 ∨ srO sy (s + c) = 9 then -1 else 0), iV 4 (nI (wsz sy (s + c))), iV 1 (D lv + nI (q + dsz sy s c)), iO 14]) := hc
    rw [cod_app, dcI_len] at hc
    obtain ⟨hc1, h1, h2, h3, h4, -⟩ := hc
    refine ih a G tg (by omega) dt hc1 ?_
    have nI1 : (nI (wsz sy (s + c))).toInt = ((wsz sy (s + c) : Nat) : Int) := nI_toInt (by omega)
    have h3 : C.1 (a + 4 * c + 1 + 1) = some (1, nI (q + dsz sy s c)) := by
      have := h3
      rw [D0] at this
      have e0 : (0 : Int32) + nI (q + dsz sy s c) = nI (q + dsz sy s c) := Int32.zero_add _
      rw [e0] at this
      exact this
    have xI : (nI (q + dsz sy s c)).toInt = ((q + dsz sy s c : Nat) : Int) := nI_toInt (by omega)
    have tg' : ∀ o, (dGk sy s q G c o).1 ≠ 15 ∧ (dGk sy s q G c o).1 ≠ 16 := fun o => by
      rcases dGk_tag (sy := sy) (s := s) (q := q) (G := G) c o with y | y
      · rw [y]; exact tg o
      · rw [y]; exact ⟨(by decide : (2 : Nat) ≠ 15), (by decide : (2 : Nat) ≠ 16)⟩
    have fill : ∀ (cv : Int32) (K : Int → Kd), C.1 (a + 4 * c) = some (4, cv) → (∀ o, ((q + dsz sy s c : Nat) : Int) ≤ o → o < ((q + dsz sy s c : Nat) : Int) + (wsz sy (s + c) : Nat) → (K o).1 = 1 ∨ ((K o).1 = 2 ∧ cv.toInt = -1)) → gfX C M E Y (a + 4 * (c + 1)) (zSG z (filG (dGk sy s q G c) ((q + dsz sy s c : Nat) : Int) (wsz sy (s + c)) K)) → gfX C M E Y (a + 4 * c) (zSG z (dGk sy s q G c)) := by
      intro cv K g1 g2 g3
      refine gf_ru (i_ldc (z := zSG z (dGk sy s q G c)) (a := (1, 0, cv.toInt)) (b := k0) (c := k0) g1 (gf_ru ?_) (Or.inl rfl) (Or.inr rfl) (Or.inr rfl))
      refine i_ldc (z := zSA (zSG z (dGk sy s q G c)) ((1, 0, cv.toInt), k0, k0)) (a := (1, 0, (nI (wsz sy (s + c))).toInt)) (b := (1, 0, cv.toInt)) (c := k0) h2 (gf_ru ?_) (Or.inl rfl) (Or.inl rfl) (Or.inr rfl)
      refine i_ldlp (z := zSA (zSG z (dGk sy s q G c)) ((1, 0, (nI (wsz sy (s + c))).toInt), (1, 0, cv.toInt), k0)) (b := (1, 0, (nI (wsz sy (s + c))).toInt)) (c := (1, 0, cv.toInt)) h3 (by rw [xI]; omega) (by rw [xI]; omega) (gf_ru ?_) (Or.inl rfl) (Or.inl rfl)
      refine i_fill (z := zSA (zSG z (dGk sy s q G c)) ((2, 0, (nI (q + dsz sy s c)).toInt), (1, 0, (nI (wsz sy (s + c))).toInt), (1, 0, cv.toInt))) (x := ((q + dsz sy s c : Nat) : Int)) (n := wsz sy (s + c)) (q := 0) (c := cv.toInt) (K := K) h4 z0 nl (by rw [← xI]; rfl) (by rw [← nI1]; rfl) rfl (by omega) (by show ((q + dsz sy s c : Nat) : Int) + (wsz sy (s + c) : Nat) ≤ (((zI z).2 : Nat) : Int); omega) (fun o ho _ => ?_) g2 ?_
      · have := tg' o
        rcases ho with y | y
        · exact this.1 y
        · exact this.2 y
      · rw [show a + 4 * c + 1 + 1 + 1 + 1 = a + 4 * (c + 1) by omega]
        exact g3
    unfold dGk at h
    by_cases ch : srO sy (s + c) = 7 ∨ srO sy (s + c) = 9
    · rw [if_pos ch] at h h1
      exact fill (-1) _ h1 (fun o _ _ => Or.inr ⟨rfl, rfl⟩) h
    · rw [if_neg ch] at h h1
      refine fill 0 (fun _ => (1, 0, 0)) h1 (fun o _ _ => Or.inl rfl) ?_
      have : filG (dGk sy s q G c) ((q + dsz sy s c : Nat) : Int) (wsz sy (s + c)) (fun _ => (1, 0, 0)) = dGk sy s q G c := by
        funext o
        unfold filG
        split
        · rename_i y
          rw [dGk_out c o (Or.inr y.1)]
          exact (dt o (by omega) (by omega)).symm
        · rfl
      rw [this]
      exact h
/-- branches are started -/
def stB (a : Nat) : List Br → List It
  | [] => []
  | B :: Bs => [iB 4 B.2.1 (a + 2), iO 13, iV 1 (-(nI B.1)), iO (if B.2.2.1 = 0 then 16 else 15)] ++ stB (a + 4) Bs
theorem ty_st {beh : Nat} {z : Sg} (nl : (zL z).2.1 = []) : ∀ (Bs : List Br) (a : Nat), (∀ B ∈ Bs, B.1 ≤ 5000) → Bs.Pairwise (fun B B' => B.1 ≠ B'.1) → cod C pe a (stB a Bs) → gfX C M E Y (a + 4 * Bs.length) (zSR z (beh + 1, [])) → gfX C M E Y a (zSR z (beh + 1, Bs.map fun B => (B.1, B.2.1, B.2.2.1))) := by
  intro Bs
  induction Bs with
  | nil => intro a _ _ _ h; exact h
  | cons B Bs ih =>
    intro a hd pw hc h
    have hc : cod C pe a ([iB 4 B.2.1 (a + 2), iO 13, iV 1 (-(nI B.1)), iO (if B.2.2.1 = 0 then 16 else 15)] ++ stB (a + 4) Bs) := hc
    rw [cod_app] at hc
    obtain ⟨⟨h1, h2, h3, h4, -⟩, hr⟩ := hc
    rw [List.pairwise_cons] at pw
    have d5 := hd B List.mem_cons_self
    have nx := ih (a + 4) (fun B' hB => hd B' (List.mem_cons_of_mem _ hB)) pw.2 hr (by rw [show a + 4 + 4 * Bs.length = a + 4 * (Bs.length + 1) by omega]; exact h)
    have dI : (-(nI B.1)).toInt = -((B.1 : Nat) : Int) := by
      rw [Int32.toInt_neg, nI_toInt (by omega), Int.bmod_eq_of_le (by omega) (by omega)]
    refine gf_ru (i_lway (p := B.2.1) (b := a + 2) (z := zSR z (beh + 1, (B :: Bs).map fun B => (B.1, B.2.1, B.2.2.1))) (b' := k0) (c := k0) h1 rfl (gf_ru ?_) (Or.inr rfl) (Or.inr rfl))
    refine i_ldpi (p := B.2.1) (z := zSA (zSR z (beh + 1, (B :: Bs).map fun B => (B.1, B.2.1, B.2.2.1))) ((8, B.2.1, ((a + 2 : Nat) : Int)), k0, k0)) h2 rfl (gf_ru ?_)
    refine i_ldlp (z := zSA (zSR z (beh + 1, (B :: Bs).map fun B => (B.1, B.2.1, B.2.2.1))) ((7, B.2.1, 0), k0, k0)) (b := (7, B.2.1, 0)) (c := k0) h3 (by show -100000 ≤ (-(nI B.1)).toInt; rw [dI]; omega) (by show (-(nI B.1)).toInt ≤ 100000; rw [dI]; omega) (gf_ru ?_) (Or.inl rfl) (Or.inr rfl)
    refine i_start (o := if B.2.2.1 = 0 then 16 else 15) (d := B.1) (st := B.2.1) (rw := B.2.2.1) (n1 := 0) (n2 := 0) (beh := beh) (y := 0) (pend := Bs.map fun B : Br => (B.1, B.2.1, B.2.2.1)) (z := zSA (zSR z (beh + 1, (B :: Bs).map fun B => (B.1, B.2.1, B.2.2.1))) ((2, 0, (-(nI B.1)).toInt), (7, B.2.1, 0), k0)) ?_ h4 nl rfl (fun p hp => ?_) (by show ((2 : Nat), (0 : Nat), (-(nI B.1)).toInt) = _; rw [dI]) rfl nx
    · by_cases c : B.2.2.1 = 0
      · rw [if_pos c]; exact Or.inr ⟨rfl, c⟩
      · rw [if_neg c]; exact Or.inl ⟨rfl, c⟩
    · obtain ⟨B', hB, rfl⟩ := List.mem_map.mp hp
      exact fun y => pw.1 B' hB y.symm
/-- PAR -/
theorem ty_par {Bs : List Br} {KP : List It} {q a beh : Nat} {z : Sg} (hY : clo Y) (qz : qt z) (zr : zR z = (0, [])) (q1 : 1 ≤ q) (q3 : q + 3 ≤ (zI z).2) (hb : (zI z).2 ≤ 5000) (hG : ∀ off, (zG z off).1 ≠ 0 → 0 < off) (tg : ∀ o, (zG z o).1 ≠ 15 ∧ (zG z o).1 ≠ 16) (dt : ∀ o : Int, (q : Int) ≤ o → o < (zI z).2 → (zG z o).1 = 1) (hl : Bs.length < 1000)
    (br : ∀ B ∈ Bs, brOK (hdG (zG z) q) (zW z) q (zI z).1 B) (pw : ∀ B ∈ Bs, ∀ B' ∈ Bs, B ≠ B' → brAp B B') (nd : Bs.Nodup) (lw : ∃ B ∈ Bs, B.2.2.1 ≠ 0) (d5 : ∀ B ∈ Bs, B.1 ≤ 5000)
    (hc : cod C pe a (hdQ a q Bs.length beh ++ stB (a + 7) Bs ++ iO 18 :: KP)) (hB : ∀ B ∈ Bs, gfX C M E Y B.2.1 B.2.2.2) (h : gfX C M E Y beh z) : gfX C M E Y a z := by
  have sl : ∀ (L : List Br) (x : Nat), (stB x L).length = 4 * L.length := by
    intro L
    induction L with
    | nil => intro x; rfl
    | cons B L ih =>
      intro x
      have e1 : (B :: L).length = L.length + 1 := rfl
      rw [stB, List.length_append, ih, e1]
      show 4 + 4 * L.length = 4 * (L.length + 1)
      omega
  rw [cod_app, cod_app, List.length_append, sl] at hc
  obtain ⟨⟨hh, hs⟩, h18, -⟩ := hc
  obtain ⟨c1, c2, c3, c4, c5, c6, c7, -⟩ := hh
  have qI : (nI q).toInt = (q : Int) := nI_toInt (by omega)
  have qI1 : (nI (q + 1)).toInt = (q : Int) + 1 := by rw [nI_toInt (by omega)]; omega
  have qI2 : (nI (q + 2)).toInt = (q : Int) + 2 := by rw [nI_toInt (by omega)]; omega
  have mI : (nI Bs.length).toInt = (Bs.length : Int) := nI_toInt (by omega)
  have apw : Bs.Pairwise (fun B B' => B.1 ≠ B'.1) := List.Pairwise.imp_of_mem (fun {B B'} h1 h2 hne => by
    have := (pw B h1 B' h2 hne).1
    obtain ⟨-, -, -, -, e5, e6, -⟩ := br B h1
    obtain ⟨-, -, -, -, f5, f6, -⟩ := br B' h2
    omega) nd
  have start : gfX C M E Y a (zSG z (zG z)) := by
    refine gf_ru (i_lway (p := beh) (b := a + 2) (z := zSG z (zG z)) (b' := k0) (c := k0) c1 rfl (gf_ru ?_) (Or.inr rfl) (Or.inr rfl))
    refine i_ldpi (p := beh) (z := zSA (zSG z (zG z)) ((8, beh, ((a + 2 : Nat) : Int)), k0, k0)) c2 rfl (gf_ru ?_)
    refine i_hold (v := nI q) (z := zSA (zSG z (zG z)) ((7, beh, 0), k0, k0)) (k := (17, beh, 0)) (a' := k0) (b' := k0) (c' := k0) c3 qz.2.1 qz.2.2 (by rw [qI]; omega) (by rw [qI]; show (q : Int) < (zI z).2; omega) (by rw [qI]; omega) (fun o ho _ => by rcases ho with y | y; exact (tg o).1 y; exact (tg o).2 y) (Or.inr (Or.inr (Or.inl ⟨by show (7 : Nat) ≤ 9; decide, rfl⟩))) (fun h5 => absurd h5 (by show ¬ ((7 : Nat) = 5 ∨ (7 : Nat) = 6); decide)) (gf_ru ?_) (Or.inr rfl) (Or.inr rfl) (Or.inr rfl) (by intro k' hk' h5; rcases hk' with y | y | y <;> (rw [y] at h5; exact absurd h5 (by decide)))
    rw [qI]
    have t1 : ∀ o, (upG (zG z) (q : Int) (17, beh, 0) o).1 ≠ 15 ∧ (upG (zG z) (q : Int) (17, beh, 0) o).1 ≠ 16 := fun o => by
      unfold upG
      split
      · exact ⟨(by decide : (17 : Nat) ≠ 15), (by decide : (17 : Nat) ≠ 16)⟩
      · exact tg o
    refine i_ldc (z := zSG z (upG (zG z) (q : Int) (17, beh, 0))) (a := (1, 0, (nI Bs.length).toInt)) (b := k0) (c := k0) c4 (gf_ru ?_) (Or.inl rfl) (Or.inr rfl) (Or.inr rfl)
    refine i_hold (v := nI (q + 1)) (z := zSA (zSG z (upG (zG z) (q : Int) (17, beh, 0))) ((1, 0, (nI Bs.length).toInt), k0, k0)) (k := (11, 0, (nI Bs.length).toInt)) (a' := k0) (b' := k0) (c' := k0) c5 qz.2.1 qz.2.2 (by rw [qI1]; omega) (by rw [qI1]; show (q : Int) + 1 < (zI z).2; omega) (by rw [qI1]; omega) (fun o ho _ => by rcases ho with y | y; exact (t1 o).1 y; exact (t1 o).2 y) (Or.inr (Or.inr (Or.inl ⟨by show (1 : Nat) ≤ 9; decide, rfl⟩))) (fun h5 => absurd h5 (by show ¬ ((1 : Nat) = 5 ∨ (1 : Nat) = 6); decide)) (gf_ru ?_) (Or.inr rfl) (Or.inr rfl) (Or.inr rfl) (by intro k' hk' h5; rcases hk' with y | y | y <;> (rw [y] at h5; exact absurd h5 (by decide)))
    rw [qI1, mI]
    show rul C M E (gfX C M E Y) (a + 1 + 1 + 1 + 1 + 1) (zSG z (upG (upG (zG z) (q : Int) (17, beh, 0)) ((q : Int) + 1) (11, 0, (Bs.length : Int))))
    generalize hG2 : upG (upG (zG z) (q : Int) (17, beh, 0)) ((q : Int) + 1) (11, 0, (Bs.length : Int)) = G2
    have g1 : ∀ o : Int, o ≠ q → o ≠ q + 1 → G2 o = zG z o := fun o h1 h2 => by rw [← hG2]; unfold upG; rw [if_neg h2, if_neg h1]
    have g2 : G2 q = (17, beh, 0) := by rw [← hG2]; unfold upG; rw [if_neg (by omega), if_pos rfl]
    have g3 : G2 ((q : Int) + 1) = (11, 0, (Bs.length : Int)) := by rw [← hG2]; unfold upG; rw [if_pos rfl]
    have hH : hdG G2 q = hdG (zG z) q := by
      funext o
      unfold hdG
      split
      · rfl
      · exact g1 o (by omega) (by omega)
    refine i_self (z := zSG z G2) (b := k0) (c := k0) c6 (gf_ru ?_) (Or.inr rfl) (Or.inr rfl)
    refine i_fork (q := q) (beh := beh) (Bs := Bs) (n1 := 0) (y1 := 0) (z := zSA (zSG z G2) ((9, 0, 0), k0, k0)) c7 qI2 qz.2.2 qz.2.1 q1 q3 (fun off hz => ?_) (fun o no h15 => ?_) g2 g3 (by omega) rfl (fun B hB' => ?_) pw nd lw hB ?_
    · by_cases e1 : off = q
      · omega
      · by_cases e2 : off = (q : Int) + 1
        · omega
        · have hz : (G2 off).1 ≠ 0 := hz
          rw [g1 off e1 e2] at hz
          exact hG off hz
    · have h15 : (G2 o).1 = 15 ∨ (G2 o).1 = 16 := h15
      rw [g1 o (by omega) (by omega)] at h15
      have := tg o
      omega
    · show brOK (hdG G2 q) (zW z) q (zI z).1 B
      rw [hH]
      exact br B hB'
    · show gfX C M E Y (a + 7) (zSF (zSA (zSG z G2) ((9, 0, 0), k0, k0)) q beh Bs)
      have ez : zSF (zSA (zSG z G2) ((9, 0, 0), k0, k0)) q beh Bs = zSR (zSG z (hdG (zG z) q)) (beh + 1, Bs.map fun B => (B.1, B.2.1, B.2.2.1)) := by
        show (hdG G2 q, (k0, k0, k0), zI z, zU z, zL z, (beh + 1, Bs.map fun B => (B.1, B.2.1, B.2.2.1)), zW z) = (hdG (zG z) q, (k0, k0, k0), zI z, zU z, zL z, (beh + 1, Bs.map fun B => (B.1, B.2.1, B.2.2.1)), zW z)
        rw [hH]
      rw [ez]
      refine ty_st (z := zSG z (hdG (zG z) q)) qz.2.2 Bs (a + 7) d5 apw hs (gf_ru ?_)
      refine i_stopp (beh := beh) (z := zSR (zSG z (hdG (zG z) q)) (beh + 1, [])) (by rw [show a + 7 + 4 * Bs.length = a + (7 + 4 * Bs.length) by omega]; exact h18) qz.2.2 rfl ?_
      refine gf_cv hY h ⟨rfl, rfl, rfl, zr, rfl, qz.1, qz.2.2, rfl, fun o => ?_, fun o h15 => by have := tg o; omega⟩
      show zG z o = hdG (zG z) q o ∨ _
      by_cases hd : (q : Int) ≤ o ∧ o < q + 3
      · exact Or.inr (Or.inr ⟨dt o hd.1 (by omega), by omega, by show o < (((zI z).2 : Nat) : Int); omega⟩)
      · exact Or.inl (if_neg hd).symm
  rw [zSG_any qz.1] at start
  exact start
end
