/-! (S): ALT is typed well -/
/-- words of names lie outside what is free -/
def lay (sy : List Sym) (vis : List Nat) (wd : Nat → Int32) (q hi : Int) : Prop := ∀ s ∈ vis, srO sy s ≠ 1 → srO sy s ≠ 11 → ∀ i : Nat, i < max 1 (if srO sy s = 5 ∨ srO sy s = 9 then szO sy s else 1) → (wd s).toInt + i < q ∨ hi ≤ (wd s).toInt + i
theorem eC_mv {sy : List Sym} {vis : List Nat} {wd : Nat → Int32} {G G' : Int → Kd} {q hi : Int} (l : lay sy vis wd q hi) (ag : ∀ o, o < q ∨ hi ≤ o → G' o = G o) (h : eC sy vis wd G) : eC sy vis wd G' := by
  intro s hs
  obtain ⟨a1, a2, a3, a4, a5⟩ := h s hs
  have one : srO sy s ≠ 1 → srO sy s ≠ 11 → G' (wd s).toInt = G (wd s).toInt := fun n1 n11 => by
    have := l s hs n1 n11 0 (by omega)
    rw [show (wd s).toInt + ((0 : Nat) : Int) = (wd s).toInt by omega] at this
    exact ag _ this
  refine ⟨fun y => ?_, fun y => ?_, fun y => ⟨fun i hi => ?_, (a3 y).2⟩, fun y => ?_, a5⟩
  · rw [one (by omega) (by omega)]; exact a1 y
  · rw [one (by omega) (by omega)]; exact a2 y
  · rw [ag _ (l s hs (by omega) (by omega) i (by rw [if_pos (Or.inl y)]; omega))]; exact (a3 y).1 i hi
  · rw [one (by omega) (by omega)]; exact a4 y
theorem rgt_mv {sy : List Sym} {wd : Nat → Int32} {G G' : Int → Kd} {wr : Nat → Nat} {k : Ky} {m : Nat} (ag : ∀ o, (G o).1 = 2 ∨ (G o).1 = 22 → G' o = G o) (h : rgt sy wd G wr k m) : rgt sy wd G' wr k m := by
  obtain ⟨a1, a2, a3, a4⟩ := h
  refine ⟨fun y => ?_, fun y => ?_, a3, fun y => ?_⟩
  · rw [ag _ (Or.inl (a1 y).1)]; exact a1 y
  · rw [ag _ (Or.inr (a2 y).1)]; exact a2 y
  · obtain ⟨b1, b2, b3⟩ := a4 y
    refine ⟨fun i hi => by rw [ag _ (Or.inl (b1 i hi))]; exact b1 i hi, fun t i hi => by rw [ag _ (Or.inl (b1 i hi))]; exact b2 t i hi, fun t i0 hi => ?_⟩
    have t2 := b1 k.2.2.toInt.toNat (by omega)
    rw [show ((k.2.2.toInt.toNat : Nat) : Int) = k.2.2.toInt by omega] at t2
    rw [ag _ (Or.inl t2)]
    exact b3 t i0 hi
theorem chA_mv {G G' : Int → Kd} {wr : Nat → Nat} {m : Nat} {k : Kd} (ag : ∀ o, (G o).1 = 2 ∨ (G o).1 = 22 → G' o = G o) (h : chA G wr m k) : chA G' wr m k := by
  rcases h with ⟨a, b, c⟩ | ⟨a, b⟩ | ⟨a, b, c⟩ | h
  · exact Or.inl ⟨a, by rw [ag _ (Or.inl b)]; exact ⟨b, c⟩⟩
  · exact Or.inr (Or.inl ⟨a, fun i hi => by rw [ag _ (Or.inl (b i hi).1)]; exact b i hi⟩)
  · exact Or.inr (Or.inr (Or.inl ⟨a, by rw [ag _ (Or.inr b)]; exact ⟨b, c⟩⟩))
  · exact Or.inr (Or.inr (Or.inr h))
/-- rows of guards -/
def gsh : Tm → Prop
  | .elem (.div (.index _) (.elem _ (.elem _ (.elem _ _)))) gs => gsh gs
  | .null => True
  | _ => False
/-- where guards lead -/
def gLs (sy : List Sym) (pa : List (List Nat)) : Tm → Nat → List (Bool × Nat)
  | .elem (.div (.index _) (.elem _ (.elem c (.elem v p)))) gs, st => (!isNl c, st) :: gLs sy pa gs (st + nB3 sy pa c v p)
  | _, _ => []
/-- guards' words -/
def gKd (G : Int → Kd) (wr : Nat → Nat) : Tm → Nat → Prop
  | .elem (.div (.index _) (.elem _ (.elem c (.elem _ _)))) gs, w => 10 ≤ (G w).1 ∧ (isNl c = false → 10 ≤ (G (w + 1)).1 ∧ (G (w + 1)).1 ≤ 19 ∧ chA G wr 8 ((G (w + 1)).1 - 10, (G (w + 1)).2)) ∧ gKd G wr gs (w + 2)
  | _, _ => True
/-- what guards read -/
def gRd (sy : List Sym) (vis : List Nat) (wd r : Nat → Int32) (G : Int → Kd) (wr : Nat → Nat) (n : Nat) : Tm → Prop
  | .elem (.div (.index _) (.elem e (.elem c (.elem _ _)))) gs => (isNl e = false → wfE sy vis e ∧ exw e ≤ n) ∧ (isNl c = false → wfC sy vis c ∧ exw c ≤ n ∧ rgt sy wd G wr (kyT sy r c) 8) ∧ gRd sy vis wd r G wr n gs
  | _ => True
theorem gKd_mv {G G' : Int → Kd} {wr : Nat → Nat} : ∀ (gs : Tm) (w : Nat), (∀ o : Int, (w : Int) ≤ o → G' o = G o) → (∀ o, (G o).1 = 2 ∨ (G o).1 = 22 → G' o = G o) → gKd G wr gs w → gKd G' wr gs w := by
  intro gs w
  induction gs, w using gKd.induct with
  | case1 u e c v p gs w ih =>
    intro h1 h2 h
    obtain ⟨a1, a2, a3⟩ := h
    refine ⟨by rw [h1 _ (by omega)]; exact a1, fun y => ?_, ih (fun o ho => h1 o (by omega)) h2 a3⟩
    obtain ⟨b1, b2, b3⟩ := a2 y
    rw [h1 _ (by omega)]
    exact ⟨b1, b2, chA_mv h2 b3⟩
  | case2 gs w hn =>
    intro _ _ _
    unfold gKd
    split
    · exact (hn _ _ _ _ _ _ rfl).elim
    · trivial
theorem gRd_mv {sy : List Sym} {vis : List Nat} {wd r : Nat → Int32} {G G' : Int → Kd} {wr : Nat → Nat} {n : Nat} (ag : ∀ o, (G o).1 = 2 ∨ (G o).1 = 22 → G' o = G o) : ∀ gs, gRd sy vis wd r G wr n gs → gRd sy vis wd r G' wr n gs := by
  intro gs
  induction gs using gRd.induct with
  | case1 u e c v p gs ih => exact fun h => ⟨h.1, fun y => ⟨(h.2.1 y).1, (h.2.1 y).2.1, rgt_mv ag (h.2.1 y).2.2⟩, ih h.2.2⟩
  | case2 gs hn =>
    intro _
    unfold gRd
    split
    · exact (hn _ _ _ _ _ _ rfl).elim
    · trivial
section
variable {C : Cx} {M : Nat} {E : En} {Y : Nat → Sg → Prop} {sy : List Sym} {vis : List Nat} {wd r : Nat → Int32} {pe : Nat → Nat} {pa : List (List Nat)}
theorem zSH_id {z : Sg} {G : Int → Kd} : zSH z G (k0, k0, k0) = zSG z G := rfl
/-- guards are evaluated -/
theorem ty_h1 {z : Sg} {q f hi n : Nat} (z0 : (zR z).1 = 0) (nl : (zL z).2.1 = []) (hhi : hi = (zI z).2) (hb : hi ≤ 5000) (fb : f + n ≤ hi) : ∀ (gs : Tm) (w a : Nat) (G : Int → Kd), gsh gs → q ≤ w → 1 ≤ w → w + 2 * tmN gs ≤ f → lay sy vis wd q hi → eC sy vis wd G → gRd sy vis wd r G (zW z) n gs → (∀ o : Int, (w : Int) ≤ o → o < hi → (G o).1 = 1) → (∀ o, (G o).1 = 15 ∨ (G o).1 = 16 → (G (G o).2.2).1 = 22) → cod C pe a (kH1 sy wd r gs w f a) →
    (∀ G', (∀ o : Int, ¬ ((w : Int) ≤ o ∧ o < w + 2 * tmN gs) → G' o = G o) → (∀ o, (G' o).1 = 15 ∨ (G' o).1 = 16 → (G' (G' o).2.2).1 = 22) → gKd G' (zW z) gs w → gfX C M E Y (a + nH1 sy gs) (zSG z G')) → gfX C M E Y a (zSG z G) := by
  intro gs
  induction gs using gsh.induct with
  | case1 u e c v p gs ih =>
    intro w a G sh qw w1 wf ly ec rd dt cp hc h
    rw [tmN] at wf h
    rw [kH1, cod_app, kG1_len] at hc
    obtain ⟨hg, hr⟩ := hc
    obtain ⟨rd1, rd2, rd3⟩ := rd
    rw [kG1, cod_app] at hg
    obtain ⟨hg1, hg2, hg3⟩ := hg
    have wI : (nI w).toInt = (w : Int) := nI_toInt (by omega)
    have wI1 : (nI (w + 1)).toInt = (w : Int) + 1 := by rw [nI_toInt (by omega)]; omega
    have le : (if isNl e = true then [iV 4 1] else kE sy wd r e f a).length = (if isNl e then 1 else nE sy e) := by
      split <;> simp [kE_len]
    rw [le] at hg2 hg3
    have dW : (G w).1 = 1 := dt w (by omega) (by omega)
    have dW1 : (G (w + 1)).1 = 1 := dt (w + 1) (by omega) (by omega)
    -- its channel, and the rest
    have rest : ∀ (G1 : Int → Kd), (∀ o : Int, o ≠ w → G1 o = G o) → G1 w = (10, 0, 0) → gfX C M E Y (a + (if isNl e then 1 else nE sy e) + 1) (zSG z G1) := by
      intro G1 g1 g2
      have cp1 : ∀ o, (G1 o).1 = 15 ∨ (G1 o).1 = 16 → (G1 (G1 o).2.2).1 = 22 := by
        intro o ho
        have ow : o ≠ w := fun y => by rw [y, g2] at ho; exact absurd ho (by decide)
        rw [g1 o ow] at ho ⊢
        have := cp o ho
        have rw' : (G o).2.2 ≠ w := fun y => by rw [y] at this; omega
        rw [g1 _ rw']
        exact this
      have ag22 : ∀ o, (G o).1 = 2 ∨ (G o).1 = 22 → G1 o = G o := fun o ho => g1 o (fun y => by rw [y] at ho; omega)
      have ec1 := eC_mv ly (G' := G1) (fun o ho => g1 o (by omega)) ec
      have hN : ∀ x, nH1 sy (.elem (.div (.index u) (.elem e (.elem c (.elem v p)))) gs) = x + nH1 sy gs ↔ nG1 sy e c = x := fun x => by rw [nH1]; omega
      by_cases nc : isNl c = true
      · have eR : a + nG1 sy e c = a + (if isNl e then 1 else nE sy e) + 1 := by unfold nG1; rw [if_pos nc]; omega
        rw [eR] at hr
        refine ih (w + 2) _ G1 sh (by omega) (by omega) (by omega) ly ec1 (gRd_mv ag22 gs rd3) (fun o o1 o2 => by rw [g1 o (by omega)]; exact dt o (by omega) o2) cp1 hr fun G' k1 k2 k3 => ?_
        have := h G' (fun o ho => (k1 o (by omega)).trans (g1 o (by omega))) k2 ⟨by rw [k1 w (by omega), g2]; exact Nat.le_refl _, fun y => by rw [nc] at y; exact absurd y (by decide), k3⟩
        rw [nH1] at this
        rw [← eR, show a + nG1 sy e c + nH1 sy gs = a + (nG1 sy e c + nH1 sy gs) by omega]
        exact this
      · have nc' : isNl c = false := Bool.not_eq_true _ |>.mp nc
        obtain ⟨wc, xc, rg⟩ := rd2 nc'
        rw [if_neg nc, cod_app, kA_len] at hg3
        obtain ⟨h3, h4, -⟩ := hg3
        have eR : a + nG1 sy e c = a + (if isNl e then 1 else nE sy e) + 1 + nD sy c + 1 := by unfold nG1; rw [if_neg nc]; omega
        rw [eR] at hr
        refine gf_ru (ty_C (m := 8) (f := f) (r := r) (z := zSG z G1) wc ec1 (rgt_mv ag22 rg) (fun i i1 i2 => by show (G1 i).1 = 1; rw [g1 i (by omega)]; exact dt i (by omega) (by omega)) (by omega) z0 nl (by rw [show a + (if isNl e then 1 else nE sy e) + 1 = a + (if isNl e = true then 1 else nE sy e) + 1 from rfl]; exact h3) fun k hk => gf_ru ?_)
        have hk : chA G1 (zW z) 8 k := hk
        have k9 : k.1 ≤ 5 ∧ k.1 ≠ 0 ∧ (k.1 = 5 → (G1 k.2.2).1 = 22) := by
          rcases hk with ⟨y, -⟩ | ⟨y, -⟩ | ⟨y, y2, -⟩ | ⟨y, -⟩
          · omega
          · omega
          · exact ⟨by omega, by omega, fun _ => y2⟩
          · omega
        have d1 : (G1 (w + 1)).1 = 1 := by rw [g1 _ (by omega)]; exact dW1
        refine i_hold (v := nI (w + 1)) (z := zSA (zSG z G1) (k, k0, k0)) (k := (10 + k.1, k.2)) (a' := k0) (b' := k0) (c' := k0) h4 z0 nl (by rw [wI1]; omega) (by rw [wI1]; show (w : Int) + 1 < (zI z).2; omega) (by rw [wI1]; omega) ?_ (Or.inr (Or.inr (Or.inl ⟨by show k.1 ≤ 9; omega, rfl⟩))) ?_ ?_ (Or.inr rfl) (Or.inr rfl) (Or.inr rfl) (by intro k' hk' h5; rcases hk' with y | y | y <;> (rw [y] at h5; exact absurd h5 (by decide)))
        · intro o ho y
          rw [wI1] at y
          have := cp1 o ho
          have y : (G1 o).2.2 = (w : Int) + 1 := y
          rw [y, d1] at this
          exact absurd this (by decide)
        · intro h5 y
          rw [wI1] at y
          have h5 : k.1 = 5 ∨ k.1 = 6 := h5
          have y : k.2.2 = (w : Int) + 1 := y
          have := k9.2.2 (by omega)
          rw [y, d1] at this
          exact absurd this (by decide)
        · rw [wI1]
          show gfX C M E Y (a + (if isNl e then 1 else nE sy e) + 1 + nD sy c + 1) (zSG z (upG G1 ((w : Int) + 1) (10 + k.1, k.2)))
          have u1 : ∀ o : Int, o ≠ w + 1 → upG G1 ((w : Int) + 1) (10 + k.1, k.2) o = G1 o := fun o ho => if_neg ho
          have u2 : upG G1 ((w : Int) + 1) (10 + k.1, k.2) (w + 1) = (10 + k.1, k.2) := if_pos rfl
          have ag2 : ∀ o, (G1 o).1 = 2 ∨ (G1 o).1 = 22 → upG G1 ((w : Int) + 1) (10 + k.1, k.2) o = G1 o := fun o ho => u1 o (fun y => by rw [y, d1] at ho; exact absurd ho (by decide))
          have cp2 : ∀ o, (upG G1 ((w : Int) + 1) (10 + k.1, k.2) o).1 = 15 ∨ (upG G1 ((w : Int) + 1) (10 + k.1, k.2) o).1 = 16 → (upG G1 ((w : Int) + 1) (10 + k.1, k.2) (upG G1 ((w : Int) + 1) (10 + k.1, k.2) o).2.2).1 = 22 := by
            intro o ho
            by_cases ow : o = (w : Int) + 1
            · subst ow
              rw [u2] at ho ⊢
              have ho : 10 + k.1 = 15 ∨ 10 + k.1 = 16 := ho
              have := k9.2.2 (by omega)
              show (upG G1 ((w : Int) + 1) (10 + k.1, k.2) k.2.2).1 = 22
              rw [ag2 _ (Or.inr this)]
              exact this
            · rw [u1 o ow] at ho ⊢
              have := cp1 o ho
              rw [ag2 _ (Or.inr this)]
              exact this
          refine ih (w + 2) _ (upG G1 ((w : Int) + 1) (10 + k.1, k.2)) sh (by omega) (by omega) (by omega) ly (eC_mv ly (fun o ho => u1 o (by omega)) ec1) (gRd_mv ag2 gs (gRd_mv ag22 gs rd3)) (fun o o1 o2 => by rw [u1 o (by omega), g1 o (by omega)]; exact dt o (by omega) o2) cp2 hr fun G' k1 k2 k3 => ?_
          have agF : ∀ o, (G1 o).1 = 2 ∨ (G1 o).1 = 22 → G' o = G1 o := fun o ho => by
            have od : ¬ (((w + 2 : Nat) : Int) ≤ o ∧ o < ((w + 2 : Nat) : Int) + 2 * tmN gs) := fun y => by
              have := dt o (by omega) (by omega)
              rw [g1 o (by omega)] at ho
              omega
            rw [k1 o od]
            exact ag2 o ho
          have e1 : G' (w + 1) = (10 + k.1, k.2) := (k1 _ (by omega)).trans u2
          have := h G' (fun o ho => (k1 o (by omega)).trans ((u1 o (by omega)).trans (g1 o (by omega)))) k2 ⟨by rw [k1 w (by omega), u1 _ (by omega), g2]; exact Nat.le_refl _, fun _ => ?_, k3⟩
          · rw [nH1] at this
            rw [← eR, show a + nG1 sy e c + nH1 sy gs = a + (nG1 sy e c + nH1 sy gs) by omega]
            exact this
          · rw [e1]
            refine ⟨by show 10 ≤ 10 + k.1; omega, by show 10 + k.1 ≤ 19; omega, ?_⟩
            show chA G' (zW z) 8 (10 + k.1 - 10, k.2)
            rw [show 10 + k.1 - 10 = k.1 by omega]
            exact chA_mv agF hk
    -- the flag
    have flag : gfX C M E Y (a + (if isNl e then 1 else nE sy e)) (zSG z G) := by
      refine gf_ru (i_hold (v := nI w) (z := zSG z G) (k := (10, 0, 0)) (a' := k0) (b' := k0) (c' := k0) hg2 z0 nl (by rw [wI]; omega) (by rw [wI]; show (w : Int) < (zI z).2; omega) (by rw [wI]; omega) ?_ (Or.inr (Or.inr (Or.inr rfl))) (fun h5 => absurd h5 (by show ¬ ((0 : Nat) = 5 ∨ (0 : Nat) = 6); decide)) ?_ (Or.inr rfl) (Or.inr rfl) (Or.inr rfl) (by intro k' hk' h5; rcases hk' with y | y | y <;> (rw [y] at h5; exact absurd h5 (by decide))))
      · intro o ho y
        rw [wI] at y
        have := cp o ho
        have y : (G o).2.2 = (w : Int) := y
        rw [y, dW] at this
        exact absurd this (by decide)
      · rw [wI]
        exact rest (upG G w (10, 0, 0)) (fun o ho => if_neg ho) (if_pos rfl)
    by_cases ne : isNl e = true
    · rw [if_pos ne] at flag hg1
      exact gf_ru (i_ldc (z := zSG z G) (a := k0) (b := k0) (c := k0) hg1.1 flag (Or.inr rfl) (Or.inr rfl) (Or.inr rfl))
    · rw [if_neg ne] at flag hg1
      obtain ⟨we, xe⟩ := rd1 (Bool.not_eq_true _ |>.mp ne)
      exact gf_ru (ty_E' (f := f) (r := r) (z := zSG z G) we ec (fun i i1 i2 => dt i (by omega) (by omega)) (by omega) ⟨rfl, z0, nl⟩ hg1 flag)
  | case2 =>
    intro w a G _ _ _ _ _ _ _ _ cp _ h
    exact h G (fun _ _ => rfl) cp trivial
  | case3 gs h1 h2 =>
    intro w a G sh
    unfold gsh at sh
    split at sh
    · exact (h1 _ _ _ _ _ _ rfl).elim
    · exact (h2 rfl).elim
    · exact sh.elim
end
