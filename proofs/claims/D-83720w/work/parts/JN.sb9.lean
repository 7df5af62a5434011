/-! (S): AJW -/
section
variable {C : Cx} {M : Nat} {E : En} {R : Nat → Sg → Prop} {j : Nat} {v : Int32} {z z' : Sg}
theorem i_ajw (hC : C.1 j = some (11, v)) (z0 : (zR z).1 = 0) (nl : (zL z).2.1 = []) (hU : (zU z).1 = 1) (hU' : (zU z').1 = 1) (hd : (zU z').2.1 = (zU z).2.1 - v.toInt) (hI1 : ((zI z').1 : Int) = (zI z).1 + v.toInt) (hI2 : ((zI z').2 : Int) = (zI z).2 - v.toInt) (h3 : 3 ≤ (zI z').1)
    (h0 : (zI z').2 = 0 → (zU z').2.1 = 0) (hW' : zW z' = zW z) (nl' : (zL z').2.1 = []) (zr' : (zR z').1 = 0) (ra : rAny z') (hG : ∀ o, (zG z' o).1 ≠ 0 → 0 < o ∧ zG z' o = zG z (o + v.toInt) ∧ ((zG z' o).1 = 1 ∨ (zG z' o).1 = 21 ∨ (zG z' o).1 = 22)) (hR : R (j + 1) z') : rul C M E R j z := by
  refine ⟨11, v, hC, fun s w g Q t th W r I _ e e0 ef h11 => ?_⟩
  obtain ⟨hE, -⟩ := fE_i I e e0 ef
  have h11' : (sR (rdB s) 13 0).1 11 = nI (C.2 (j + 1)) := h11
  obtain ⟨W0, j0, z0', r0, h1, h2, h3', h4, h5, h6, h7, h8, h9, h10, h11'', h12, h13, h14⟩ := I.2.1 t th e
  rw [ef] at h1
  cases h1
  have hM := I.1.2
  obtain ⟨b1, b2, b3, b4, b5, b6⟩ := h5 (W, j, z) (by rw [ef]; exact List.mem_cons_self)
  simp only at b1 b2 b3 b4 b5 b6
  have kd := kid_0 I e e0 ef z0
  have h6r := h6
  rw [ef] at h6r
  cases r with
  | nil => exact (h6r hU).elim
  | cons f1 r =>
    obtain ⟨k1, k2, k3, k4, k5, k6, k7, k8, k9, k10⟩ := h6r
    have k2 : (f1.1 : Int) = W + (zU z).2.1 + 4 := k2
    have k3 : W + (zI z).2 + 4 ≤ f1.1 := k3
    obtain ⟨W', eW⟩ : ∃ W' : Nat, (W : Int) + v.toInt = W' := ⟨(W + v.toInt).toNat, by omega⟩
    have hi' : W' + (zI z').2 = W + (zI z).2 := by omega
    have lo' : W' + (zI z).1 = W + (zI z').1 := by omega
    have e12 : s.1 12 = nI W := hE.2.1
    have f1b := (h5 f1 (by rw [ef]; exact List.mem_cons_of_mem _ List.mem_cons_self)).2.2.1
    have WM : W' < M := by omega
    have wv : s.1 12 + v = nI W' := Int32.toInt_inj.mp (by rw [e12, i_add (nI_toInt (by omega)) rfl (by omega) (by omega), eW, nI_toInt (by omega)])
    have own : ∀ x, W' ≤ x + 3 → x ≤ W' → g.1 x = t ∧ (W + (zI z).2 ≤ x → g.2.1 x = 4) := by
      intro x x1 x2
      by_cases c : x < W + (zI z).2
      · exact ⟨own_i I e kd (f := (W, j, z)) (by rw [ef]; exact List.mem_cons_self) (by show W ≤ x + (zI z).1; omega) c, fun y => by omega⟩
      · have q0 : (zI z').2 = 0 := by omega
        have q1 := h0 q0
        have ex : x = f1.1 - 4 := by omega
        have := k5 4 (by omega)
        rw [← ex] at this
        exact ⟨this.2, fun _ => this.1⟩
    have rol : ∀ x, W + (zI z).2 ≤ x ∨ x < 16 ∨ W' < x → (if W' ≤ x + 3 ∧ x ≤ W' then 4 else g.2.1 x) = g.2.1 x := by
      intro x hx
      by_cases c : W' ≤ x + 3 ∧ x ≤ W'
      · rw [if_pos c]
        by_cases c2 : W + (zI z).2 ≤ x
        · exact ((own x c.1 c.2).2 c2).symm
        · omega
      · rw [if_neg c]
    refine ⟨sR (sR (rdB s) 13 0) 12 (nI W'), w, ?_, Or.inl rfl, (g.1, (fun x => if W' ≤ x + 3 ∧ x ≤ W' then 4 else g.2.1 x), g.2.2), qU Q t ((W', j + 1, z') :: f1 :: r, th.2), ?_, ?_⟩
    · rw [x_dir (by decide)]
      show (if mj_in (s.1 12 + v) 4016 then some (sR (sR (rdB s) 13 0) 12 (s.1 12 + v)) else none : Option Cr).map _ = _
      rw [wv, if_pos (in_n (by omega) (by omega))]
      rfl
    · have sb : stb (fun x => W + (zI z).2 ≤ x ∨ x < 16 ∨ W' < x) s.2.1 (sR (sR (rdB s) 13 0) 12 (nI W')).2.1 g (g.1, (fun x => if W' ≤ x + 3 ∧ x ≤ W' then 4 else g.2.1 x), g.2.2) Q Q (t :: thA th) t := ⟨fun _ _ _ _ => rfl, fun x hx _ => ⟨rfl, rol x hx⟩, fun _ _ _ _ => ⟨id, id⟩⟩
      refine cl_go I e e0 ef kd nl (fun i hi => ?_) rfl rfl (fun x hx => (hx rfl).elim) (fun _ => rfl) (fun x hx => ?_) rfl (fun f hf => ?_) ?_ (fun f hf => ⟨f, by rw [ef, List.getLast?_cons_cons] at hf; rw [List.getLast?_cons_cons]; exact hf, rfl, rfl⟩) (fun k hk => ⟨if_pos (by omega), (own _ (by omega) (by omega)).1⟩) (by omega) (Or.inl ⟨h11', rfl⟩) ?_ nl' zr' (fun c hc => ⟨?_, rfl⟩)
      · show (if i = 12 then _ else (sR (rdB s) 13 0).1 i) = _
        rw [if_neg (by omega)]
        exact rd_r i (by omega)
      · show (if W' ≤ x + 3 ∧ x ≤ W' then 4 else g.2.1 x) = g.2.1 x
        rw [if_neg]
        exact fun c => hx (own x c.1 c.2).1
      · rcases List.mem_cons.mp hf with y | y
        · subst y
          refine ⟨h3, by show thL th + (zI z').1 ≤ W'; omega, by show W' + (zI z').2 ≤ thH th; omega, fun o => ?_, fun c hc => ?_, ?_⟩
          · show wk C.2 M _ Q (t :: thA th) t (thP th) (zG z') s.2.1 W' (zI z').2 o
            unfold wk
            by_cases c : (zG z' o).1 = 0
            · exact Or.inl c
            · obtain ⟨o1, o2, o3⟩ := hG o c
              have eo : (W' : Int) + o = W + (o + v.toInt) := by omega
              rw [o2, eo]
              rw [o2] at o3
              rcases b4 (o + v.toInt) with q | ⟨q0, q1, q2⟩
              · rw [o2] at c; exact (c q).elim
              · refine Or.inr ⟨q0, q1, ?_⟩
                have gt : W' < (W + (o + v.toInt)).toNat := by omega
                rcases q2 with ⟨a1, a2⟩ | ⟨a1, a2⟩ | ⟨a1, a2, a3, a4, a5, a6, a7⟩
                · exact Or.inl ⟨a1, a2.mv (P := fun x => W + (zI z).2 ≤ x ∨ x < 16 ∨ W' < x) (Or.inr (Or.inr gt)) sb.2.1⟩
                · omega
                · refine Or.inr (Or.inr ⟨a1, a2, (rol _ (Or.inr (Or.inr gt))).trans a3, a4, fun y => ?_, fun y => ?_, fun y => ?_⟩)
                  · exfalso
                    rcases o3 with o3 | o3 | o3
                    · rw [o3] at a1; exact absurd a1 (by decide)
                    · rw [o3] at y; exact absurd y (by decide)
                    · rw [o3] at y; exact absurd y (by decide)
                  · obtain ⟨a, d1, d2, d3⟩ := a6 y
                    exact ⟨a, d1, by omega, fun i hi => (d3 i hi).mv (P := fun x => W + (zI z).2 ≤ x ∨ x < 16 ∨ W' < x) (Or.inl (by omega)) sb.2.1⟩
                  · obtain ⟨a, d1, d2, d3⟩ := a7 y
                    exact ⟨a, d1, by omega, d3.mv (P := fun x => W + (zI z).2 ≤ x ∨ x < 16 ∨ W' < x) (by omega) sb.2.1 sb.2.2⟩
          · show okH M _ Q (t :: thA th) t (zW z' c) c
            rw [hW']
            exact (b5 c hc).mv (P := fun x => W + (zI z).2 ≤ x ∨ x < 16 ∨ W' < x) (Or.inr (Or.inl (by omega))) sb.2.1 sb.2.2
          · show inj (zG z') s.2.1 W' (zW z')
            rw [hW']
            have ad : ∀ o, btS (zG z' o) ≠ 0 → btS (zG z' o) = btS (zG z (o + v.toInt)) ∧ adS (zG z') s.2.1 W' o = adS (zG z) s.2.1 W (o + v.toInt) := by
              intro o ho
              have hz := btS_nz ho
              obtain ⟨o1, o2, o3⟩ := hG o (by omega)
              refine ⟨by rw [o2], ?_⟩
              unfold adS
              rw [o2, show (W' : Int) + o = W + (o + v.toInt) by omega]
            have bn : ∀ {p q : Nat}, p &&& q ≠ 0 → q ≠ 0 := fun {p q} h c => h (by rw [c, Nat.and_zero])
            have bn' : ∀ {p q : Nat}, p &&& q ≠ 0 → p ≠ 0 := fun {p q} h c => h (by rw [c, Nat.zero_and])
            refine ⟨fun o o' no hb => ?_, fun o c hc hb => ?_⟩
            · obtain ⟨x1, x2⟩ := ad o (bn' hb)
              obtain ⟨y1, y2⟩ := ad o' (bn hb)
              rw [x1, y1] at hb
              rw [x2, y2]
              exact b6.1 _ _ (by omega) hb
            · obtain ⟨x1, x2⟩ := ad o (bn' hb)
              rw [x1] at hb
              rw [x2]
              exact b6.2 _ c hc hb
        · obtain ⟨u1, u2⟩ := lnk_up (W, j, z) (f1 :: r) (by rw [← ef]; exact h6) f y
          have u1 : W + (zI z).2 + 4 ≤ f.1 := u1
          exact fOK_mv (h5 f (by rw [ef]; exact List.mem_cons_of_mem _ y)) rfl rfl (fun off ho => Or.inl (by have := u2 off ho; omega)) (fun a ha => by omega) sb
      · have hl := lnk_mv (s := s) (s' := sR (sR (rdB s) 13 0) 12 (nI W')) (g := g) (g' := (g.1, (fun x => if W' ≤ x + 3 ∧ x ≤ W' then 4 else g.2.1 x), g.2.2)) (P := fun x => W + (zI z).2 ≤ x) (fun _ _ _ _ => rfl) (fun x hx _ => ⟨rfl, rol x (Or.inl hx)⟩) ((W, j, z) :: f1 :: r) (fun f r' hf a ha => by cases hf; exact ha) (by rw [ef] at h6; exact h6)
        obtain ⟨l1, l2, l3, l4, l5⟩ := hl
        exact ⟨hU', by show (f1.1 : Int) = W' + (zU z').2.1 + 4; omega, by show W' + (zI z').2 + 4 ≤ f1.1; omega, l4, l5⟩
      · unfold rOK
        rw [show zA z' = (k0, k0, k0) from ra]
        exact ⟨trivial, trivial, trivial⟩
      · have hc : (if W' ≤ c + 3 ∧ c ≤ W' then 4 else g.2.1 c) = 2 := hc
        split at hc
        · omega
        · exact hc
    · refine ⟨?_, fun _ => ⟨t, _, qU_t⟩⟩
      intro b tb f hb hf
      by_cases c : b = t
      · subst c
        rw [qU_t] at hb
        cases hb
        rcases List.mem_cons.mp hf with y | y
        · subst y; exact Or.inl hR
        · exact Or.inr ⟨b, th, f, e, by rw [ef]; exact List.mem_cons_of_mem _ y, rfl⟩
      · rw [qU_n c] at hb
        exact Or.inr ⟨b, tb, f, hb, hf, rfl⟩
end
