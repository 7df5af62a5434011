/-! (S): CALL -/
def sbm (m m' : Nat) : Prop := m &&& m' = m
/-- what a word that holds an argument becomes in the PROC -/
def argK (G : Int → Kd) (wr : Nat → Nat) (k k' : Kd) : Prop := (k'.1 = 1 ∧ k.1 = 1) ∨
  (k'.1 = 21 ∧ 1 ≤ k'.2.1 ∧ ((k.1 = 12 ∧ 0 < k.2.2 ∧ ∀ i : Nat, i < k'.2.1 → (G (k.2.2 + i)).1 = 1) ∨ (k.1 = 14 ∧ 0 < k.2.2 ∧ k'.2.1 = 1 ∧ ∀ i : Nat, i < k.2.1 → (G (k.2.2 + i)).1 = 1) ∨ (k.1 = 15 ∧ (G k.2.2).1 = 21 ∧ k'.2.1 ≤ (G k.2.2).2.1) ∨ (k.1 = 16 ∧ (G k.2.2).1 = 21 ∧ k'.2.1 = 1 ∧ k.2.1 ≤ (G k.2.2).2.1))) ∨
  (k'.1 = 22 ∧ ((k.1 = 11 ∧ ∃ c : Nat, c < 14 ∧ k.2.2 = c ∧ sbm k'.2.1 (wr c)) ∨ (k.1 = 12 ∧ 0 < k.2.2 ∧ (G k.2.2).1 = 2 ∧ sbm k'.2.1 (G k.2.2).2.1) ∨ (k.1 = 14 ∧ 0 < k.2.2 ∧ ∀ i : Nat, i < k.2.1 → (G (k.2.2 + i)).1 = 2 ∧ sbm k'.2.1 (G (k.2.2 + i)).2.1) ∨ (k.1 = 15 ∧ (G k.2.2).1 = 22 ∧ sbm k'.2.1 (G k.2.2).2.1)))
/-- the names that it may stand for -/
def srcO (k : Kd) (y : Int) : Prop := (k.1 = 12 ∧ y = k.2.2) ∨ (k.1 = 14 ∧ k.2.2 ≤ y ∧ y < k.2.2 + k.2.1) ∨ (k.1 = 15 ∧ y = k.2.2)
theorem sbm_b {m m' b : Nat} (h : sbm m m') (n : m &&& b ≠ 0) : m' &&& b ≠ 0 := by
  intro c
  apply n
  unfold sbm at h
  rw [← h, Nat.and_assoc, c, Nat.and_zero]
theorem sbm_2 {m m' n n' : Nat} (h : sbm m m') (h' : sbm n n') (c : m &&& n ≠ 0) : m' &&& n' ≠ 0 := by
  have := sbm_b h c
  rw [Nat.and_comm] at this ⊢
  exact sbm_b h' this
section
variable {C : Cx} {M : Nat} {E : En} {s : Cr} {g : Gh} {Q : Thr} {t : Nat} {A : List Nat} {pri W : Nat} {z : Sg}
theorem okH.sb {m m' a : Nat} (h : okH M g Q A t m' a) (k : sbm m m') : okH M g Q A t m a := ⟨h.1, h.2.1, h.2.2.1, fun n => h.2.2.2.1 (sbm_b k n), fun n => h.2.2.2.2 (sbm_b k n)⟩
theorem arg_21 {o : Int} {k' : Kd} (hE : fE C M s g Q A t pri W z) (h : argK (zG z) (zW z) (zG z o) k') (e : k'.1 = 21) : ∃ a, s.2.1 (W + o).toNat = nI a ∧ W ≤ a ∧ ∀ i, i < k'.2.1 → okD M g A (a + i) := by
  have hM := hE.1.2
  have wk0 := hE.2.2.2.2.2.2.2.2.1
  have ofI : ∀ (v : Int32) (a : Nat), v.toInt = a → a < M → v = nI a := fun v a h1 h2 => Int32.toInt_inj.mp (by rw [h1, nI_toInt (by omega)])
  rcases h with ⟨h, -⟩ | ⟨-, n1, h⟩ | ⟨h, -⟩
  · omega
  · rcases h with ⟨h1, h2, h3⟩ | ⟨h1, h2, h3, h4⟩ | ⟨h1, h2, h3⟩ | ⟨h1, h2, h3, h4⟩
    · obtain ⟨-, -, -, -, -, k1, -⟩ := wk_h (wk0 o) (by omega)
      have k1 := k1 (by omega)
      rw [h1] at k1
      have k1 : (s.2.1 (W + o).toNat).toInt = W + (zG z o).2.2 := k1
      have all : ∀ i, i < k'.2.1 → okD M g A ((W + (zG z o).2.2).toNat + i) := by
        intro i hi
        obtain ⟨a, a1, a2⟩ := wk_1 (wk0 _) (h3 i hi)
        have : a = (W + (zG z o).2.2).toNat + i := by omega
        rw [← this]; exact a2
      have := (all 0 (by omega)).2.1
      exact ⟨(W + (zG z o).2.2).toNat, ofI _ _ (by rw [k1]; omega) (by omega), by omega, all⟩
    · obtain ⟨-, -, -, -, -, k1, -⟩ := wk_h (wk0 o) (by omega)
      have k1 := k1 (by omega)
      rw [h1] at k1
      obtain ⟨i, i1, i2⟩ := k1
      obtain ⟨a, a1, a2⟩ := wk_1 (wk0 _) (h4 i i1)
      have i2 : (s.2.1 (W + o).toNat).toInt = W + (zG z o).2.2 + i := i2
      refine ⟨a, ofI _ _ (by rw [i2]; omega) a2.2.1, by omega, fun i' hi' => ?_⟩
      have : i' = 0 := by omega
      rw [this]; exact a2
    · obtain ⟨-, -, -, -, -, k1, -⟩ := wk_h (wk0 o) (by omega)
      have k1 := k1 (by omega)
      rw [h1] at k1
      obtain ⟨-, -, -, -, -, -, k2, -⟩ := wk_h (wk0 (zG z o).2.2) k1.1
      obtain ⟨a, a1, a2, a3⟩ := k2 h2
      exact ⟨a, k1.2.trans a1, by omega, fun i hi => a3 i (by omega)⟩
    · obtain ⟨-, -, -, -, -, k1, -⟩ := wk_h (wk0 o) (by omega)
      have k1 := k1 (by omega)
      rw [h1] at k1
      obtain ⟨k0, i, i1, i2⟩ := k1
      obtain ⟨-, -, -, -, -, -, k2, -⟩ := wk_h (wk0 (zG z o).2.2) k0
      obtain ⟨a, a1, a2, a3⟩ := k2 h2
      have i1 : i < (zG z o).2.1 := i1
      refine ⟨a + i, i2.trans (by rw [← nI_add, ← a1]), by omega, fun i' hi' => ?_⟩
      have : i' = 0 := by omega
      rw [this]; exact a3 i (by omega)
  · omega
theorem arg_22 {o : Int} {k' : Kd} (hE : fE C M s g Q A t pri W z) (h : argK (zG z) (zW z) (zG z o) k') (e : k'.1 = 22) : ∃ a, s.2.1 (W + o).toNat = nI a ∧ (W ≤ a ∨ a < 16) ∧ okH M g Q A t k'.2.1 a ∧
    ((∃ y, srcO (zG z o) y ∧ a = adS (zG z) s.2.1 W y ∧ sbm k'.2.1 (btS (zG z y))) ∨ (∃ c : Nat, c < 14 ∧ (zG z o).1 = 11 ∧ (zG z o).2.2 = c ∧ a = c ∧ sbm k'.2.1 (zW z c))) := by
  have hM := hE.1.2
  have wk0 := hE.2.2.2.2.2.2.2.2.1
  have ofI : ∀ (v : Int32) (a : Nat), v.toInt = a → a < M → v = nI a := fun v a h1 h2 => Int32.toInt_inj.mp (by rw [h1, nI_toInt (by omega)])
  rcases h with ⟨h, -⟩ | ⟨h, -⟩ | ⟨-, h⟩
  · omega
  · omega
  · rcases h with ⟨h1, c, h2, h3, h4⟩ | ⟨h1, h2, h3, h4⟩ | ⟨h1, h2, h3⟩ | ⟨h1, h2, h3⟩
    · obtain ⟨-, -, -, -, -, k1, -⟩ := wk_h (wk0 o) (by omega)
      have k1 := k1 (by omega)
      rw [h1] at k1
      have k1 : (s.2.1 (W + o).toNat).toInt = (zG z o).2.2 := k1
      have oh := hE.2.2.2.2.2.2.2.2.2.1 c h2
      exact ⟨c, ofI _ _ (by rw [k1]; exact h3) oh.1, Or.inr (by omega), oh.sb h4, Or.inr ⟨c, h2, h1, h3, rfl, h4⟩⟩
    · obtain ⟨-, -, -, -, -, k1, -⟩ := wk_h (wk0 o) (by omega)
      have k1 := k1 (by omega)
      rw [h1] at k1
      have k1 : (s.2.1 (W + o).toNat).toInt = W + (zG z o).2.2 := k1
      obtain ⟨a, a1, a2, a3⟩ := wk_2 (wk0 _) h3
      refine ⟨a, ofI _ _ (by rw [k1]; exact a1) a3.1, Or.inl (by omega), a3.sb h4, Or.inl ⟨(zG z o).2.2, Or.inl ⟨h1, rfl⟩, ?_, ?_⟩⟩
      · unfold adS; rw [if_neg (by omega)]; omega
      · unfold btS; rw [if_pos (Or.inl h3)]; exact h4
    · obtain ⟨-, -, -, -, -, k1, -⟩ := wk_h (wk0 o) (by omega)
      have k1 := k1 (by omega)
      rw [h1] at k1
      obtain ⟨i, i1, i2⟩ := k1
      have i1 : i < (zG z o).2.1 := i1
      have i2 : (s.2.1 (W + o).toNat).toInt = W + (zG z o).2.2 + i := i2
      obtain ⟨b1, b2⟩ := h3 i i1
      obtain ⟨a, a1, a2, a3⟩ := wk_2 (wk0 _) b1
      refine ⟨a, ofI _ _ (by rw [i2]; omega) a3.1, Or.inl (by omega), a3.sb b2, Or.inl ⟨(zG z o).2.2 + i, Or.inr (Or.inl ⟨h1, by omega, by omega⟩), ?_, ?_⟩⟩
      · unfold adS; rw [if_neg (by omega)]; omega
      · unfold btS; rw [if_pos (Or.inl b1)]; exact b2
    · obtain ⟨-, -, -, -, -, k1, -⟩ := wk_h (wk0 o) (by omega)
      have k1 := k1 (by omega)
      rw [h1] at k1
      obtain ⟨c1, c2, c3⟩ := wk_22 (wk0 (zG z o).2.2) hM h2
      refine ⟨_, k1.2.trans c3, by omega, c2.sb h3, Or.inl ⟨(zG z o).2.2, Or.inr (Or.inr ⟨h1, rfl⟩), rfl, ?_⟩⟩
      unfold btS; rw [if_pos (Or.inr h2)]; exact h3
/-- words above W alone -/
def posG (G : Int → Kd) : Int → Kd := fun o => if 0 < o then G o else k0
variable {R : Nat → Sg → Prop} {j p : Nat} {v : Int32} {ze : Sg}
theorem i_call (hC : C.1 j = some (9, v)) (hv : v = nI (C.2 p) - nI (C.2 (j + 1))) (z0 : (zR z).1 = 0) (nl : (zL z).2.1 = []) (hlo : 7 ≤ (zI z).1) (hhi : 1 ≤ (zI z).2)
    (eI : zI ze = ((zI z).1 - 4, 0)) (eU : (zU ze).1 = 1 ∧ (zU ze).2.1 = 0) (eL : (zL ze).2.1 = []) (eR : (zR ze).1 = 0) (eA : rAny ze) (eW : ∀ c, c < 14 → sbm (zW ze c) (zW z c))
    (eG : ∀ o, (zG ze o).1 ≠ 0 → o < -3 ∧ argK (zG z) (zW z) (zG z (o - 4)) (zG ze o))
    (dj : ∀ o o', o ≠ o' → btS (zG ze o) &&& btS (zG ze o') ≠ 0 → (∀ y, srcO (zG z (o - 4)) y → ¬ srcO (zG z (o' - 4)) y) ∧ ((zG z (o - 4)).1 = 11 → (zG z (o' - 4)).1 = 11 → (zG z (o - 4)).2.2 ≠ (zG z (o' - 4)).2.2))
    (djw : ∀ o (c : Nat), c < 14 → btS (zG ze o) &&& zW ze c ≠ 0 → (zG z (o - 4)).1 = 11 → (zG z (o - 4)).2.2 ≠ c)
    (nc : ∀ o, 0 < o → (zG z o).1 = 15 ∨ (zG z o).1 = 16 → 0 < (zG z o).2.2) (hR : R p ze) (hB : R (j + 1) (zSG z (posG (zG z)))) : rul C M E R j z := by
  refine ⟨9, v, hC, fun s w g Q t th W r I _ e e0 ef h11 => ?_⟩
  obtain ⟨hE, -⟩ := fE_i I e e0 ef
  have h11' : (sR (rdB s) 13 0).1 11 = nI (C.2 (j + 1)) := h11
  obtain ⟨W0, j0, z0', r0, h1, h2, h3', h4, h5, h6, h7, h8, h9, h10, h11'', h12, h13, h14⟩ := I.2.1 t th e
  rw [ef] at h1
  cases h1
  have hM := I.1.2
  obtain ⟨b1, b2, b3, b4, b5, b6⟩ := h5 (W, j, z) (by rw [ef]; exact List.mem_cons_self)
  simp only at b1 b2 b3 b4 b5 b6
  have kd := kid_0 I e e0 ef z0
  have e12 : s.1 12 = nI W := hE.2.1
  have own : ∀ x, W ≤ x + 7 → x ≤ W → g.1 x = t := fun x x1 x2 => own_i I e kd (f := (W, j, z)) (by rw [ef]; exact List.mem_cons_self) (by show W ≤ x + (zI z).1; omega) (by show x < W + (zI z).2; omega)
  have rol : ∀ x, W ≤ x ∨ x < 16 ∨ x + 7 < W → (if W ≤ x + 7 ∧ x ≤ W then 4 else g.2.1 x) = g.2.1 x := by
    intro x hx
    by_cases c : W ≤ x + 7 ∧ x ≤ W
    · rw [if_pos c]
      have ex : x = W := by omega
      have := (h13 0 (by omega)).1
      rw [ex]; exact this.symm
    · rw [if_neg c]
  have mo : ∀ x, x ≠ W - 4 → (if x = W - 4 then nI (C.2 (j + 1)) else s.2.1 x) = s.2.1 x := fun x hx => if_neg hx
  refine ⟨sR (sM (sR (sR (rdB s) 13 0) 12 (nI (W - 4))) (W - 4) (nI (C.2 (j + 1)))) 11 (nI (C.2 p)), w, ?_, Or.inl rfl, (g.1, (fun x => if W ≤ x + 7 ∧ x ≤ W then 4 else g.2.1 x), g.2.2), qU Q t ((W - 4, p, ze) :: (W, j + 1, zSG z (posG (zG z))) :: r, th.2), ?_, ?_⟩
  · rw [x_dir (by decide)]
    show ((adM (sR (rdB s) 13 0) (s.1 12 - 4)).map fun x => sR (sM (sR (sR (rdB s) 13 0) 12 (s.1 12 - 4)) x ((sR (rdB s) 13 0).1 11)) 11 ((sR (rdB s) 13 0).1 11 + v)).map _ = _
    rw [e12, show (4 : Int32) = nI 4 from rfl, nI_sub (by omega), ad_n hE.1 (by omega), h11', hv, Int32.add_comm, Int32.sub_add_cancel]
    rfl
  · have sb : stb (fun x => W ≤ x ∨ x < 16 ∨ x + 7 < W) s.2.1 (fun x => if x = W - 4 then nI (C.2 (j + 1)) else s.2.1 x) g (g.1, (fun x => if W ≤ x + 7 ∧ x ≤ W then 4 else g.2.1 x), g.2.2) Q Q (t :: thA th) t := ⟨fun x hx _ _ => mo x (by omega), fun x hx _ => ⟨rfl, rol x hx⟩, fun _ _ _ _ => ⟨id, id⟩⟩
    refine cl_go I e e0 ef kd nl (fun i hi => ?_) rfl rfl (fun x hx => ?_) (fun _ => rfl) (fun x hx => ?_) rfl (fun f hf => ?_) ?_ (fun f hf => ?_) (fun k hk => ⟨if_pos (by omega), own _ (by omega) (by omega)⟩) (by omega) (Or.inl ⟨rfl, rfl⟩) ?_ eL eR (fun c hc => ?_)
    · show (if i = 11 then _ else if i = 12 then _ else (sR (rdB s) 13 0).1 i) = _
      rw [if_neg (by omega), if_neg (by omega)]
      exact rd_r i (by omega)
    · refine Or.inr (Classical.byContradiction fun c => hx (mo x fun y => c (own x (by omega) (by omega))))
    · show (if W ≤ x + 7 ∧ x ≤ W then 4 else g.2.1 x) = g.2.1 x
      rw [if_neg]
      exact fun c => hx (own x c.1 c.2)
    · rcases List.mem_cons.mp hf with y | y
      · subst y
        unfold fOK
        show 3 ≤ (zI ze).1 ∧ thL th + (zI ze).1 ≤ W - 4 ∧ W - 4 + (zI ze).2 ≤ thH th ∧ (∀ off, wk C.2 M _ Q (t :: thA th) t (thP th) (zG ze) (fun x => if x = W - 4 then nI (C.2 (j + 1)) else s.2.1 x) (W - 4) (zI ze).2 off) ∧ (∀ c, c < 14 → okH M _ Q (t :: thA th) t (zW ze c) c) ∧ inj (zG ze) (fun x => if x = W - 4 then nI (C.2 (j + 1)) else s.2.1 x) (W - 4) (zW ze)
        rw [eI]
        refine ⟨by show 3 ≤ (zI z).1 - 4; omega, by show thL th + ((zI z).1 - 4) ≤ W - 4; omega, by show W - 4 + 0 ≤ thH th; omega, fun o => ?_, fun c hc => ((b5 c hc).sb (eW c hc)).mv (P := fun x => W ≤ x ∨ x < 16 ∨ x + 7 < W) (Or.inr (Or.inl (by omega))) sb.2.1 sb.2.2, ?_⟩
        · unfold wk
          by_cases c : (zG ze o).1 = 0
          · exact Or.inl c
          · obtain ⟨o1, o2⟩ := eG o c
            have eo : ((W - 4 : Nat) : Int) + o = W + (o - 4) := by omega
            rw [eo]
            rcases o2 with ⟨k1, k2⟩ | ⟨k1, k2⟩ | ⟨k1, k2⟩
            · obtain ⟨a, a1, a2⟩ := wk_1 (b4 (o - 4)) k2
              have ea : ((W : Int) + (o - 4)).toNat = a := by omega
              rw [ea]
              exact Or.inr ⟨by omega, a2.1, Or.inl ⟨k1, a2.mv (P := fun x => W ≤ x ∨ x < 16 ∨ x + 7 < W) (by omega) sb.2.1⟩⟩
            · obtain ⟨a, a1, a2, a3⟩ := arg_21 hE (o := o - 4) (Or.inr (Or.inl ⟨k1, k2⟩)) k1
              have a1 : s.2.1 (W + (o - 4)).toNat = nI a := a1
              have t10 : 10 ≤ (zG z (o - 4)).1 := by rcases k2.2 with k | k | k | k <;> omega
              obtain ⟨q0, q1, q2, q3, q4, -⟩ := wk_h (b4 (o - 4)) t10
              refine Or.inr ⟨q0, q1, Or.inr (Or.inr ⟨by omega, q2, (rol _ (by omega)).trans q3, q4, fun y => absurd y (by omega), fun _ => ⟨a, ?_, by omega, fun i hi => (a3 i hi).mv (P := fun x => W ≤ x ∨ x < 16 ∨ x + 7 < W) (Or.inl (by omega)) sb.2.1⟩, fun y => absurd y (by omega)⟩)⟩
              exact (mo _ (by omega)).trans a1
            · obtain ⟨a, a1, a2, a3, -⟩ := arg_22 hE (o := o - 4) (Or.inr (Or.inr ⟨k1, k2⟩)) k1
              have a1 : s.2.1 (W + (o - 4)).toNat = nI a := a1
              have t10 : 10 ≤ (zG z (o - 4)).1 := by rcases k2 with k | k | k | k <;> omega
              obtain ⟨q0, q1, q2, q3, q4, -⟩ := wk_h (b4 (o - 4)) t10
              refine Or.inr ⟨q0, q1, Or.inr (Or.inr ⟨by omega, q2, (rol _ (by omega)).trans q3, q4, fun y => absurd y (by omega), fun y => absurd y (by omega), fun _ => ⟨a, ?_, by omega, a3.mv (P := fun x => W ≤ x ∨ x < 16 ∨ x + 7 < W) (by omega) sb.2.1 sb.2.2⟩⟩)⟩
              exact (mo _ (by omega)).trans a1
        · have src : ∀ o, btS (zG ze o) ≠ 0 → ∃ a, adS (zG ze) (fun x => if x = W - 4 then nI (C.2 (j + 1)) else s.2.1 x) (W - 4) o = a ∧ ((∃ y, srcO (zG z (o - 4)) y ∧ a = adS (zG z) s.2.1 W y ∧ sbm (btS (zG ze o)) (btS (zG z y))) ∨ (∃ c : Nat, c < 14 ∧ (zG z (o - 4)).1 = 11 ∧ (zG z (o - 4)).2.2 = c ∧ a = c ∧ sbm (btS (zG ze o)) (zW z c))) := by
            intro o ho
            have hz := btS_nz ho
            obtain ⟨o1, o2⟩ := eG o (by omega)
            have h22 : (zG ze o).1 = 22 := by
              rcases o2 with ⟨k1, -⟩ | ⟨k1, -⟩ | ⟨k1, -⟩ <;> omega
            obtain ⟨a, a1, a2, a3, a4⟩ := arg_22 hE (o := o - 4) o2 h22
            have a1 : s.2.1 (W + (o - 4)).toNat = nI a := a1
            have eb : btS (zG ze o) = (zG ze o).2.1 := by unfold btS; rw [if_pos hz]
            refine ⟨a, ?_, by rw [eb]; exact a4⟩
            unfold adS
            have eo : ((W - 4 : Nat) : Int) + o = W + (o - 4) := by omega
            rw [if_pos h22, eo]
            show (if (W + (o - 4)).toNat = W - 4 then nI (C.2 (j + 1)) else s.2.1 (W + (o - 4)).toNat).toNatClampNeg = a
            rw [if_neg (by omega), a1, nI_clamp (by have := a3.1; omega)]
          have bn : ∀ {p q : Nat}, p &&& q ≠ 0 → q ≠ 0 := fun {p q} h c => h (by rw [c, Nat.and_zero])
          have bn' : ∀ {p q : Nat}, p &&& q ≠ 0 → p ≠ 0 := fun {p q} h c => h (by rw [c, Nat.zero_and])
          refine ⟨fun o o' no hb => ?_, fun o c hc hb => ?_⟩
          · obtain ⟨a, a1, a2⟩ := src o (bn' hb)
            obtain ⟨a', a1', a2'⟩ := src o' (bn hb)
            obtain ⟨d1, d2⟩ := dj o o' no hb
            rw [a1, a1']
            rcases a2 with ⟨y, y1, y2, y3⟩ | ⟨c, c1, c2, c3, c4, c5⟩
            · rcases a2' with ⟨y', y1', y2', y3'⟩ | ⟨c', c1', c2', c3', c4', c5'⟩
              · rw [y2, y2']
                refine b6.1 y y' (fun h => d1 y y1 (h ▸ y1')) (sbm_2 y3 y3' hb)
              · rw [y2, c4']
                exact b6.2 y c' c1' (sbm_2 y3 c5' hb)
            · rcases a2' with ⟨y', y1', y2', y3'⟩ | ⟨c', c1', c2', c3', c4', c5'⟩
              · rw [y2', c4]
                rw [Nat.and_comm] at hb
                exact (b6.2 y' c c1 (sbm_2 y3' c5 hb)).symm
              · rw [c4, c4']
                have := d2 c2 c2'
                omega
          · obtain ⟨a, a1, a2⟩ := src o (bn' hb)
            rw [a1]
            rcases a2 with ⟨y, y1, y2, y3⟩ | ⟨c', c1, c2, c3, c4, c5⟩
            · rw [y2]
              exact b6.2 y c hc (sbm_2 y3 (eW c hc) hb)
            · have := djw o c hc hb c2
              omega
      · rcases List.mem_cons.mp y with y | y
        · subst y
          refine ⟨b1, b2, b3, fun o => ?_, fun c hc => (b5 c hc).mv (P := fun x => W ≤ x ∨ x < 16 ∨ x + 7 < W) (Or.inr (Or.inl (by omega))) sb.2.1 sb.2.2, ?_⟩
          · show wk C.2 M _ Q (t :: thA th) t (thP th) (posG (zG z)) (fun x => if x = W - 4 then nI (C.2 (j + 1)) else s.2.1 x) W (zI z).2 o
            by_cases c : 0 < o
            · exact wk_G (g' := (g.1, (fun x => if W ≤ x + 7 ∧ x ≤ W then 4 else g.2.1 x), g.2.2)) (P := fun o => ¬ 0 < o) (Z := fun x => W ≤ x ∨ x < 16) b4 (fun o ho hk hn => hn (nc o (Classical.byContradiction ho) hk)) (fun o ho => if_pos (Classical.byContradiction ho)) (fun a ha => by omega) (fun o ho _ _ => by
                have : 0 < o := Classical.byContradiction ho
                omega) (fun x hx _ => mo x (by omega)) (fun x hx => ⟨rfl, rol x (by omega), rfl, rfl⟩) (fun h => h c)
            · exact Or.inl (by show (posG (zG z) o).1 = 0; unfold posG; rw [if_neg c])
          · show inj (posG (zG z)) (fun x => if x = W - 4 then nI (C.2 (j + 1)) else s.2.1 x) W (zW z)
            have ad : ∀ o, btS (posG (zG z) o) ≠ 0 → posG (zG z) o = zG z o ∧ adS (posG (zG z)) (fun x => if x = W - 4 then nI (C.2 (j + 1)) else s.2.1 x) W o = adS (zG z) s.2.1 W o := by
              intro o ho
              have : 0 < o := by
                refine Classical.byContradiction fun c => ho ?_
                unfold posG
                rw [if_neg c]
                rfl
              have eo : posG (zG z) o = zG z o := if_pos this
              refine ⟨eo, ?_⟩
              unfold adS
              rw [eo]
              split
              · show (if (W + o).toNat = W - 4 then nI (C.2 (j + 1)) else s.2.1 (W + o).toNat).toNatClampNeg = _
                rw [if_neg (by omega)]
              · rfl
            have bn : ∀ {p q : Nat}, p &&& q ≠ 0 → q ≠ 0 := fun {p q} h c => h (by rw [c, Nat.and_zero])
            have bn' : ∀ {p q : Nat}, p &&& q ≠ 0 → p ≠ 0 := fun {p q} h c => h (by rw [c, Nat.zero_and])
            refine ⟨fun o o' no hb => ?_, fun o c hc hb => ?_⟩
            · obtain ⟨x1, x2⟩ := ad o (bn' hb)
              obtain ⟨y1, y2⟩ := ad o' (bn hb)
              rw [x1, y1] at hb
              rw [x2, y2]
              exact b6.1 _ _ no hb
            · obtain ⟨x1, x2⟩ := ad o (bn' hb)
              rw [x1] at hb
              rw [x2]
              exact b6.2 _ c hc hb
        · obtain ⟨u1, u2⟩ := lnk_up (W, j, z) r (by rw [← ef]; exact h6) f y
          have u1 : W + (zI z).2 + 4 ≤ f.1 := u1
          exact fOK_mv (h5 f (by rw [ef]; exact List.mem_cons_of_mem _ y)) rfl rfl (fun off ho => Or.inl (by have := u2 off ho; omega)) (fun a ha => by omega) sb
    · refine ⟨eU.1, by show (W : Int) = (W - 4 : Nat) + (zU ze).2.1 + 4; rw [eU.2]; omega, by show W - 4 + (zI ze).2 + 4 ≤ W; rw [eI]; show W - 4 + 0 + 4 ≤ W; omega, if_pos rfl, fun k hk => ⟨if_pos (by show W ≤ W - k + 7 ∧ W - k ≤ W; omega), own _ (by show W ≤ W - k + 7; omega) (by show W - k ≤ W; omega)⟩, rfl, nl, ⟨z0, hhi⟩, fun o ho => ?_, ?_⟩
      · refine Classical.byContradiction fun c => ho ?_
        show (posG (zG z) o).1 = 0
        unfold posG
        rw [if_neg c]
      · have hl := lnk_mv (s := s) (s' := sR (sM (sR (sR (rdB s) 13 0) 12 (nI (W - 4))) (W - 4) (nI (C.2 (j + 1)))) 11 (nI (C.2 p))) (g := g) (g' := (g.1, (fun x => if W ≤ x + 7 ∧ x ≤ W then 4 else g.2.1 x), g.2.2)) (P := fun x => W + (zI z).2 ≤ x) (fun x hx _ _ => mo x (by omega)) (fun x hx _ => ⟨rfl, rol x (by omega)⟩) ((W, j, z) :: r) (fun f r' hf a ha => by cases hf; exact ha) (by rw [ef] at h6; exact h6)
        cases r with
        | nil => exact hl
        | cons f1 r => exact hl
    · rw [ef] at hf
      cases r with
      | nil =>
        cases hf
        exact ⟨(W, j + 1, zSG z (posG (zG z))), rfl, rfl, rfl⟩
      | cons f1 r =>
        rw [List.getLast?_cons_cons] at hf
        exact ⟨f, by rw [List.getLast?_cons_cons, List.getLast?_cons_cons]; exact hf, rfl, rfl⟩
    · unfold rOK
      rw [show zA ze = (k0, k0, k0) from eA]
      exact ⟨trivial, trivial, trivial⟩
    · have hc : (if W ≤ c + 7 ∧ c ≤ W then 4 else g.2.1 c) = 2 := hc
      by_cases c1 : W ≤ c + 7 ∧ c ≤ W
      · rw [if_pos c1] at hc; omega
      · rw [if_neg c1] at hc
        exact ⟨hc, mo c (by omega)⟩
  · refine ⟨?_, fun _ => ⟨t, _, qU_t⟩⟩
    intro b tb f hb hf
    by_cases c : b = t
    · subst c
      rw [qU_t] at hb
      cases hb
      rcases List.mem_cons.mp hf with y | y
      · subst y; exact Or.inl hR
      · rcases List.mem_cons.mp y with y | y
        · subst y; exact Or.inl hB
        · exact Or.inr ⟨b, th, f, e, by rw [ef]; exact List.mem_cons_of_mem _ y, rfl⟩
    · rw [qU_n c] at hb
      exact Or.inr ⟨b, tb, f, hb, hf, rfl⟩
end
