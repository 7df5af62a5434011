/-! (S): declarations: the context within -/
theorem dsz_lw {sy : List Sym} {s : Nat} : ∀ (c k : Nat), k < c → dsz sy s k + wsz sy (s + k) ≤ dsz sy s c := by
  intro c
  induction c with
  | zero => intro k h; omega
  | succ c ih =>
    intro k h
    have e : dsz sy s (c + 1) = dsz sy s c + wsz sy (s + c) := rfl
    by_cases hk : k = c
    · subst hk; omega
    · have := ih k (by omega); omega
theorem dGk_at {sy : List Sym} {s q : Nat} {G : Int → Kd} : ∀ (c k : Nat) (o : Int), k < c → ((q + dsz sy s k : Nat) : Int) ≤ o → o < ((q + dsz sy s k + wsz sy (s + k) : Nat) : Int) → dGk sy s q G c o = if srO sy (s + k) = 7 ∨ srO sy (s + k) = 9 then (2, 12, 0) else G o := by
  intro c
  induction c with
  | zero => intro k o h; omega
  | succ c ih =>
    intro k o hk h1 h2
    by_cases e : k = c
    · subst e
      unfold dGk
      by_cases ch : srO sy (s + k) = 7 ∨ srO sy (s + k) = 9
      · rw [if_pos ch, if_pos ch]
        unfold filG
        rw [if_pos ⟨h1, by omega⟩]
      · rw [if_neg ch, if_neg ch]
        exact dGk_out k o (Or.inr h1)
    · have hl := dsz_lw (sy := sy) (s := s) c k (by omega)
      unfold dGk
      by_cases ch : srO sy (s + c) = 7 ∨ srO sy (s + c) = 9
      · rw [if_pos ch]
        unfold filG
        rw [if_neg (by omega)]
        exact ih k o (by omega) h1 h2
      · rw [if_neg ch]
        exact ih k o (by omega) h1 h2
section
variable {sy : List Sym} {vis vis' : List Nat} {wd wd' : Nat → Int32} {z : Sg} {q s c : Nat}
theorem dcl_w {t : Nat} (h : dcl sy t) : wsz sy t = nwS sy t ∧ szO sy t ≤ 64 ∧ (srO sy t = 2 ∨ srO sy t = 5 ∨ srO sy t = 7 ∨ srO sy t = 9) := by
  unfold wsz nwS
  rcases h with ⟨h1 | h1, h2⟩ | ⟨h1 | h1, h2, h3⟩
  · rw [h2, if_neg (by omega)]; exact ⟨rfl, by omega, by omega⟩
  · rw [h2, if_neg (by omega)]; exact ⟨rfl, by omega, by omega⟩
  · rw [if_pos (Or.inl h1)]; exact ⟨rfl, by omega, by omega⟩
  · rw [if_pos (Or.inr h1)]; exact ⟨rfl, by omega, by omega⟩
/-- the context within a declaration -/
theorem dc_cx (cx : ctxP sy vis wd z q) (hv : ∀ t, t ∈ vis' → t ∈ vis ∨ ∃ k, k < c ∧ t = s + k) (nv : ∀ t ∈ vis, ∀ k, k < c → t ≠ s + k) (hd : ∀ k, k < c → dcl sy (s + k)) (w1 : ∀ t ∈ vis, wd' t = wd t) (w2 : ∀ k, k < c → (wd' (s + k)).toInt = ((q + dsz sy s k : Nat) : Int)) (hb : q + dsz sy s c ≤ (zI z).2) : ctxP sy vis' wd' (zSG z (dGk sy s q (zG z) c)) (q + dsz sy s c) := by
  obtain ⟨qz, zl, zr, q1, h5, dt, ec, ct, ly, ps, ap, hG, tg⟩ := cx
  have out : ∀ o : Int, o < q ∨ ((q + dsz sy s c : Nat) : Int) ≤ o → dGk sy s q (zG z) c o = zG z o := fun o ho => dGk_out c o ho
  have old : ∀ t ∈ vis, srO sy t ≠ 1 → srO sy t ≠ 11 → ∀ i : Nat, i < nwS sy t → dGk sy s q (zG z) c ((wd t).toInt + i) = zG z ((wd t).toInt + i) := fun t ht n1 n11 i hi => by
    rcases ly t ht n1 n11 i hi with y | y
    · exact out _ (Or.inl y)
    · exact out _ (Or.inr (by omega))
  have old0 : ∀ t ∈ vis, srO sy t ≠ 1 → srO sy t ≠ 11 → dGk sy s q (zG z) c (wd t).toInt = zG z (wd t).toInt := fun t ht n1 n11 => by
    have := old t ht n1 n11 0 (by unfold nwS; omega)
    rwa [show (wd t).toInt + ((0 : Nat) : Int) = (wd t).toInt by omega] at this
  have new : ∀ k, k < c → ∀ i : Nat, i < nwS sy (s + k) → dGk sy s q (zG z) c ((wd' (s + k)).toInt + i) = if srO sy (s + k) = 7 ∨ srO sy (s + k) = 9 then (2, 12, 0) else (1, 0, 0) := fun k hk i hi => by
    have e := (dcl_w (hd k hk)).1
    have l := dsz_lw (sy := sy) (s := s) c k hk
    rw [w2 k hk, dGk_at c k _ hk (by omega) (by omega)]
    split
    · rfl
    · exact dt _ (by omega) (by omega)
  have new0 : ∀ k, k < c → dGk sy s q (zG z) c (wd' (s + k)).toInt = if srO sy (s + k) = 7 ∨ srO sy (s + k) = 9 then (2, 12, 0) else (1, 0, 0) := fun k hk => by
    have := new k hk 0 (by unfold nwS; omega)
    rwa [show (wd' (s + k)).toInt + ((0 : Nat) : Int) = (wd' (s + k)).toInt by omega] at this
  refine ⟨⟨rfl, qz.2.1, qz.2.2⟩, zl, zr, by omega, h5, fun o o1 o2 => ?_, fun t ht => ?_, fun t ht => ?_, fun t ht n1 n11 i hi => ?_, fun t ht n1 n11 => ?_, ⟨fun t ht t' ht' ne n1 n11 n1' n11' => ?_, fun t ht t' ht' n1 n1' e => ?_⟩, fun o ho => ?_, fun o => ?_⟩
  · show dGk sy s q (zG z) c o = (1, 0, 0)
    rw [out o (Or.inr (by omega))]
    exact dt o (by omega) o2
  · show (_ → (dGk sy s q (zG z) c (wd' t).toInt).1 = 1) ∧ (_ → (dGk sy s q (zG z) c (wd' t).toInt).1 = 21 ∧ 1 ≤ (dGk sy s q (zG z) c (wd' t).toInt).2.1) ∧ (_ → (∀ i : Nat, i < szO sy t → (dGk sy s q (zG z) c ((wd' t).toInt + i)).1 = 1) ∧ -100000 ≤ (wd' t).toInt ∧ (wd' t).toInt ≤ 100000) ∧ (_ → (dGk sy s q (zG z) c (wd' t).toInt).1 = 21 ∧ szO sy t ≤ (dGk sy s q (zG z) c (wd' t).toInt).2.1) ∧ (_ → szO sy t < 100000) ∧ (_ → _ → -100000 ≤ (wd' t).toInt ∧ (wd' t).toInt ≤ 100000)
    rcases hv t ht with hv | ⟨k, hk, rfl⟩
    · rw [w1 t hv]
      obtain ⟨a1, a2, a3, a4, a5⟩ := ec t hv
      refine ⟨fun y => ?_, fun y => ?_, fun y => ⟨fun i hi => ?_, (a3 y).2⟩, fun y => ?_, a5⟩
      · rw [old0 t hv (by omega) (by omega)]; exact a1 y
      · rw [old0 t hv (by omega) (by omega)]; exact a2 y
      · rw [old t hv (by omega) (by omega) i (by unfold nwS; rw [if_pos (Or.inl y)]; omega)]; exact (a3 y).1 i hi
      · rw [old0 t hv (by omega) (by omega)]; exact a4 y
    · obtain ⟨d1, d2, d3⟩ := dcl_w (hd k hk)
      have l := dsz_lw (sy := sy) (s := s) c k hk
      have w := w2 k hk
      refine ⟨fun y => ?_, fun y => by omega, fun y => ⟨fun i hi => ?_, by omega⟩, fun y => by omega, fun _ => by omega, fun _ _ => by omega⟩
      · rw [new0 k hk, if_neg (by omega)]
      · rw [new k hk i (by unfold nwS; rw [if_pos (Or.inl y)]; omega), if_neg (by omega)]
  · show (_ → (dGk sy s q (zG z) c (wd' t).toInt).1 = 2) ∧ (_ → (dGk sy s q (zG z) c (wd' t).toInt).1 = 22) ∧ (_ → ∀ i : Nat, i < szO sy t → (dGk sy s q (zG z) c ((wd' t).toInt + i)).1 = 2) ∧ (_ → szO sy t < 14)
    rcases hv t ht with hv | ⟨k, hk, rfl⟩
    · rw [w1 t hv]
      obtain ⟨a1, a2, a3, a4⟩ := ct t hv
      refine ⟨fun y => ?_, fun y => ?_, fun y i hi => ?_, a4⟩
      · rw [old0 t hv (by omega) (by omega)]; exact a1 y
      · rw [old0 t hv (by omega) (by omega)]; exact a2 y
      · rw [old t hv (by omega) (by omega) i (by unfold nwS; rw [if_pos (Or.inr y)]; omega)]; exact a3 y i hi
    · obtain ⟨d1, d2, d3⟩ := dcl_w (hd k hk)
      refine ⟨fun y => ?_, fun y => by omega, fun y i hi => ?_, fun y => by omega⟩
      · rw [new0 k hk, if_pos (Or.inl y)]
      · rw [new k hk i (by unfold nwS; rw [if_pos (Or.inr y)]; omega), if_pos (Or.inr y)]
  · rcases hv t ht with hv | ⟨k, hk, rfl⟩
    · rw [w1 t hv]
      rcases ly t hv n1 n11 i hi with y | y
      · exact Or.inl (by omega)
      · exact Or.inr y
    · have e := (dcl_w (hd k hk)).1
      have l := dsz_lw (sy := sy) (s := s) c k hk
      have w := w2 k hk
      have hi : i < nwS sy (s + k) := hi
      exact Or.inl (by omega)
  · rcases hv t ht with hv | ⟨k, hk, rfl⟩
    · rw [w1 t hv]; exact ps t hv n1 n11
    · rw [w2 k hk]; omega
  · have side : ∀ t ∈ vis, srO sy t ≠ 1 → srO sy t ≠ 11 → ∀ k, k < c → (wd t).toInt + nwS sy t ≤ (wd' (s + k)).toInt ∨ (wd' (s + k)).toInt + nwS sy (s + k) ≤ (wd t).toInt := fun t ht n1 n11 k hk => by
      have e := (dcl_w (hd k hk)).1
      have l := dsz_lw (sy := sy) (s := s) c k hk
      have w := w2 k hk
      have p : 1 ≤ wsz sy (s + k) := by unfold wsz; omega
      rcases lay_s ly (by omega) ht n1 n11 with y | y
      · exact Or.inl (by omega)
      · exact Or.inr (by omega)
    rcases hv t ht with hv1 | ⟨k, hk, rfl⟩
    · rcases hv t' ht' with hv2 | ⟨k', hk', rfl⟩
      · rw [w1 t hv1, w1 t' hv2]; exact ap.1 t hv1 t' hv2 ne n1 n11 n1' n11'
      · rw [w1 t hv1]; exact side t hv1 n1 n11 k' hk'
    · rcases hv t' ht' with hv2 | ⟨k', hk', rfl⟩
      · rw [w1 t' hv2]; exact (side t' hv2 n1' n11' k hk).symm
      · have e := (dcl_w (hd k hk)).1
        have e' := (dcl_w (hd k' hk')).1
        have w := w2 k hk
        have w' := w2 k' hk'
        by_cases lt : k < k'
        · have := dsz_lw (sy := sy) (s := s) k' k lt
          exact Or.inl (by omega)
        · have := dsz_lw (sy := sy) (s := s) k k' (by omega)
          exact Or.inr (by omega)
  · rcases hv t ht with hv1 | ⟨k, hk, rfl⟩
    · rcases hv t' ht' with hv2 | ⟨k', hk', rfl⟩
      · exact ap.2 t hv1 t' hv2 n1 n1' e
      · have := (dcl_w (hd k' hk')).2.2; omega
    · have := (dcl_w (hd k hk)).2.2; omega
  · have ho : (dGk sy s q (zG z) c o).1 ≠ 0 := ho
    by_cases h : o < q ∨ ((q + dsz sy s c : Nat) : Int) ≤ o
    · rw [out o h] at ho; exact hG o ho
    · omega
  · show (dGk sy s q (zG z) c o).1 ≠ 15 ∧ (dGk sy s q (zG z) c o).1 ≠ 16
    rcases dGk_tag (sy := sy) (s := s) (q := q) (G := zG z) c o with y | y
    · rw [y]; exact tg o
    · rw [y]; exact ⟨(by decide : (2 : Nat) ≠ 15), (by decide : (2 : Nat) ≠ 16)⟩
/-- rights within a declaration -/
theorem dc_cr {L : List Ev} (cx : ctxP sy vis wd z q) (hv : ∀ t, t ∈ vis' → t ∈ vis ∨ ∃ k, k < c ∧ t = s + k) (hd : ∀ k, k < c → dcl sy (s + k)) (w1 : ∀ t ∈ vis, wd' t = wd t) (w2 : ∀ k, k < c → (wd' (s + k)).toInt = ((q + dsz sy s k : Nat) : Int)) (hb : q + dsz sy s c ≤ (zI z).2) (cr : crt sy vis wd z (L.filter fun e => decide (¬ (s ≤ e.1.1 ∧ e.1.1 < s + c)))) (nv : ∀ t ∈ vis, ∀ k, k < c → t ≠ s + k) : crt sy vis' wd' (zSG z (dGk sy s q (zG z) c)) L := by
  intro e he ht hsh m hm hb'
  obtain ⟨qz, zl, zr, q1, h5, dt, ec, ct, ly, ps, ap, hG, tg⟩ := cx
  rcases hv e.1.1 ht with hv1 | ⟨k, hk, ek⟩
  · have hf : e ∈ L.filter fun e => decide (¬ (s ≤ e.1.1 ∧ e.1.1 < s + c)) := List.mem_filter.mpr ⟨he, decide_eq_true fun y => nv e.1.1 hv1 (e.1.1 - s) (by omega) (by omega)⟩
    have h0 := cr e hf hv1 hsh m hm hb'
    have ag : ∀ o, (zG z o).1 = 2 ∨ (zG z o).1 = 22 → dGk sy s q (zG z) c o = zG z o := fun o ho => by
      by_cases h : o < q ∨ ((q + dsz sy s c : Nat) : Int) ≤ o
      · exact dGk_out c o h
      · rw [dt o (by omega) (by omega)] at ho
        exact absurd ho (by decide)
    have h1 := rgt_mv ag h0
    obtain ⟨r7, r8, r1, r9⟩ := h1
    have ew := w1 e.1.1 hv1
    exact ⟨fun y => by rw [ew]; exact r7 y, fun y => by rw [ew]; exact r8 y, r1, fun y => by rw [ew]; exact r9 y⟩
  · obtain ⟨d1, d2, d3⟩ := dcl_w (hd k hk)
    have m12 : 12 &&& m ≠ 0 := by rcases hm with rfl | rfl <;> decide
    have l := dsz_lw (sy := sy) (s := s) c k hk
    have at' : ∀ i : Nat, i < nwS sy (s + k) → (srO sy (s + k) = 7 ∨ srO sy (s + k) = 9) → dGk sy s q (zG z) c ((wd' (s + k)).toInt + i) = (2, 12, 0) := fun i hi ch => by
      rw [w2 k hk, dGk_at c k _ hk (by omega) (by omega), if_pos ch]
    rw [← ek] at d3 at'
    refine ⟨fun y => ?_, fun y => by omega, fun y => by omega, fun y => ⟨fun i hi => ?_, fun _ i hi => ?_, fun _ i0 i1 => ?_⟩⟩
    · have := at' 0 (by unfold nwS; omega) (Or.inl y)
      rw [show (wd' e.1.1).toInt + ((0 : Nat) : Int) = (wd' e.1.1).toInt by omega] at this
      show (dGk sy s q (zG z) c (wd' e.1.1).toInt).1 = 2 ∧ (dGk sy s q (zG z) c (wd' e.1.1).toInt).2.1 &&& m ≠ 0
      rw [this]
      exact ⟨rfl, m12⟩
    · show (dGk sy s q (zG z) c _).1 = 2
      rw [at' i (by unfold nwS; rw [if_pos (Or.inr y)]; omega) (Or.inr y)]
    · show (dGk sy s q (zG z) c _).2.1 &&& m ≠ 0
      rw [at' i (by unfold nwS; rw [if_pos (Or.inr y)]; omega) (Or.inr y)]
      exact m12
    · have := at' e.1.2.2.toInt.toNat (by unfold nwS; rw [if_pos (Or.inr y)]; omega) (Or.inr y)
      rw [show ((e.1.2.2.toInt.toNat : Nat) : Int) = e.1.2.2.toInt by omega] at this
      show (dGk sy s q (zG z) c _).2.1 &&& m ≠ 0
      rw [this]
      exact m12
/-- it ends -/
theorem dc_cv (cx : ctxP sy vis wd z q) (hb : q + dsz sy s c ≤ (zI z).2) : cv (zSG z (dGk sy s q (zG z) c)) z := by
  obtain ⟨qz, zl, zr, q1, h5, dt, ec, ct, ly, ps, ap, hG, tg⟩ := cx
  refine ⟨rfl, rfl, rfl, rfl, rfl, qz.1, qz.2.2, qz.2.1, fun o => ?_, fun o h15 => by have := tg o; omega⟩
  show zG z o = dGk sy s q (zG z) c o ∨ (zG z o).1 = 0 ∨ ((zG z o).1 = 1 ∧ 0 < o ∧ o < (((zI z).2 : Nat) : Int))
  by_cases h : o < q ∨ ((q + dsz sy s c : Nat) : Int) ≤ o
  · exact Or.inl (dGk_out c o h).symm
  · exact Or.inr (Or.inr ⟨by rw [dt o (by omega) (by omega)], by omega, by omega⟩)
end
