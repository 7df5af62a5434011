/-! (S): processes: SEQ FOR, declarations, calls -/
section
variable {C : Cx} {M : Nat} {E : En} {pe : Nat → Nat} {sy : List Sym} {pz : List (Nat × Nat)} {pa : List (List Nat)} {pb : Nat → Nat} {kp : Nat → Bool} {fl mk : Bool} {lk : List (Nat × Nat)} {wh : Option Nat} {T : Nat}
theorem eC_eq {vis : List Nat} {wd wd' : Nat → Int32} {G : Int → Kd} (h : ∀ t ∈ vis, wd' t = wd t) (ec : eC sy vis wd G) : eC sy vis wd' G := fun s hs => by
  have := ec s hs
  rw [← h s hs] at this
  exact this
/-- the context within a SEQ FOR -/
theorem fo_cx {vis : List Nat} {wd wd' : Nat → Int32} {z : Sg} {q s : Nat} (cx : ctxP sy vis wd z q) (h10 : srO sy s = 10) (w1 : ∀ t ∈ vis, wd' t = wd t) (ws : (wd' s).toInt = (q : Int)) (hb : q + 2 ≤ (zI z).2) : ctxP sy (s :: vis) wd' z (q + 2) := by
  obtain ⟨qz, zl, zr, q1, h5, dt, ec, ct, ly, ps, ap, hG, tg⟩ := cx
  have n1 : nwS sy s = 1 := by unfold nwS; rw [if_neg (by omega)]; rfl
  have dq : zG z (q : Int) = (1, 0, 0) := dt q (by omega) (by omega)
  refine ⟨qz, zl, zr, by omega, h5, fun o o1 o2 => dt o (by omega) o2, fun t ht => ?_, fun t ht => ?_, fun t ht k1 k11 i hi => ?_, fun t ht k1 k11 => ?_, ⟨fun t ht t' ht' ne k1 k11 k1' k11' => ?_, fun t ht t' ht' k1 k1' e => ?_⟩, hG, tg⟩
  · rcases List.mem_cons.mp ht with y | y
    · subst y
      refine ⟨fun _ => by rw [ws, dq], fun y => by omega, fun y => by omega, fun y => by omega, fun y => by omega, fun _ _ => by omega⟩
    · exact eC_eq w1 ec t y
  · rcases List.mem_cons.mp ht with y | y
    · subst y
      exact ⟨fun y => by omega, fun y => by omega, fun y => by omega, fun y => by omega⟩
    · have := ct t y
      rw [← w1 t y] at this
      exact this
  · rcases List.mem_cons.mp ht with y | y
    · subst y
      have hi : i < nwS sy t := hi
      rw [n1] at hi
      exact Or.inl (by omega)
    · rw [w1 t y]
      rcases ly t y k1 k11 i hi with p | p
      · exact Or.inl (by omega)
      · exact Or.inr p
  · rcases List.mem_cons.mp ht with y | y
    · subst y; omega
    · rw [w1 t y]; exact ps t y k1 k11
  · have side : ∀ t ∈ vis, srO sy t ≠ 1 → srO sy t ≠ 11 → (wd t).toInt + nwS sy t ≤ (wd' s).toInt ∨ (wd' s).toInt + nwS sy s ≤ (wd t).toInt := fun t ht k1 k11 => by
      rw [ws, n1]
      rcases lay_s ly (by omega) ht k1 k11 with y | y
      · exact Or.inl y
      · exact Or.inr (by omega)
    rcases List.mem_cons.mp ht with y | y
    · rcases List.mem_cons.mp ht' with y' | y'
      · exact (ne (y.trans y'.symm)).elim
      · subst y
        rw [w1 t' y']
        exact (side t' y' k1' k11').symm
    · rcases List.mem_cons.mp ht' with y' | y'
      · subst y'
        rw [w1 t y]
        exact side t y k1 k11
      · rw [w1 t y, w1 t' y']; exact ap.1 t y t' y' ne k1 k11 k1' k11'
  · rcases List.mem_cons.mp ht with y | y
    · subst y; omega
    · rcases List.mem_cons.mp ht' with y' | y'
      · subst y'; omega
      · exact ap.2 t y t' y' k1 k1' e
theorem crt_cx {vis vis' : List Nat} {wd wd' : Nat → Int32} {z : Sg} {L : List Ev} (cr : crt sy vis wd z L) (w1 : ∀ t ∈ vis, wd' t = wd t) (h : ∀ t ∈ vis', t ∈ vis ∨ srO sy t = 10 ∨ srO sy t = 11) : crt sy vis' wd' z L := by
  intro e he hv hs m hm hb
  rcases h e.1.1 hv with y | y
  · have := cr e he y hs m hm hb
    have ew := w1 e.1.1 y
    unfold rgt at this ⊢
    rw [ew]
    exact this
  · exact ⟨fun q => by omega, fun q => by omega, fun q => by omega, fun q => by omega⟩
/-- SEQ FOR -/
theorem tq_for {u s : Nat} {e1 e2 p : Tm} (ih : tq0 C M E pe sy pz pa pb kp fl mk lk wh T p) : tq0 C M E pe sy pz pa pb kp fl mk lk wh T (.div (.index u) (.rem (.arg s) (.elem (.elem e1 e2) p))) := by
  intro l vis lo hi rh D lv q r a z h Y hY hc hg
  obtain ⟨⟨s1, s2, s10, we1, we2, l1, wp⟩, v1, v2, v3, v4, cx, cr, hx, hy, h5, ho, hT⟩ := h
  rw [kP] at hc
  rw [nQ] at hg hT
  rw [evP] at cr
  rw [offP] at ho
  rw [mz] at hx hy
  have hx : q + (2 + max (max (exw e1) (exw e2)) (mz sy pz p 0).1) ≤ (zI z).2 := hx
  have ns : ∀ t ∈ vis, t ≠ s := fun t ht y => by have := v1 t ht; omega
  have w1 : ∀ t ∈ vis, wdO (upF rh s lv q) D t = wdO rh D t := fun t ht => by
    unfold wdO upF
    rw [if_neg (ns t ht)]
  have hb5 := cx.2.2.2.2.1
  have qI : (nI q).toInt = (q : Int) := nI_toInt (by omega)
  have e0 : D lv + nI q = nI q := by rw [v3.1]; exact Int32.zero_add _
  have wS : wdO (upF rh s lv q) D s = nI q := by
    unfold wdO upF
    rw [if_pos rfl]
    exact e0
  have d1I : (D lv + nI q + 1).toInt = (q : Int) + 1 := by
    rw [e0, i_add qI (show ((1 : Int32)).toInt = 1 from rfl) (by omega) (by omega)]
  have cx2 := fo_cx (wd' := wdO (upF rh s lv q) D) cx s10 w1 (by rw [wS]; exact qI) (by omega)
  obtain ⟨t1, t2⟩ := tm_of (n := max (exw e1) (exw e2)) cx2 (by omega)
  have dt := cx.2.2.2.2.2.1
  have hc' := hc
  rw [cod_app, kE_len] at hc'
  have c3 := hc'.2.2
  rw [cod_app, cod_app] at c3
  have c4 := c3.1.2
  simp only [List.length_append, kE_len, List.length_cons, List.length_nil] at c4
  refine ty_for (f := q + 2) (q := q) (nP := nQ sy pa p 0) hY we1.1 we2.1 (eC_eq w1 cx.2.2.2.2.2.2.1) t1 t2 cx.1 (kP_len _ _ _ _ _ _ _ _ _ _) (by rw [e0, qI, dt q (by omega) (by omega)]) (by rw [d1I, dt _ (by omega) (by omega)]) hc (fun Y' hY' hg' => ?_) hg
  refine ih (l - 1) (s :: vis) (s + 1) hi (upF rh s lv q) D lv (q + 2) r (a + nE sy e1 + nE sy e2 + 6) z ⟨wp, fun t ht => ?_, v2, ⟨v3.1, fun t ht k1 k11 => ?_⟩, by omega, cx2, crt_cx (crt_sub cr (fun e he => List.mem_append_right _ he)) w1 (fun t ht => ?_), by omega, hy, h5, ho, by omega⟩ Y' hY' ?_ hg'
  · rcases List.mem_cons.mp ht with y | y
    · omega
    · have := v1 t y; omega
  · rcases List.mem_cons.mp ht with y | y
    · subst y
      rw [wS, qI]
      unfold upF
      rw [if_pos rfl]
      exact ⟨Nat.le_refl _, by omega⟩
    · rw [w1 t y]
      unfold upF
      rw [if_neg (ns t y)]
      exact v3.2 t y k1 k11
  · rcases List.mem_cons.mp ht with y | y
    · subst y; exact Or.inr (Or.inl s10)
    · exact Or.inl y
  · have e4 : a + nE sy e1 + 1 + (nE sy e2 + 5) = a + nE sy e1 + nE sy e2 + 6 := by omega
    have e5 : a + nE sy e1 + 1 + (nE sy e2 + (0 + 1 + 1 + 1 + 1 + 1)) = a + nE sy e1 + nE sy e2 + 6 := by omega
    first | (rw [e4] at c4; exact c4) | (rw [e5] at c4; exact c4)
theorem see_mem {vis : List Nat} {s : Nat} : ∀ c t, t ∈ seeS vis s c → t ∈ vis ∨ ∃ k, k < c ∧ t = s + k := by
  intro c
  induction c with
  | zero => intro t h; exact Or.inl h
  | succ c ih =>
    intro t h
    rcases List.mem_cons.mp h with y | y
    · exact Or.inr ⟨c, by omega, y⟩
    · rcases ih t y with z | ⟨k, k1, k2⟩
      · exact Or.inl z
      · exact Or.inr ⟨k, by omega, k2⟩
/-- a declaration -/
theorem tq_decl {u s c : Nat} {p : Tm} (ih : tq0 C M E pe sy pz pa pb kp fl mk lk wh T p) : tq0 C M E pe sy pz pa pb kp fl mk lk wh T (.div (.index u) (.rem (.elem (.index s) (.index c)) p)) := by
  intro l vis lo hi rh D lv q r a z h Y hY hc hg
  obtain ⟨⟨s1, c1, sc, hd, wp⟩, v1, v2, v3, v4, cx, cr, hx, hy, h5, ho, hT⟩ := h
  rw [kP, cod_app, dcI_len] at hc
  rw [nQ] at hg hT
  rw [evP] at cr
  rw [offP] at ho
  rw [mz] at hx hy
  have hx : q + (dsz sy s c + (mz sy pz p 0).1) ≤ (zI z).2 := hx
  have hb5 := cx.2.2.2.2.1
  have nv : ∀ t ∈ vis, ∀ k, k < c → t ≠ s + k := fun t ht k hk y => by have := v1 t ht; omega
  have w1 : ∀ t ∈ vis, wdO (upD sy rh s c lv q) D t = wdO rh D t := fun t ht => by
    unfold wdO upD
    rw [if_neg (fun y => nv t ht (t - s) (by omega) (by omega))]
  have w2 : ∀ k, k < c → (wdO (upD sy rh s c lv q) D (s + k)).toInt = ((q + dsz sy s k : Nat) : Int) := fun k hk => by
    have l := dsz_lw (sy := sy) (s := s) c k hk
    unfold wdO upD
    rw [if_pos ⟨by omega, by omega⟩]
    show (D lv + nI (q + dsz sy s (s + k - s))).toInt = _
    rw [v3.1, show s + k - s = k by omega, Int32.zero_add, nI_toInt (by omega)]
  have hv := fun t ht => see_mem (vis := vis) (s := s) c t ht
  have cx2 := dc_cx cx hv nv hd w1 w2 (by omega)
  have crf : crt sy vis (wdO rh D) z ((evP kp fl sy pb pa p 0 r).filter fun e => decide (¬ (s ≤ e.1.1 ∧ e.1.1 < s + c))) := by
    refine crt_sub cr fun e he => ?_
    obtain ⟨e1, e2⟩ := List.mem_filter.mp he
    split
    · refine List.mem_filter.mpr ⟨e1, ?_⟩
      have := of_decide_eq_true e2
      simp only [Bool.or_eq_true, decide_eq_true_iff]
      omega
    · exact e1
  have cr2 := dc_cr cx hv hd w1 w2 (by omega) crf nv
  have start : gfX C M E Y a (zSG z (zG z)) := by
    refine ty_dc v3.1 cx.1.2.1 cx.1.2.2 cx.2.2.2.1 (by omega) c a (zG z) cx.2.2.2.2.2.2.2.2.2.2.2.2 (by omega) cx.2.2.2.2.2.1 hc.1 ?_
    refine ih l (seeS vis s c) (s + c) hi (upD sy rh s c lv q) D lv (q + dsz sy s c) r (a + 4 * c) (zSG z (dGk sy s q (zG z) c)) ⟨wp, fun t ht => ?_, v2, ⟨v3.1, fun t ht k1 k11 => ?_⟩, v4, cx2, cr2, by show q + dsz sy s c + (mz sy pz p 0).1 ≤ (zI z).2; omega, hy, h5, ho, by omega⟩ Y hY hc.2 ?_
    · rcases hv t ht with y | ⟨k, y1, y2⟩
      · have := v1 t y; omega
      · omega
    · rcases hv t ht with y | ⟨k, y1, y2⟩
      · rw [w1 t y]
        unfold upD
        rw [if_neg (fun y' => nv t y (t - s) (by omega) (by omega))]
        exact v3.2 t y k1 k11
      · subst y2
        have l := dsz_lw (sy := sy) (s := s) c k y1
        rw [w2 k y1]
        unfold upD
        rw [if_pos ⟨by omega, by omega⟩]
        exact ⟨Nat.le_refl _, by omega⟩
    · rw [show a + 4 * c + nQ sy pa p 0 = a + (4 * c + nQ sy pa p 0) by omega]
      exact gf_cv hY hg (dc_cv cx (by omega))
  rw [zSG_any cx.1.1] at start
  exact start
end
