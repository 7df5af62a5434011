/-! (S): processes: motives and plain cases -/
section
variable (C : Cx) (M : Nat) (E : En) (pe : Nat → Nat) (sy : List Sym) (pz : List (Nat × Nat)) (pa : List (List Nat)) (pb : Nat → Nat) (kp : Nat → Bool) (fl mk : Bool) (lk : List (Nat × Nat)) (wh : Option Nat) (T : Nat)
/-- places grow -/
def plm : Prop := ∀ i j, i ≤ j → j ≤ T → C.2 i ≤ C.2 j ∧ C.2 j ≤ 6000
/-- PROCs are safe -/
def prO : Prop := ∀ p, p < pa.length → (∀ lo, (pz.getD p (0, 0)).1 + 3 + (pz.getD p (0, 0)).2 + 3 ≤ lo → lo ≤ 5000 → gfX C M E (fun _ _ => False) (pe p) (zEn sy pb (pz.getD p (0, 0)).1 (pa.getD p []) lo)) ∧ (pa.getD p []).length + 1 ≤ (pz.getD p (0, 0)).1 ∧ (pa.getD p []).length < 50 ∧ (pz.getD p (0, 0)).1 < 10000 ∧ ∀ q ∈ pa.getD p [], (srO sy q = 6 → 1 ≤ szO sy q) ∧ (srO sy q = 3 ∨ srO sy q = 4 ∨ srO sy q = 6 ∨ srO sy q = 8)
/-- levels -/
def lvC (vis : List Nat) (rh : Nat → Nat × Nat) (D : Nat → Int32) (lv : Nat) : Prop := D lv = 0 ∧ ∀ t ∈ vis, srO sy t ≠ 1 → srO sy t ≠ 11 → (rh t).1 ≤ lv ∧ (wdO rh D t).toInt ≤ 5000 * (lv + 1)
/-- what holds ahead of a process -/
def hypQ (A : Tm) (m l : Nat) (vis : List Nat) (lo hi : Nat) (rh : Nat → Nat × Nat) (D : Nat → Int32) (lv q : Nat) (r : Nat → Int32) (a : Nat) (z : Sg) : Prop := wfQ sy pa A m l vis lo hi ∧ (∀ t ∈ vis, t < lo ∨ 200 ≤ t) ∧ hi ≤ 200 ∧ lvC sy vis rh D lv ∧ l + lv ≤ 17 ∧ ctxP sy vis (wdO rh D) z q ∧ crt sy vis (wdO rh D) z (evP kp fl sy pb pa A m r) ∧ q + (mz sy pz A m).1 ≤ (zI z).2 ∧ (mz sy pz A m).2 + 3 ≤ (zI z).1 ∧ (zI z).1 ≤ 5000 ∧ offP kp fl mk sy pb pa lk wh A m r = [] ∧ a + nQ sy pa A m ≤ T
def tq0 (A : Tm) : Prop := ∀ l vis lo hi rh D lv q r a z, hypQ sy pz pa pb kp fl mk lk wh T A 0 l vis lo hi rh D lv q r a z → ∀ Y, clo Y → cod C pe a (kP sy pz pa A 0 rh D lv q r a 0 0) → gfX C M E Y (a + nQ sy pa A 0) z → gfX C M E Y a z
def tq1 (A : Tm) : Prop := ∀ l vis lo hi rh D lv q r a z, hypQ sy pz pa pb kp fl mk lk wh T A 1 l vis lo hi rh D lv q r a z → ∀ Y, clo Y → cod C pe a (kP sy pz pa A 1 rh D lv q r a 0 0) → gfX C M E Y (a + nQ sy pa A 1) z → gfX C M E Y a z
def tq2 (A : Tm) : Prop := ∀ l vis lo hi rh D lv q r a z, hypQ sy pz pa pb kp fl mk lk wh T A 2 l vis lo hi rh D lv q r a z → ∀ Y x, clo Y → cod C pe a (kP sy pz pa A 2 rh D lv q r a x 0) → gfX C M E Y x z → gfX C M E Y (a + nQ sy pa A 2) z → gfX C M E Y a z
end
section
variable {C : Cx} {M : Nat} {E : En} {pe : Nat → Nat} {sy : List Sym} {pz : List (Nat × Nat)} {pa : List (List Nat)} {pb : Nat → Nat} {kp : Nat → Bool} {fl mk : Bool} {lk : List (Nat × Nat)} {wh : Option Nat} {T : Nat}
theorem crt_sub {vis : List Nat} {wd : Nat → Int32} {z : Sg} {L L' : List Ev} (h : crt sy vis wd z L) (hs : ∀ e ∈ L', e ∈ L) : crt sy vis wd z L' := fun e he => h e (hs e he)
theorem tm_of {vis : List Nat} {wd : Nat → Int32} {z : Sg} {q n : Nat} (cx : ctxP sy vis wd z q) (h : q + n ≤ (zI z).2) : (∀ i : Nat, q ≤ i → i < q + n → (zG z i).1 = 1) ∧ q + n < 2 ^ 31 := by
  obtain ⟨-, -, -, -, h5, dt, -⟩ := cx
  exact ⟨fun i h1 h2 => by rw [dt i (by omega) (by omega)], by omega⟩
theorem off_app {A B : List Nat} (h : A ++ B = []) : A = [] ∧ B = [] := List.append_eq_nil_iff.mp h
/-- STOP -/
theorem tq_stop {u : Nat} : tq0 C M E pe sy pz pa pb kp fl mk lk wh T (.div (.index u) .result) := by
  intro l vis lo hi rh D lv q r a z h Y hY hc hg
  obtain ⟨-, -, -, -, -, cx, -⟩ := h
  rw [kP] at hc
  exact gf_ru (i_stop (Or.inl rfl) hc.1 cx.1.2.1 cx.1.2.2)
theorem tq_asg {u : Nat} {v e : Tm} : tq0 C M E pe sy pz pa pb kp fl mk lk wh T (.div (.index u) (.add v e)) := by
  intro l vis lo hi rh D lv q r a z h Y hY hc hg
  obtain ⟨wf, -, -, -, -, cx, -, hx, -⟩ := h
  rw [kP] at hc
  rw [nQ] at hg
  have hx : q + max (exw v) (exw e) ≤ (zI z).2 := hx
  obtain ⟨t1, t2⟩ := tm_of cx hx
  exact gf_ru (ty_asg (f := q) wf.2.1 wf.2.2.1 cx.2.2.2.2.2.2.1 t1 t2 cx.1.1 cx.1.2.1 cx.1.2.2 hc hg)
/-- a channel's event -/
theorem ev_c {vis : List Nat} {r : Nat → Int32} {c : Tm} {m : Nat} (kc : ∀ s, sChn (srO sy s) = true → kp s = true) (wf : wfC sy vis c) : (kyT sy r c, m) ∈ evT kp sy r m c ∧ shpE sy (kyT sy r c, m) := by
  unfold wfC at wf
  split at wf
  · rename_i s
    rw [evT, if_pos (kc s wf.2)]
    exact ⟨List.mem_cons_self, fun _ => rfl⟩
  · rename_i s e
    rw [evT]
    refine ⟨List.mem_append_right _ List.mem_cons_self, fun y => ?_⟩
    have : srO sy s = 7 ∨ srO sy s = 8 ∨ srO sy s = 1 := y
    have := wf.2.1
    omega
  · exact wf.elim
theorem tq_snd {u : Nat} {c e : Tm} (o : oneW E) (kc : ∀ s, sChn (srO sy s) = true → kp s = true) : tq0 C M E pe sy pz pa pb kp fl mk lk wh T (.div (.index u) (.sub c e)) := by
  intro l vis lo hi rh D lv q r a z h Y hY hc hg
  obtain ⟨wf, -, -, -, -, cx, cr, hx, -⟩ := h
  rw [kP] at hc
  rw [nQ] at hg
  rw [evP] at cr
  have hx : q + max (exw c) (exw e) ≤ (zI z).2 := hx
  obtain ⟨t1, t2⟩ := tm_of cx hx
  obtain ⟨e1, e2⟩ := ev_c (m := 4) (r := r) kc wf.2.1
  exact gf_ru (ty_snd (f := q) o wf.2.1 wf.2.2.1 cx.2.2.2.2.2.2.1 (cr _ (List.mem_append_right _ e1) (wfC_v wf.2.1) e2 4 (Or.inl rfl) (show (4 : Nat) &&& 4 ≠ 0 by decide)) t1 t2 cx.1.1 cx.1.2.1 cx.1.2.2 hc hg)
theorem tq_tak {u : Nat} {c v : Tm} (o : oneW E) (kc : ∀ s, sChn (srO sy s) = true → kp s = true) : tq0 C M E pe sy pz pa pb kp fl mk lk wh T (.div (.index u) (.mul c v)) := by
  intro l vis lo hi rh D lv q r a z h Y hY hc hg
  obtain ⟨wf, -, -, -, -, cx, cr, hx, -⟩ := h
  rw [kP] at hc
  rw [nQ] at hg
  rw [evP] at cr
  have hx : q + max (exw c) (exw v) ≤ (zI z).2 := hx
  obtain ⟨t1, t2⟩ := tm_of cx hx
  obtain ⟨e1, e2⟩ := ev_c (m := 8) (r := r) kc wf.2.1
  exact gf_ru (ty_tak (f := q) o wf.2.1 wf.2.2 cx.2.2.2.2.2.2.1 (cr _ (List.mem_append_left _ e1) (wfC_v wf.2.1) e2 8 (Or.inr rfl) (show (8 : Nat) &&& 8 ≠ 0 by decide)) t1 t2 cx.1.1 cx.1.2.1 cx.1.2.2 hc hg)
/-- SEQ -/
theorem tq_seq {u : Nat} {ps : Tm} (ih : tq1 C M E pe sy pz pa pb kp fl mk lk wh T ps) : tq0 C M E pe sy pz pa pb kp fl mk lk wh T (.div (.index u) (.length ps)) := by
  intro l vis lo hi rh D lv q r a z h Y hY hc hg
  obtain ⟨wf, v1, v2, v3, v4, cx, cr, hx, hy, h5, ho, hT⟩ := h
  rw [kP] at hc
  rw [nQ] at hg hT
  rw [evP] at cr
  rw [offP] at ho
  exact ih (l - 1) vis lo hi rh D lv q r a z ⟨wf.2, v1, v2, v3, by omega, cx, cr, hx, hy, h5, ho, hT⟩ Y hY hc hg
/-- a process in a row -/
theorem tq_row {p ps : Tm} (i1 : tq0 C M E pe sy pz pa pb kp fl mk lk wh T p) (i2 : tq1 C M E pe sy pz pa pb kp fl mk lk wh T ps) : tq1 C M E pe sy pz pa pb kp fl mk lk wh T (.elem p ps) := by
  intro l vis lo hi rh D lv q r a z h Y hY hc hg
  obtain ⟨⟨m, w1, w2⟩, v1, v2, v3, v4, cx, cr, hx, hy, h5, ho, hT⟩ := h
  rw [kP, cod_app, kP_len] at hc
  rw [nQ] at hg hT
  rw [evP] at cr
  rw [offP] at ho
  rw [mz] at hx hy
  obtain ⟨o1, o2⟩ := off_app ho
  have hm : lo ≤ m ∧ m ≤ hi := ⟨wfQ.le _ _ _ _ _ _ w1, wfQ.le _ _ _ _ _ _ w2⟩
  refine i1 l vis lo m rh D lv q r a z ⟨w1, v1, by omega, v3, v4, cx, crt_sub cr (fun e he => List.mem_append_left _ he), by omega, by omega, h5, o1, by omega⟩ Y hY hc.1 ?_
  exact i2 l vis m hi rh D lv q r (a + nQ sy pa p 0) z ⟨w2, fun t ht => (v1 t ht).imp_left (fun y => by omega), v2, v3, v4, cx, crt_sub cr (fun e he => List.mem_append_right _ he), by omega, by omega, h5, o2, by omega⟩ Y hY hc.2 (by rw [show a + nQ sy pa p 0 + nQ sy pa ps 1 = a + (nQ sy pa p 0 + nQ sy pa ps 1) by omega]; exact hg)
/-- WHILE -/
theorem tq_while {u : Nat} {e p : Tm} (ih : tq0 C M E pe sy pz pa pb kp fl mk lk wh T p) : tq0 C M E pe sy pz pa pb kp fl mk lk wh T (.div (.index u) (.div e p)) := by
  intro l vis lo hi rh D lv q r a z h Y hY hc hg
  obtain ⟨wf, v1, v2, v3, v4, cx, cr, hx, hy, h5, ho, hT⟩ := h
  rw [kP] at hc
  rw [nQ] at hg hT
  rw [evP] at cr
  rw [offP] at ho
  rw [mz] at hx hy
  have hx : q + max (exw e) (mz sy pz p 0).1 ≤ (zI z).2 := hx
  obtain ⟨t1, t2⟩ := tm_of (n := exw e) cx (by omega)
  have hc' := hc
  rw [cod_app, kE_len] at hc'
  have c3 := hc'.2.2
  rw [cod_app] at c3
  refine ty_while (f := q) (nP := nQ sy pa p 0) hY wf.1.1 cx.2.2.2.2.2.2.1 t1 t2 cx.1 (kP_len _ _ _ _ _ _ _ _ _ _) hc (fun Y' hY' hg' => ?_) hg
  exact ih (l - 1) vis lo hi rh D lv q r (a + nE sy e + 1) z ⟨wf.2.2, v1, v2, v3, by omega, cx, crt_sub cr (fun e he => List.mem_append_right _ he), by omega, hy, h5, ho, by omega⟩ Y' hY' c3.1 hg'
/-- IF -/
theorem tq_if {u : Nat} {gs : Tm} (ih : tq2 C M E pe sy pz pa pb kp fl mk lk wh T gs) : tq0 C M E pe sy pz pa pb kp fl mk lk wh T (.div (.index u) (.rem .null gs)) := by
  intro l vis lo hi rh D lv q r a z h Y hY hc hg
  obtain ⟨wf, v1, v2, v3, v4, cx, cr, hx, hy, h5, ho, hT⟩ := h
  rw [kP, cod_app, kP_len] at hc
  rw [nQ] at hg hT
  rw [evP] at cr
  rw [offP] at ho
  refine ih (l - 1) vis lo hi rh D lv q r a z ⟨wf.2.2, v1, v2, v3, by omega, cx, cr, hx, hy, h5, ho, by omega⟩ Y _ hY hc.1 (by rw [show a + nQ sy pa gs 2 + 1 = a + (nQ sy pa gs 2 + 1) by omega]; exact hg) (gf_ru ?_)
  exact i_stop (Or.inr (Or.inl rfl)) hc.2.1 cx.1.2.1 cx.1.2.2
/-- a choice -/
theorem tq_ch {e p gs : Tm} (i1 : tq0 C M E pe sy pz pa pb kp fl mk lk wh T p) (i2 : tq2 C M E pe sy pz pa pb kp fl mk lk wh T gs) : tq2 C M E pe sy pz pa pb kp fl mk lk wh T (.elem (.elem e p) gs) := by
  intro l vis lo hi rh D lv q r a z h Y x hY hc hgx hg
  obtain ⟨⟨we, l1, m, w1, w2⟩, v1, v2, v3, v4, cx, cr, hx, hy, h5, ho, hT⟩ := h
  rw [kP] at hc
  rw [nQ] at hg hT
  rw [evP] at cr
  rw [offP] at ho
  rw [mz] at hx hy
  have hx : q + max (max (mz sy pz p 0).1 (exw e)) (mz sy pz gs 2).1 ≤ (zI z).2 := hx
  have hy : max (mz sy pz p 0).2 (mz sy pz gs 2).2 + 3 ≤ (zI z).1 := hy
  obtain ⟨o1, o2⟩ := off_app ho
  have hm : lo ≤ m ∧ m ≤ hi := ⟨wfQ.le _ _ _ _ _ _ w1, wfQ.le _ _ _ _ _ _ w2⟩
  obtain ⟨t1, t2⟩ := tm_of (n := exw e) cx (by omega)
  have hc' := hc
  rw [cod_app, kE_len] at hc'
  have c3 := hc'.2.2
  rw [cod_app, kP_len] at c3
  refine ty_ch (f := q) (nP := nQ sy pa p 0) we.1 cx.2.2.2.2.2.2.1 t1 t2 cx.1 (kP_len _ _ _ _ _ _ _ _ _ _) hc (fun hg' => ?_) hgx ?_
  · exact i1 (l - 1) vis lo m rh D lv q r (a + nE sy e + 1) z ⟨w1, v1, by omega, v3, by omega, cx, crt_sub cr (fun e he => List.mem_append_left _ (List.mem_append_right _ he)), by omega, by omega, h5, o1, by omega⟩ Y hY c3.1 hg'
  · refine i2 l vis m hi rh D lv q r (a + nE sy e + nQ sy pa p 0 + 2) z ⟨w2, fun t ht => (v1 t ht).imp_left (fun y => by omega), v2, v3, v4, cx, crt_sub cr (fun e he => List.mem_append_right _ he), by omega, by omega, h5, o2, by omega⟩ Y x hY ?_ hgx (by rw [show a + nE sy e + nQ sy pa p 0 + 2 + nQ sy pa gs 2 = a + (nE sy e + nQ sy pa p 0 + 2 + nQ sy pa gs 2) by omega]; exact hg)
    have := c3.2.2
    rw [show a + nE sy e + 1 + nQ sy pa p 0 + 1 = a + nE sy e + nQ sy pa p 0 + 2 by omega] at this
    exact this
end
