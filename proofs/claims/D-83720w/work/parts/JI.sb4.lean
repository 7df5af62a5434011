/-! (S): what an instruction does; the greatest set of safe positions -/
/-- what a byte of a core may change outside -/
def wSt (E : En) (w w' : Wd) : Prop := w' = w ∨ (∃ v, E.1 12 ∧ (w' = wH w 4 (w.1 4 + 1) ∨ w' = wH (wO w (w.1 4).toNatClampNeg v) 4 (w.1 4 + 1))) ∨ (E.2 13 ∧ ¬ w.1 1 ≤ w.1 2 ∧ w' = wH w 2 (w.1 2 + 1)) ∨
  (∃ c, c < 12 ∧ E.2 c ∧ w.2.1 c 4 = 4 ∧ w' = wL (wL w c 4 0) c 5 1) ∨ (∃ c v, c < 12 ∧ E.1 c ∧ w.2.1 c 0 = 0 ∧ w' = wL (wL w c 0 1) c 1 v)
/-- the host is in order -/
def wGd (w : Wd) : Prop := ¬ w.1 4 < 0 ∧ 0 ≤ w.1 2 ∧ w.1 1 ≤ 200
/-- frames are old ones or lie in R -/
def nFr (R : Nat → Sg → Prop) (Q Q' : Thr) : Prop := (∀ b tb f, Q' b = some tb → f ∈ thF tb → R f.2.1 f.2.2 ∨ ∃ b0 tb0 f0, Q b0 = some tb0 ∧ f0 ∈ thF tb0 ∧ f0.2 = f.2) ∧ ((∃ b tb, Q b = some tb) → ∃ b tb, Q' b = some tb)
section
variable (C : Cx) (M : Nat) (E : En)
/-- where the instruction at j is done with z known, it is done well, and what comes lies in R -/
def rul (R : Nat → Sg → Prop) (j : Nat) (z : Sg) : Prop := ∃ f v, C.1 j = some (f, v) ∧ ∀ s w g Q t th W r, Inv C M s w g Q E → wGd w → Q t = some th → thS th = 0 → thF th = (W, j, z) :: r → s.1 11 + 1 = nI (C.2 (j + 1)) →
  ∃ s' w', xI (sR (rdB s) 13 0) w f v = some (s', w') ∧ wSt E w w' ∧ ∃ g' Q', Inv C M s' w' g' Q' E ∧ nFr R Q Q'
def gfX (X : Nat → Sg → Prop) (j : Nat) (z : Sg) : Prop := ∃ R : Nat → Sg → Prop, (∀ j z, R j z → X j z ∨ rul C M E R j z) ∧ R j z
end
section
variable {C : Cx} {M : Nat} {E : En} {R R' X : Nat → Sg → Prop} {j : Nat} {z : Sg}
theorem nFr.mo {Q Q' : Thr} (h : nFr R Q Q') (f : ∀ j z, R j z → R' j z) : nFr R' Q Q' := ⟨fun b tb fr h1 h2 => (h.1 b tb fr h1 h2).imp_left (f _ _), h.2⟩
theorem rul_mo (h : rul C M E R j z) (f : ∀ j z, R j z → R' j z) : rul C M E R' j z := by
  obtain ⟨fn, v, h1, h2⟩ := h
  refine ⟨fn, v, h1, fun s w g Q t th W r a1 a2 a3 a4 a5 a6 => ?_⟩
  obtain ⟨s', w', b1, b2, g', Q', b3, b4⟩ := h2 s w g Q t th W r a1 a2 a3 a4 a5 a6
  exact ⟨s', w', b1, b2, g', Q', b3, b4.mo f⟩
theorem gf_in (h : X j z) : gfX C M E X j z := ⟨X, fun _ _ h => Or.inl h, h⟩
theorem gf_pf : ∀ j z, gfX C M E X j z → X j z ∨ rul C M E (gfX C M E X) j z := by
  rintro j z ⟨R, h1, h2⟩
  exact (h1 j z h2).imp_right fun h => rul_mo h fun j z h => ⟨R, h1, h⟩
theorem gf_ru (h : rul C M E (gfX C M E X) j z) : gfX C M E X j z := by
  refine ⟨fun j' z' => gfX C M E X j' z' ∨ (j' = j ∧ z' = z), ?_, Or.inr ⟨rfl, rfl⟩⟩
  rintro j' z' (h' | ⟨rfl, rfl⟩)
  · exact (gf_pf j' z' h').imp_right fun h => rul_mo h fun _ _ => Or.inl
  · exact Or.inr (rul_mo h fun _ _ => Or.inl)
/-- a loop's head may be taken as given further on -/
theorem gf_lp (h : rul C M E (gfX C M E (fun j' z' => X j' z' ∨ (j' = j ∧ z' = z))) j z) : gfX C M E X j z := by
  refine ⟨gfX C M E (fun j' z' => X j' z' ∨ (j' = j ∧ z' = z)), ?_, gf_in (Or.inr ⟨rfl, rfl⟩)⟩
  intro j' z' h'
  rcases gf_pf j' z' h' with (h1 | ⟨rfl, rfl⟩) | h1
  · exact Or.inl h1
  · exact Or.inr h
  · exact Or.inr h1
theorem gf_mo {Y : Nat → Sg → Prop} (h : gfX C M E X j z) (f : ∀ j z, X j z → Y j z) : gfX C M E Y j z := by
  obtain ⟨R, h1, h2⟩ := h
  exact ⟨R, fun j z h => (h1 j z h).imp_left (f j z), h2⟩
end
/-- other kinds in the registers -/
def zSA (z : Sg) (A : Kd × Kd × Kd) : Sg := (zG z, A, zI z, zU z, zL z, zR z, zW z)
/-- what an instruction may lean on -/
def fE (C : Cx) (M : Nat) (s : Cr) (g : Gh) (Q : Thr) (A : List Nat) (t pri W : Nat) (z : Sg) : Prop := wM s M ∧ s.1 12 = nI W ∧ s.1 15 = nI pri ∧ pri ≤ 1 ∧ W < M ∧ (zI z).1 + 16 ≤ W ∧ 3 ≤ (zI z).1 ∧ W + (zI z).2 ≤ M ∧ (∀ off, wk C.2 M g Q A t pri (zG z) s.2.1 W (zI z).2 off) ∧ (∀ c, c < 14 → okH M g Q A t (zW z c) c) ∧ inj (zG z) s.2.1 W (zW z)
section
variable {C : Cx} {M : Nat} {E : En} {s s' : Cr} {w w' : Wd} {g g' : Gh} {Q : Thr} {t : Nat} {th th' : Th}
theorem fE_i {W j : Nat} {z : Sg} {r : List Fm} (I : Inv C M s w g Q E) (e : Q t = some th) (e0 : thS th = 0) (ef : thF th = (W, j, z) :: r) : fE C M (sR (rdB s) 13 0) g Q (t :: thA th) t (thP th) W z ∧ rOK C s.2.1 (thP th) W z (s.1 8) (s.1 9) (s.1 10) := by
  obtain ⟨W0, j0, z0, r0, h1, h2, h3, h4, h5, h6, h7, h8, h9, h10, h11, h12, h13, h14⟩ := I.2.1 t th e
  rw [ef] at h1
  cases h1
  obtain ⟨a1, a2, a3, a4, a5, a6⟩ := h5 (W, j, z) (by rw [ef]; exact List.mem_cons_self)
  simp only at a1 a2 a3
  unfold sOK at h9
  rw [e0] at h9
  exact ⟨⟨I.1, h9.2.1, h9.2.2.1, h2, h14, by omega, a1, by omega, a4, a5, a6⟩, h9.2.2.2.2⟩
/-- frames where one thread has gone on -/
theorem nFr_1 {R : Nat → Sg → Prop} {W j j' : Nat} {z z' : Sg} {r : List Fm} {x : (Nat × Nat × Nat) × (Nat × Nat) × List Nat × List Nat × (Int × Nat)} (e : Q t = some th) (ef : thF th = (W, j, z) :: r) (h : R j' z') : nFr R Q (qU Q t ((W, j', z') :: r, x)) := by
  refine ⟨?_, fun _ => ⟨t, _, qU_t⟩⟩
  intro b tb f hb hf
  by_cases c : b = t
  · subst c
    rw [qU_t] at hb
    cases hb
    rcases List.mem_cons.mp hf with y | y
    · subst y; exact Or.inl h
    · exact Or.inr ⟨b, th, f, e, by rw [ef]; exact List.mem_cons_of_mem _ y, rfl⟩
  · rw [qU_n c] at hb
    exact Or.inr ⟨b, tb, f, hb, hf, rfl⟩
theorem aOK_0 {m : Nat → Int32} {q : Nat → Int32} {W j : Nat} {z z' : Sg} {r : List Fm} (I : Inv C M s w g Q E) (e : Q t = some th) (e0 : thS th = 0) (ef : thF th = (W, j, z) :: r) (zl : zL z' = zL z) (em : m = s.2.1) : aOK C (q, m, s.2.2) w g (t :: thA th) t W z' (thP th) 0 := by
  obtain ⟨W0, j0, z0, r0, h1, h2, h3, h4, h5, h6, h7, h8, h9, h10, h11, h12, h13, h14⟩ := I.2.1 t th e
  rw [ef] at h1
  cases h1
  have := h10 (Or.inl e0)
  rw [e0] at this
  subst em
  unfold aOK aRl at this ⊢
  rw [zl]
  exact this
/-- registers alone -/
theorem ru_r {R : Nat → Sg → Prop} {j f : Nat} {v : Int32} {z : Sg} {A : Kd × Kd × Kd} (hC : C.1 j = some (f, v)) (hR : R (j + 1) (zSA z A))
    (H : ∀ s w g Q A' t pri W, fE C M s g Q A' t pri W z → s.1 11 = nI (C.2 (j + 1)) → s.1 13 = 0 → rOK C s.2.1 pri W z (s.1 8) (s.1 9) (s.1 10) → ∃ s', xI s w f v = some (s', w) ∧ s'.2 = s.2 ∧ (∀ i, i ≠ 8 → i ≠ 9 → i ≠ 10 → s'.1 i = s.1 i) ∧ rOK C s.2.1 pri W (zSA z A) (s'.1 8) (s'.1 9) (s'.1 10)) : rul C M E R j z := by
  refine ⟨f, v, hC, fun s w g Q t th W r I _ e e0 ef h11 => ?_⟩
  obtain ⟨hE, hr⟩ := fE_i I e e0 ef
  obtain ⟨s', x1, x2, x3, x4⟩ := H (sR (rdB s) 13 0) w g Q _ t _ W hE h11 rfl hr
  refine ⟨s', w, x1, Or.inl rfl, g, qU Q t ((W, j + 1, zSA z A) :: r, th.2), ?_, nFr_1 e ef hR⟩
  have em : s'.2 = s.2 := x2
  have em1 : s'.2.1 = s.2.1 := by rw [em]
  have x4 : rOK C s'.2.1 (thP th) W (zSA z A) (s'.1 8) (s'.1 9) (s'.1 10) := by rw [em1]; exact x4
  refine go_f I e e0 ef (fun i hi => ?_) (by rw [em]) (fun x hx => (hx (by rw [em1])).elim) (fun _ => rfl) (fun _ _ => ⟨rfl, rfl, rfl⟩) rfl rfl rfl rfl (by rw [em1]; exact hE.2.2.2.2.2.2.2.2.1) (by rw [em1]; exact hE.2.2.2.2.2.2.2.2.2.2) (Or.inl ⟨?_, ?_⟩) x4 ?_ (fun c hc => ⟨(I.2.2.1 c hc).1, Or.inr ⟨hc, by rw [em1], ?_⟩⟩)
  · rw [x3 i (by omega) (by omega) (by omega)]
    show (if i = 13 then _ else if i = 16 then _ else if i = 17 then _ else if i = 11 then _ else s.1 i) = _
    rw [if_neg (by omega), if_neg (by omega), if_neg (by omega), if_neg (by omega)]
  · rw [x3 11 (by omega) (by omega) (by omega)]; exact h11
  · rw [x3 13 (by omega) (by omega) (by omega)]; rfl
  · have : s' = (s'.1, s'.2.1, s.2.2) := by rw [← em]
    rw [this]
    exact aOK_0 I e e0 ef rfl em1
  · unfold aEn gOpn gCh
    rw [em1]
    exact id
end
