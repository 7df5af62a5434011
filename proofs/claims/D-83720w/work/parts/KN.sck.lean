/-! (S): processes: PAR, PAR FOR -/
theorem pw_all {α : Type} {R : α → α → Prop} (sm : ∀ x y, R x y → R y x) : ∀ (L : List α), L.Pairwise R → ∀ x ∈ L, ∀ y ∈ L, x ≠ y → R x y := by
  intro L
  induction L with
  | nil => intro _ x h; exact nomatch h
  | cons a L ih =>
    intro h x hx y hy ne
    rw [List.pairwise_cons] at h
    rcases List.mem_cons.mp hx with e | e
    · rcases List.mem_cons.mp hy with e' | e'
      · exact (ne (e.trans e'.symm)).elim
      · rw [e]; exact h.1 y e'
    · rcases List.mem_cons.mp hy with e' | e'
      · rw [e']; exact sm _ _ (h.1 x e)
      · exact ih h.2 x e y e' ne
section
variable {C : Cx} {M : Nat} {E : En} {pe : Nat → Nat} {sy : List Sym} {pz : List (Nat × Nat)} {pa : List (List Nat)} {pb : Nat → Nat} {kp : Nat → Bool} {fl mk : Bool} {lk : List (Nat × Nat)} {wh : Option Nat} {T : Nat}
/-- all branches are known -/
theorem par_fin {Bs : List (Br × List Ev)} {KP : List It} {vis : List Nat} {wd : Nat → Int32} {z : Sg} {q a b beh : Nat} {Y : Nat → Sg → Prop} {L : List Ev} (hY : clo Y) (cx : ctxP sy vis wd z q) (cr : crt sy vis wd z L) (q3 : q + 3 ≤ (zI z).2) (hl : Bs.length < 1000) (ok : ∀ X ∈ Bs, bX sy vis wd z q b (fun z j => gfX C M E Y j z) X ∧ ∀ e ∈ X.2, e ∈ L) (pw : Bs.Pairwise fun X X' => brAp X.1 X'.1) (lw : ∃ X ∈ Bs, X.1.2.2.1 ≠ 0)
    (hc : cod C pe a (hdQ a q Bs.length beh ++ stB (a + 7) (Bs.map fun X => X.1) ++ iO 18 :: KP)) (h : gfX C M E Y beh z) : gfX C M E Y a z := by
  have cx' := cx
  obtain ⟨qz, zl, zr, q1, hb5, dt, ec, ct, ly, ps, ap, hG, tg⟩ := cx
  have br : ∀ B ∈ Bs.map (fun X => X.1), brOK (hdG (zG z) q) (zW z) q (zI z).1 B ∧ B.1 ≤ 5000 ∧ gfX C M E Y B.2.1 B.2.2.2 := by
    intro B hB
    obtain ⟨X, hX, rfl⟩ := List.mem_map.mp hB
    obtain ⟨⟨d, lc, hc, mw, mr, st, rw', y1, y2, y3, y4, y5, y6, y7, y8, y9⟩, y10⟩ := ok X hX
    rw [y1]
    exact ⟨br_ok cx' (crt_sub cr y10) y2 y4 y5 y7 y6, y8, y9⟩
  have pw' : (Bs.map fun X => X.1).Pairwise brAp := List.pairwise_map.mpr pw
  obtain ⟨X0, hX0, l0⟩ := lw
  refine ty_par (Bs := Bs.map fun X => X.1) hY qz zr q1 q3 (by omega) hG tg (fun o o1 o2 => by rw [dt o o1 o2]) (by rw [List.length_map]; exact hl) (fun B hB => (br B hB).1) (pw_all (fun _ _ => brAp_sy) _ pw') ?_ ⟨X0.1, List.mem_map.mpr ⟨X0, hX0, rfl⟩, l0⟩ (fun B hB => (br B hB).2.1) (by rw [List.length_map]; exact hc) (fun B hB => (br B hB).2.2) h
  refine List.Pairwise.imp_of_mem (fun {B B'} hB hB' hap he => ?_) pw'
  subst he
  obtain ⟨-, -, -, -, e5, e6, -⟩ := (br B hB).1
  have := hap.1
  omega
theorem mkF_v {vis : List Nat} {lo : Nat} (v1 : ∀ t ∈ vis, t < lo ∨ 200 ≤ t) : ∀ t ∈ vis, mkF mk lo t = true := by
  intro t ht
  unfold mkF
  have := v1 t ht
  simp only [Bool.or_eq_true, decide_eq_true_iff]
  rcases this with y | y
  · exact Or.inl (Or.inr y)
  · exact Or.inr y
/-- PAR and PRI PAR -/
theorem tq_par0 {u z0 : Nat} {ps A : Tm} {pri : Bool} (eA : A = .div (.index u) (.sum (.elem (.index z0) ps)) ∧ pri = false ∨ A = .div (.index u) (.old (.elem (.index z0) ps)) ∧ pri = true) (ih : tq4 C M E pe sy pz pa pb kp fl mk lk wh T ps) : tq0 C M E pe sy pz pa pb kp fl mk lk wh T A := by
  intro l vis lo hi rh D lv q r a z h Y hY hc hg
  obtain ⟨wf, v1, v2, v3, v4, cx, cr, hx, hy, h5, ho, hT⟩ := h
  have g0 : z0 = lo ∧ 2 ≤ tmN ps ∧ tmN ps ≤ 8 ∧ 1 ≤ l ∧ wfQ sy pa ps 1 (l - 1) vis lo hi := by
    rcases eA with ⟨rfl, -⟩ | ⟨rfl, -⟩
    · exact wf
    · obtain ⟨w1, w2, w3, w4⟩ := wf
      exact ⟨w1, by omega, by omega, w3, w4⟩
  have g1 : kP sy pz pa A 0 rh D lv q r a 0 0 = hdQ a q (tmN ps) (a + 8 + 4 * tmN ps + nQ sy pa ps 4) ++ hB sy pz pa pri ps (a + 7) (a + 8 + 4 * tmN ps) 3 ++ iO 18 :: kP sy pz pa ps 4 rh D lv q r (a + 8 + 4 * tmN ps) 3 q ∧ nQ sy pa A 0 = 8 + 4 * tmN ps + nQ sy pa ps 4 ∧ evP kp fl sy pb pa A 0 r = evP kp fl sy pb pa ps 1 r ∧ offP kp fl mk sy pb pa lk wh A 0 r = offP kp fl mk sy pb pa lk wh ps 1 r ++ (if clB (mkF mk z0) [] (brs kp fl sy pb pa ps r) then [u] else []) ∧ mz sy pz A 0 = (3, 3 + (mz sy pz ps 4).2) := by
    rcases eA with ⟨rfl, rfl⟩ | ⟨rfl, rfl⟩
    · rw [kP, nQ, evP, offP, mz]; exact ⟨rfl, rfl, rfl, rfl, rfl⟩
    · rw [kP, nQ, evP, offP, mz]; exact ⟨rfl, rfl, rfl, rfl, rfl⟩
  obtain ⟨e1, e2, e3, e4, e5⟩ := g1
  rw [e1] at hc
  rw [e2] at hg hT
  rw [e3] at cr
  rw [e4] at ho
  rw [e5] at hx hy
  have hx : q + 3 ≤ (zI z).2 := hx
  have hy : 3 + (mz sy pz ps 4).2 + 3 ≤ (zI z).1 := hy
  obtain ⟨o1, o2⟩ := off_app ho
  obtain ⟨w0, w2, w8, l1, wp⟩ := g0
  subst w0
  have hcl : clB (mkF mk z0) [] (brs kp fl sy pb pa ps r) = false := by
    cases c : clB (mkF mk z0) [] (brs kp fl sy pb pa ps r) with
    | false => rfl
    | true => rw [c] at o2; exact nomatch o2
  have hc' := hc
  rw [cod_app, List.length_append, hB_len] at hc'
  have c3 := hc'.2.2
  have lh : (hdQ a q (tmN ps) (a + 8 + 4 * tmN ps + nQ sy pa ps 4)).length = 7 := rfl
  rw [lh, show a + (7 + 4 * tmN ps) + 1 = a + 8 + 4 * tmN ps by omega] at c3
  obtain ⟨Bs, b1, b2, b3, b4, -, b6⟩ := ih (l - 1) vis z0 hi rh D lv q r (a + 8 + 4 * tmN ps) z wp v1 v2 v3 (by omega) cx hx h5 o1 (by omega) Y 3 (a + 7) pri [] (mkF mk z0) hY (Nat.le_refl _) (by omega) c3 (mkF_v v1) hcl
  refine par_fin (b := 3) hY cx cr hx (by omega) (fun X hX => ⟨(b3 X hX).1, (b3 X hX).2.2⟩) b4 (b6 w2) (by rw [b1, b2]; exact hc) ?_
  rw [show a + 8 + 4 * tmN ps + nQ sy pa ps 4 = a + (8 + 4 * tmN ps + nQ sy pa ps 4) by omega]
  exact hg
/-- a name without words is seen -/
theorem ctx_11 {vis : List Nat} {wd : Nat → Int32} {z : Sg} {q s : Nat} (cx : ctxP sy vis wd z q) (h : srO sy s = 11) : ctxP sy (s :: vis) wd z q := by
  obtain ⟨qz, zl, zr, q1, h5, dt, ec, ct, ly, ps, ap, hG, tg⟩ := cx
  have key : ∀ t ∈ s :: vis, t ∈ vis ∨ srO sy t = 11 := fun t ht => by
    rcases List.mem_cons.mp ht with y | y
    · subst y; exact Or.inr h
    · exact Or.inl y
  refine ⟨qz, zl, zr, q1, h5, dt, fun t ht => ?_, fun t ht => ?_, fun t ht n1 n11 i hi => ?_, fun t ht n1 n11 => ?_, ⟨fun t ht t' ht' ne n1 n11 n1' n11' => ?_, fun t ht t' ht' n1 n1' e => ?_⟩, hG, tg⟩
  · rcases key t ht with y | y
    · exact ec t y
    · exact ⟨fun y => by omega, fun y => by omega, fun y => by omega, fun y => by omega, fun y => by omega, fun _ y' => (y' y).elim⟩
  · rcases key t ht with y | y
    · exact ct t y
    · exact ⟨fun y => by omega, fun y => by omega, fun y => by omega, fun y => by omega⟩
  · rcases key t ht with y | y
    · exact ly t y n1 n11 i hi
    · exact (n11 y).elim
  · rcases key t ht with y | y
    · exact ps t y n1 n11
    · exact (n11 y).elim
  · rcases key t ht with y | y
    · rcases key t' ht' with y' | y'
      · exact ap.1 t y t' y' ne n1 n11 n1' n11'
      · exact (n11' y').elim
    · exact (n11 y).elim
  · rcases key t ht with y | y
    · rcases key t' ht' with y' | y'
      · exact ap.2 t y t' y' n1 n1' e
      · omega
    · omega
theorem stB_ap : ∀ (L : List Br) (a : Nat) (B : Br), stB a (L ++ [B]) = stB a L ++ [iB 4 B.2.1 (a + 4 * L.length + 2), iO 13, iV 1 (-(nI B.1)), iO (if B.2.2.1 = 0 then 16 else 15)] := by
  intro L
  induction L with
  | nil => intro a B; rfl
  | cons B0 L ih =>
    intro a B
    rw [List.cons_append, stB, stB, ih, List.length_cons, List.append_assoc, show a + 4 + 4 * L.length = a + 4 * (L.length + 1) by omega]
theorem clB_pw {g : Nat → Bool} : ∀ (L : List (List Ev)) (pre : List Ev), clB g pre L = false → (∀ F ∈ L, cls g F pre = false) ∧ L.Pairwise fun F F' => cls g F' F = false := by
  intro L
  induction L with
  | nil => intro pre _; exact ⟨fun F h => (nomatch h), List.Pairwise.nil⟩
  | cons F0 L ih =>
    intro pre h
    have h : (cls g F0 pre || clB g (pre ++ F0) L) = false := h
    rw [Bool.or_eq_false_iff] at h
    obtain ⟨a1, a2⟩ := ih _ h.2
    have sp : ∀ F : List Ev, cls g F (pre ++ F0) = false → cls g F pre = false ∧ cls g F F0 = false := by
      intro F hF
      unfold cls at hF ⊢
      rw [List.any_eq_false] at hF
      constructor
      · rw [List.any_eq_false]
        intro e he
        have := hF e he
        rw [Bool.not_eq_true, List.any_append, Bool.or_eq_false_iff] at this
        rw [Bool.not_eq_true]
        exact this.1
      · rw [List.any_eq_false]
        intro e he
        have := hF e he
        rw [Bool.not_eq_true, List.any_append, Bool.or_eq_false_iff] at this
        rw [Bool.not_eq_true]
        exact this.2
    refine ⟨fun F hF => ?_, ?_⟩
    · rcases List.mem_cons.mp hF with y | y
      · rw [y]; exact h.1
      · exact (sp F (a1 F y)).1
    · rw [List.pairwise_cons]
      exact ⟨fun F hF => (sp F (a1 F hF)).2, a2⟩
theorem cat1_pw {α : Type} {R : α → α → Prop} {f : Nat → α} : ∀ m, (catN (fun k => [f k]) m).Pairwise R → ∀ i j, i < j → j < m → R (f i) (f j) := by
  have mem : ∀ m i, i < m → f i ∈ catN (fun k => [f k]) m := by
    intro m
    induction m with
    | zero => intro i h; omega
    | succ m ih =>
      intro i h
      show f i ∈ catN (fun k => [f k]) m ++ [f m]
      by_cases e : i = m
      · subst e; exact List.mem_append_right _ List.mem_cons_self
      · exact List.mem_append_left _ (ih i (by omega))
  intro m
  induction m with
  | zero => intro _ i j _ h; omega
  | succ m ih =>
    intro h i j hij hj
    have h : (catN (fun k => [f k]) m ++ [f m]).Pairwise R := h
    rw [List.pairwise_append] at h
    by_cases e : j = m
    · subst e
      exact h.2.2 (f i) (mem j i hij) (f j) List.mem_cons_self
    · exact ih h.1 i j hij (by omega)
theorem catN_mem {α : Type} {f : Nat → List α} {x : α} : ∀ m k, k < m → x ∈ f k → x ∈ catN f m := by
  intro m
  induction m with
  | zero => intro k h; omega
  | succ m ih =>
    intro k hk hx
    show x ∈ catN f m ++ f m
    by_cases e : k = m
    · subst e; exact List.mem_append_right _ hx
    · exact List.mem_append_left _ (ih k (by omega) hx)
theorem catN_nil {α : Type} {f : Nat → List α} : ∀ m k, k < m → catN f m = [] → f k = [] := by
  intro m
  induction m with
  | zero => intro k h; omega
  | succ m ih =>
    intro k hk h
    have h : catN f m ++ f m = [] := h
    obtain ⟨h1, h2⟩ := List.append_eq_nil_iff.mp h
    by_cases e : k = m
    · subst e; exact h2
    · exact ih k (by omega) h1
theorem cat_cod {f : Nat → List It} {n a : Nat} : ∀ m, (∀ k, k < m → (f k).length = n) → cod C pe a (catN f m) → ∀ k, k < m → cod C pe (a + k * n) (f k) := by
  intro m
  induction m with
  | zero => intro _ _ k h; omega
  | succ m ih =>
    intro hl hc k hk
    have hc : cod C pe a (catN f m ++ f m) := hc
    rw [cod_app, catN_len (n := n) m (fun k hk => hl k (by omega))] at hc
    by_cases e : k = m
    · subst e; exact hc.2
    · exact ih (fun k hk => hl k (by omega)) hc.1 k (by omega)
end
