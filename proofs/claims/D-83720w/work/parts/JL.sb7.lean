/-! (S): jumps, data are written, words are held -/
section
variable {C : Cx} {M : Nat} {E : En} {s s' : Cr} {w : Wd} {g : Gh} {Q : Thr} {t : Nat} {th : Th}
/-- registers and data change -/
theorem dw_go {W j j' : Nat} {z : Sg} {A : Kd × Kd × Kd} {r : List Fm} (I : Inv C M s w g Q E) (e : Q t = some th) (e0 : thS th = 0) (ef : thF th = (W, j, z) :: r)
    (er : ∀ i, i = 5 ∨ i = 12 ∨ i = 14 ∨ i = 15 ∨ (22 ≤ i ∧ i ≤ 27) → s'.1 i = s.1 i) (eq : s'.2.2 = s.2.2) (hm : ∀ x, s'.2.1 x ≠ s.2.1 x → g.2.1 x = 1)
    (psN : pos C j' (s'.1 11) (s'.1 13)) (rN : rOK C s'.2.1 (thP th) W (zSA z A) (s'.1 8) (s'.1 9) (s'.1 10)) : Inv C M s' w g (qU Q t ((W, j', zSA z A) :: r, th.2)) E := by
  obtain ⟨W0, j0, z0, r0, h1, h2, h3, h4, h5, h6, h7, h8, h9, h10, h11, h12, h13, h14⟩ := I.2.1 t th e
  rw [ef] at h1
  cases h1
  have hf0 := h5 (W, j, z) (by rw [ef]; exact List.mem_cons_self)
  have em : ∀ x, g.2.1 x ≠ 1 → s'.2.1 x = s.2.1 x := fun x hx => Classical.byContradiction fun c => hx (hm x c)
  have sb : stb (fun _ => True) s.2.1 s'.2.1 g g Q Q (t :: thA th) t := ⟨fun x _ _ x3 => em x (by omega), fun _ _ _ => ⟨rfl, rfl⟩, fun _ _ _ _ => ⟨id, id⟩⟩
  have ha : aOK C s' w g (t :: thA th) t W z (thP th) 0 := by
    have a0 := h10 (Or.inl e0)
    rw [e0] at a0
    refine aOK_mv a0 (fun x _ x3 => em x (by omega)) (fun _ _ => ⟨rfl, rfl⟩) (fun _ _ _ y => y) ⟨em _ (by have := (h13 0 (by omega)).1; rw [Nat.sub_zero] at this; omega), em _ (by have := (h13 3 (by omega)).1; omega)⟩ (fun _ x _ x2 _ => ?_)
    unfold hasC
    rw [em x (by omega)]
    exact id
  refine go_f I e e0 ef er eq (fun x hx => Or.inl (hm x hx)) (fun _ => rfl) (fun _ _ => ⟨rfl, rfl, rfl⟩) rfl rfl rfl rfl (wk_mv hf0.2.2.2.1 (fun _ _ => trivial) (fun _ _ => trivial) sb) (inj_mv hf0.2.2.2.2.2 (wk_m hf0.2.2.2.1 (fun _ _ => trivial) sb.1)) psN rN ?_ (fun c hc => ⟨(I.2.2.1 c hc).1, Or.inr ⟨hc, em c (by omega), fun ae => ?_⟩⟩)
  · unfold aOK aRl at ha ⊢
    exact ha
  · have ne : (zL z).2.1 ≠ [] := by
      obtain ⟨i, n, -, -, b3, -⟩ := ae
      intro y
      rw [y] at b3
      exact nomatch b3
    exact aEn_mv (h10 (Or.inl e0) ne).1 ae (fun x _ x3 => em x (by omega))
variable {R : Nat → Sg → Prop} {j : Nat} {v : Int32} {z : Sg}
/-- a jump on zero -/
theorem i_cj {p : Nat} (hC : C.1 j = some (10, v)) (hv : v = nI (C.2 p) - nI (C.2 (j + 1))) {a b c b' c' : Kd} (hR : R (j + 1) (zSA z (a, b, c))) (hP : R p (zSA z (k0, b', c'))) (ha : wR (zA z).2.1 a := by first | exact Or.inl rfl | exact Or.inr rfl) (hb : wR (zA z).2.2 b := by first | exact Or.inl rfl | exact Or.inr rfl) (hc : wR (zA z).2.2 c := by first | exact Or.inl rfl | exact Or.inr rfl) (hb' : wR (zA z).2.1 b' := by first | exact Or.inl rfl | exact Or.inr rfl) (hc' : wR (zA z).2.2 c' := by first | exact Or.inl rfl | exact Or.inr rfl) : rul C M E R j z := by
  refine ⟨10, v, hC, fun s w g Q t th W r I _ e e0 ef h11 => ?_⟩
  obtain ⟨-, hr⟩ := fE_i I e e0 ef
  have h11' : (sR (rdB s) 13 0).1 11 = nI (C.2 (j + 1)) := h11
  by_cases c8 : s.1 8 = 0
  · refine ⟨sR (sR (rdB s) 13 0) 11 ((sR (rdB s) 13 0).1 11 + v), w, ?_, Or.inl rfl, g, qU Q t ((W, p, zSA z (k0, b', c')) :: r, th.2), ?_, nFr_1 e ef hP⟩
    · rw [x_dir (by decide)]
      show (if (sR (rdB s) 13 0).1 8 = 0 then _ else _ : Option Cr).map _ = _
      rw [if_pos (show (sR (rdB s) 13 0).1 8 = 0 from c8)]
      rfl
    · refine dw_go I e e0 ef (fun i hi => ?_) rfl (fun x hx => (hx rfl).elim) (Or.inl ⟨?_, rfl⟩) ⟨trivial, rk_wR hb' hr.2.1, rk_wR hc' hr.2.2⟩
      · show (if i = 11 then _ else (sR (rdB s) 13 0).1 i) = _
        rw [if_neg (by omega)]
        exact rd_r i (by omega)
      · show (sR (rdB s) 13 0).1 11 + v = _
        rw [h11', hv, Int32.add_comm, Int32.sub_add_cancel]
  · refine ⟨cPop (sR (rdB s) 13 0), w, ?_, Or.inl rfl, g, qU Q t ((W, j + 1, zSA z (a, b, c)) :: r, th.2), ?_, nFr_1 e ef hR⟩
    · rw [x_dir (by decide)]
      show (if (sR (rdB s) 13 0).1 8 = 0 then _ else _ : Option Cr).map _ = _
      rw [if_neg (show ¬ (sR (rdB s) 13 0).1 8 = 0 from c8)]
      rfl
    · refine dw_go I e e0 ef (fun i hi => ?_) rfl (fun x hx => (hx rfl).elim) (Or.inl ⟨?_, rfl⟩) ⟨rk_wR ha hr.2.1, rk_wR hb hr.2.2, rk_wR hc hr.2.2⟩
      · rw [po_r i (by omega) (by omega)]
        exact rd_r i (by omega)
      · rw [po_r 11 (by omega) (by omega)]; exact h11'
/-- data are written -/
theorem i_stl (hC : C.1 j = some (13, v)) (hz : (zG z v.toInt).1 = 1) {a b c : Kd} (hR : R (j + 1) (zSA z (a, b, c))) (ha : wR (zA z).2.1 a := by first | exact Or.inl rfl | exact Or.inr rfl) (hb : wR (zA z).2.2 b := by first | exact Or.inl rfl | exact Or.inr rfl) (hc : wR (zA z).2.2 c := by first | exact Or.inl rfl | exact Or.inr rfl) : rul C M E R j z := by
  refine ⟨13, v, hC, fun s w g Q t th W r I _ e e0 ef h11 => ?_⟩
  obtain ⟨hE, hr⟩ := fE_i I e e0 ef
  have h11' : (sR (rdB s) 13 0).1 11 = nI (C.2 (j + 1)) := h11
  obtain ⟨x0, a1, a2⟩ := wk_1 (hE.2.2.2.2.2.2.2.2.1 v.toInt) hz
  have hM := hE.1.2
  have ad := ad_w (v := v) hE.1 hE.2.1 (by have := hE.2.2.2.2.1; omega) rfl a1 a2.2.1
  refine ⟨sM (cPop (sR (rdB s) 13 0)) x0 ((sR (rdB s) 13 0).1 8), w, ?_, Or.inl rfl, g, qU Q t ((W, j + 1, zSA z (a, b, c)) :: r, th.2), ?_, nFr_1 e ef hR⟩
  · rw [x_dir (by decide)]
    show ((adM _ _).map _).map _ = _
    rw [ad]
    rfl
  · refine dw_go I e e0 ef (fun i hi => ?_) rfl (fun x hx => ?_) (Or.inl ⟨?_, rfl⟩) ?_
    · show (cPop (sR (rdB s) 13 0)).1 i = _
      rw [po_r i (by omega) (by omega)]
      exact rd_r i (by omega)
    · have hx : (if x = x0 then (sR (rdB s) 13 0).1 8 else s.2.1 x) ≠ s.2.1 x := hx
      by_cases c : x = x0
      · rw [c]; exact a2.2.2.1
      · rw [if_neg c] at hx; exact (hx rfl).elim
    · show (cPop (sR (rdB s) 13 0)).1 11 = _
      rw [po_r 11 (by omega) (by omega)]; exact h11'
    · have fm := wk_m (P := fun _ => True) (m' := (sM (cPop (sR (rdB s) 13 0)) x0 ((sR (rdB s) 13 0).1 8)).2.1) hE.2.2.2.2.2.2.2.2.1 (fun _ _ => trivial) (fun x _ _ x3 => if_neg fun y => by rw [y] at x3; have := a2.2.2.1; omega)
      have h0 : rOK C s.2.1 (thP th) W (zSA z (a, b, c)) (s.1 9) (s.1 10) (s.1 10) := ⟨rk_wR ha hr.2.1, rk_wR hb hr.2.2, rk_wR hc hr.2.2⟩
      exact rOK_mv h0 fm
theorem i_stnl (hC : C.1 j = some (14, 0)) (hd : daA (zG z) (zA z).1) (hR : R (j + 1) (zSA z (k0, k0, k0))) : rul C M E R j z := by
  refine ⟨14, 0, hC, fun s w g Q t th W r I _ e e0 ef h11 => ?_⟩
  obtain ⟨hE, hr⟩ := fE_i I e e0 ef
  have h11' : (sR (rdB s) 13 0).1 11 = nI (C.2 (j + 1)) := h11
  obtain ⟨a, a1, a2, a3⟩ := daA_ok hE hd hr.1
  have ad : adM (sR (rdB s) 13 0) ((sR (rdB s) 13 0).1 8 + 0) = some a := by rw [Int32.add_zero]; exact ad_v hE.1 a1 a3.2.1
  refine ⟨sM (cPop (cPop (sR (rdB s) 13 0))) a ((sR (rdB s) 13 0).1 9), w, ?_, Or.inl rfl, g, qU Q t ((W, j + 1, zSA z (k0, k0, k0)) :: r, th.2), ?_, nFr_1 e ef hR⟩
  · rw [x_dir (by decide)]
    show ((adM _ _).map _).map _ = _
    rw [ad]
    rfl
  · refine dw_go I e e0 ef (fun i hi => ?_) rfl (fun x hx => ?_) (Or.inl ⟨?_, rfl⟩) ⟨trivial, trivial, trivial⟩
    · show (cPop (cPop (sR (rdB s) 13 0))).1 i = _
      rw [po_r i (by omega) (by omega), po_r i (by omega) (by omega)]
      exact rd_r i (by omega)
    · have hx : (if x = a then (sR (rdB s) 13 0).1 9 else s.2.1 x) ≠ s.2.1 x := hx
      by_cases c : x = a
      · rw [c]; exact a3.2.2.1
      · rw [if_neg c] at hx; exact (hx rfl).elim
    · show (cPop (cPop (sR (rdB s) 13 0))).1 11 = _
      rw [po_r 11 (by omega) (by omega), po_r 11 (by omega) (by omega)]; exact h11'
/-- other kinds of words -/
def zSG (z : Sg) (G : Int → Kd) : Sg := (G, (k0, k0, k0), zI z, zU z, zL z, zR z, zW z)
def zSH (z : Sg) (G : Int → Kd) (A : Kd × Kd × Kd) : Sg := (G, A, zI z, zU z, zL z, zR z, zW z)
/-- nothing that is held is a copy of a word in P -/
def noCp (G : Int → Kd) (P : Int → Prop) : Prop := ∀ o, (G o).1 = 15 ∨ (G o).1 = 16 → ¬ P (G o).2.2
theorem rk_G {pl : Nat → Nat} {G G' : Int → Kd} {m m' : Nat → Int32} {pri W : Nat} {k : Kd} {v : Int32} (c : rk pl G m pri W k v) (key : k.1 = 5 ∨ k.1 = 6 → 10 ≤ (G k.2.2).1 → 10 ≤ (G' k.2.2).1 ∧ m' (W + k.2.2).toNat = m (W + k.2.2).toNat) : rk pl G' m' pri W k v := by
  obtain ⟨k1, k2, k3⟩ := k
  match k1, c, key with
  | 0, _, _ => trivial
  | 1, c, _ => exact c
  | 2, c, _ => exact c
  | 3, c, _ => exact c
  | 4, c, _ => exact c
  | 5, c, key => exact ⟨(key (Or.inl rfl) c.1).1, c.2.trans (key (Or.inl rfl) c.1).2.symm⟩
  | 6, c, key =>
    obtain ⟨c1, i, c2, c3⟩ := c
    exact ⟨(key (Or.inr rfl) c1).1, i, c2, c3.trans (by show m (W + k3).toNat + nI i = m' (W + k3).toNat + nI i; rw [(key (Or.inr rfl) c1).2])⟩
  | 7, c, _ => exact c
  | 8, c, _ => exact c
  | 9, c, _ => exact c
  | n + 10, c, _ => exact c.elim
/-- kinds of words outside P stay, where words of Z stay -/
theorem wk_G {pl : Nat → Nat} {g' : Gh} {A : List Nat} {pri W hi : Nat} {G G' : Int → Kd} {m m' : Nat → Int32} {P : Int → Prop} {Z : Nat → Prop} (h : ∀ off, wk pl M g Q A t pri G m W hi off) (nc : ∀ o, ¬ P o → (G o).1 = 15 ∨ (G o).1 = 16 → ¬ P (G o).2.2) (eG : ∀ o, ¬ P o → G' o = G o) (z1 : ∀ a, W + hi ≤ a ∨ a < 16 → Z a) (z2 : ∀ o, ¬ P o → 0 ≤ W + o → (G o).1 ≠ 0 → Z (W + o).toNat)
    (h3 : ∀ x, Z x → g.2.1 x = 3 → m' x = m x) (hg : ∀ x, Z x → g'.1 x = g.1 x ∧ g'.2.1 x = g.2.1 x ∧ g'.2.2.1 x = g.2.2.1 x ∧ g'.2.2.2 x = g.2.2.2 x) {o : Int} (no : ¬ P o) : wk pl M g' Q A t pri G' m' W hi o := by
  have dm : ∀ a, Z a → okD M g A a → okD M g' A a := fun a ha h => h.mv (P := Z) ha (fun x hx _ => ⟨(hg x hx).1, (hg x hx).2.1⟩)
  have hm : ∀ n a, Z a → okH M g Q A t n a → okH M g' Q A t n a := fun n a ha h => h.mv (P := Z) ha (fun x hx _ => ⟨(hg x hx).1, (hg x hx).2.1⟩) (fun x hx _ _ => by rw [(hg x hx).2.2.1, (hg x hx).2.2.2]; exact ⟨id, id⟩)
  unfold wk
  rw [eG o no]
  rcases h o with k | ⟨k0', k1, k2⟩
  · exact Or.inl k
  · have na : (G o).1 ≠ 0 → Z (W + o).toNat := z2 o no k0'
    refine Or.inr ⟨k0', k1, ?_⟩
    rcases k2 with ⟨a, b⟩ | ⟨a, b⟩ | ⟨a, b1, b2, b3, b4, b5, b6⟩
    · exact Or.inl ⟨a, dm _ (na (by omega)) b⟩
    · exact Or.inr (Or.inl ⟨a, hm _ _ (na (by omega)) b⟩)
    · have na := na (by omega)
      refine Or.inr (Or.inr ⟨a, b1, (hg _ na).2.1.trans b2, by rw [(hg _ na).1]; exact b3, fun y => ?_, fun y => ?_, fun y => ?_⟩)
      · rw [h3 _ na b2]
        have c := b4 y
        have nr := nc o no
        revert c nr
        obtain ⟨k1, k2, k3⟩ := G o
        intro c nr
        have c : rk pl G m pri W (k1 - 10, k2, k3) (m (W + o).toNat) := c
        show rk pl G' m' pri W (k1 - 10, k2, k3) (m (W + o).toNat)
        have key : k1 - 10 = 5 ∨ k1 - 10 = 6 → (10 ≤ (G k3).1 → 10 ≤ (G' k3).1 ∧ m' (W + k3).toNat = m (W + k3).toNat) := by
          intro hk hg10
          have np : ¬ P k3 := nr (by show k1 = 15 ∨ k1 = 16; omega)
          obtain ⟨q0, q1, q2, q3, q4, q5⟩ := wk_h (h k3) hg10
          exact ⟨by rw [eG k3 np]; exact hg10, h3 _ (z2 k3 np q0 (by omega)) q3⟩
        exact rk_G c key
      · rw [h3 _ na b2]
        obtain ⟨a, c1, c2, c3⟩ := b5 y
        exact ⟨a, c1, c2, fun i hi => dm _ (z1 _ (Or.inl (by omega))) (c3 i hi)⟩
      · rw [h3 _ na b2]
        obtain ⟨a, c1, c2, c3⟩ := b6 y
        exact ⟨a, c1, c2, hm _ _ (z1 _ c2) c3⟩
/-- words of its own interval are claimed anew -/
theorem ho_go {g' : Gh} {W j j' : Nat} {z : Sg} {G' : Int → Kd} {A : Kd × Kd × Kd} {P : Int → Prop} {r : List Fm} (I : Inv C M s w g Q E) (e : Q t = some th) (e0 : thS th = 0) (ef : thF th = (W, j, z) :: r) (k : thK th = []) (nl : (zL z).2.1 = [])
    (hP : ∀ o, P o → -((zI z).1 : Int) ≤ o ∧ o < (zI z).2 ∧ (o < -3 ∨ 0 < o)) (nc : noCp (zG z) P) (eG : ∀ o, ¬ P o → G' o = zG z o)
    (er : ∀ i, i = 5 ∨ i = 12 ∨ i = 14 ∨ i = 15 ∨ (22 ≤ i ∧ i ≤ 27) → s'.1 i = s.1 i) (eq : s'.2.2 = s.2.2) (hm : ∀ x : Nat, s'.2.1 x ≠ s.2.1 x → ∃ o, P o ∧ (x : Int) = W + o)
    (hg : ∀ x : Nat, (∀ o, P o → (x : Int) ≠ W + o) → g'.1 x = g.1 x ∧ g'.2.1 x = g.2.1 x ∧ g'.2.2.1 x = g.2.2.1 x ∧ g'.2.2.2 x = g.2.2.2 x) (hg0 : ∀ x, g'.1 x = g.1 x)
    (wN : ∀ o, P o → (∀ o', ¬ P o' → wk C.2 M g' Q (t :: thA th) t (thP th) G' s'.2.1 W (zI z).2 o') → wk C.2 M g' Q (t :: thA th) t (thP th) G' s'.2.1 W (zI z).2 o) (ijN : inj G' s'.2.1 W (zW z)) (cN : ∀ c : Nat, g'.2.1 c = 2 → (∃ o, P o ∧ (c : Int) = W + o) → s'.2.1 c = -1)
    (psN : pos C j' (s'.1 11) (s'.1 13)) (rN : rOK C s'.2.1 (thP th) W (zSH z G' A) (s'.1 8) (s'.1 9) (s'.1 10)) : Inv C M s' w g' (qU Q t ((W, j', zSH z G' A) :: r, th.2)) E := by
  obtain ⟨W0, j0, z0, r0, h1, h2, h3, h4, h5, h6, h7, h8, h9, h10, h11, h12, h13, h14⟩ := I.2.1 t th e
  rw [ef] at h1
  cases h1
  obtain ⟨b1, b2, b3, b4, b5, b6⟩ := h5 (W, j, z) (by rw [ef]; exact List.mem_cons_self)
  simp only at b1 b2 b3 b4
  have hM := I.1.2
  have out : ∀ o', ¬ P o' → wk C.2 M g' Q (t :: thA th) t (thP th) G' s'.2.1 W (zI z).2 o' := fun o' no => wk_G (Z := fun x : Nat => ∀ o, P o → (x : Int) ≠ W + o) b4 (fun o _ => nc o) eG (fun a ha o ho => by have := hP o ho; omega) (fun o no h0 _ o2 ho2 y => no ((show o2 = o by rw [Int.toNat_of_nonneg h0] at y; omega) ▸ ho2)) (fun x hx _ => Classical.byContradiction fun c => by obtain ⟨o, o1, o2⟩ := hm x c; exact hx o o1 o2) hg no
  refine go_f I e e0 ef er eq (fun x hx => ?_) hg0 (fun x hx => (hg x fun o ho y => hx ?_).2) rfl rfl rfl rfl (fun o => ?_) ijN psN rN (fun ne => (ne nl).elim) (fun c hc => ?_)
  · obtain ⟨o, o1, o2⟩ := hm x hx
    have := hP o o1
    exact Or.inr ⟨k, by omega, by omega⟩
  · have := hP o ho
    exact ⟨k, by omega, by omega, by omega⟩
  · by_cases c : P o
    · exact wN o c out
    · exact out o c
  · by_cases c1 : ∃ o, P o ∧ (c : Int) = W + o
    · obtain ⟨o, o1, o2⟩ := c1
      have := hP o o1
      exact ⟨by omega, Or.inl (cN c hc ⟨o, o1, o2⟩)⟩
    · have hx : ∀ o, P o → (c : Int) ≠ W + o := fun o ho y => c1 ⟨o, ho, y⟩
      have c2 : g.2.1 c = 2 := (hg c hx).2.1.symm.trans hc
      refine ⟨(I.2.2.1 c c2).1, Or.inr ⟨c2, Classical.byContradiction fun y => ?_, fun ae => ?_⟩⟩
      · exact c1 (hm c y)
      · obtain ⟨i, n, -, -, d3, -⟩ := ae
        rw [nl] at d3
        exact nomatch d3
/-- one word is held -/
def upG (G : Int → Kd) (o : Int) (k : Kd) : Int → Kd := fun x => if x = o then k else G x
theorem inj_up {m m' : Nat → Int32} {W : Nat} {wr : Nat → Nat} {G : Int → Kd} {o : Int} {k : Kd} (h : inj G m W wr) (hk : btS k = 0) (hm : ∀ x, x ≠ o → (G x).1 = 22 → m' (W + x).toNat = m (W + x).toNat) : inj (upG G o k) m' W wr := by
  have e : ∀ x, x ≠ o → adS (upG G o k) m' W x = adS G m W x := by
    intro x hx
    have ex : upG G o k x = G x := if_neg hx
    unfold adS
    rw [ex]
    split
    · rename_i c
      rw [hm x hx c]
    · rfl
  have bz : btS (upG G o k o) = 0 := by rw [show upG G o k o = k from if_pos rfl]; exact hk
  have be : ∀ x, x ≠ o → btS (upG G o k x) = btS (G x) := fun x hx => by rw [show upG G o k x = G x from if_neg hx]
  refine ⟨fun x x' n b => ?_, fun x c hc b => ?_⟩
  · by_cases c1 : x = o
    · rw [c1, bz, Nat.zero_and] at b; exact (b rfl).elim
    · by_cases c2 : x' = o
      · rw [c2, bz, Nat.and_zero] at b; exact (b rfl).elim
      · rw [be x c1, be x' c2] at b
        rw [e x c1, e x' c2]
        exact h.1 x x' n b
  · by_cases c1 : x = o
    · rw [c1, bz, Nat.zero_and] at b; exact (b rfl).elim
    · rw [be x c1] at b
      rw [e x c1]
      exact h.2 x c hc b
/-- what a word may become -/
def hKd (a k : Kd) : Prop := k = (1, 0, 0) ∨ k = (20, 0, 0) ∨ (a.1 ≤ 9 ∧ k = (10 + a.1, a.2)) ∨ k = (10, 0, 0)
theorem i_hold {k : Kd} (hC : C.1 j = some (13, v)) (z0 : (zR z).1 = 0) (nl : (zL z).2.1 = []) (o1 : -((zI z).1 : Int) ≤ v.toInt) (o2 : v.toInt < (zI z).2) (o3 : v.toInt < -3 ∨ 0 < v.toInt) (nc : noCp (zG z) (fun o => o = v.toInt)) (ck : hKd (zA z).1 k) (hs : (zA z).1.1 = 5 ∨ (zA z).1.1 = 6 → (zA z).1.2.2 ≠ v.toInt)
    {a' b' c' : Kd} (hR : R (j + 1) (zSH z (upG (zG z) v.toInt k) (a', b', c'))) (ha' : wR (zA z).2.1 a' := by first | exact Or.inl rfl | exact Or.inr rfl) (hb' : wR (zA z).2.2 b' := by first | exact Or.inl rfl | exact Or.inr rfl) (hc' : wR (zA z).2.2 c' := by first | exact Or.inl rfl | exact Or.inr rfl) (hs' : ∀ k', k' = a' ∨ k' = b' ∨ k' = c' → k'.1 = 5 ∨ k'.1 = 6 → k'.2.2 ≠ v.toInt := by simp) : rul C M E R j z := by
  refine ⟨13, v, hC, fun s w g Q t th W r I _ e e0 ef h11 => ?_⟩
  obtain ⟨hE, hr⟩ := fE_i I e e0 ef
  have h11' : (sR (rdB s) 13 0).1 11 = nI (C.2 (j + 1)) := h11
  have hM := hE.1.2
  have hW := hE.2.2.2.2.1
  obtain ⟨hlo, hlo3, hhi, wk0, hwi, hij⟩ := hE.2.2.2.2.2
  have a1 : (W : Int) + v.toInt = ((W + v.toInt).toNat : Nat) := by omega
  generalize ha : (W + v.toInt).toNat = a at a1
  have aM : a < M := by omega
  have ad := ad_w (v := v) hE.1 hE.2.1 (by omega) rfl a1 aM
  have kz : k.1 ≠ 0 ∧ btS k = 0 := by
    rcases ck with rfl | rfl | ⟨q, rfl⟩ | rfl
    · exact ⟨by decide, rfl⟩
    · exact ⟨by decide, rfl⟩
    · refine ⟨by show 10 + (zA z).1.1 ≠ 0; omega, ?_⟩
      unfold btS
      rw [if_neg]
      show ¬ (10 + (zA z).1.1 = 2 ∨ 10 + (zA z).1.1 = 22)
      omega
    · exact ⟨by decide, rfl⟩
  refine ⟨sM (cPop (sR (rdB s) 13 0)) a ((sR (rdB s) 13 0).1 8), w, ?_, Or.inl rfl, (g.1, (fun x => if x = a then (if k.1 = 1 then 1 else 3) else g.2.1 x), g.2.2), qU Q t ((W, j + 1, zSH z (upG (zG z) v.toInt k) (a', b', c')) :: r, th.2), ?_, nFr_1 e ef hR⟩
  · rw [x_dir (by decide)]
    show ((adM _ _).map _).map _ = _
    rw [ad]
    rfl
  · have kd := kid_0 I e e0 ef z0
    have mo : ∀ x, x ≠ a → (sM (cPop (sR (rdB s) 13 0)) a ((sR (rdB s) 13 0).1 8)).2.1 x = s.2.1 x := fun x hx => if_neg hx
    have ma : (sM (cPop (sR (rdB s) 13 0)) a ((sR (rdB s) 13 0).1 8)).2.1 a = s.1 8 := if_pos rfl
    have own : g.1 a = t := own_i I e kd (f := (W, j, z)) (by rw [ef]; exact List.mem_cons_self) (by show W ≤ a + (zI z).1; omega) (by show a < W + (zI z).2; omega)
    refine ho_go (P := fun o => o = v.toInt) I e e0 ef kd nl (fun o ho => by subst ho; exact ⟨o1, o2, o3⟩) nc (fun o ho => if_neg ho) (fun i hi => ?_) rfl (fun x hx => ⟨v.toInt, rfl, ?_⟩) (fun x hx => ⟨rfl, if_neg (fun y => hx _ rfl (by rw [y]; exact a1.symm)), rfl, rfl⟩) (fun _ => rfl) (fun o ho out => ?_) (inj_up hij kz.2 (fun x hx _ => ?_)) (fun c hc hx => ?_) (Or.inl ⟨?_, rfl⟩) ?_
    · show (cPop (sR (rdB s) 13 0)).1 i = _
      rw [po_r i (by omega) (by omega)]
      exact rd_r i (by omega)
    · rw [a1]
      exact congrArg _ (Classical.byContradiction fun c => hx (mo x c))
    · subst ho
      have eG : upG (zG z) v.toInt k v.toInt = k := if_pos rfl
      unfold wk
      rw [eG, ha]
      refine Or.inr ⟨by omega, by omega, ?_⟩
      have eA : g.1 a ∈ t :: thA th := by rw [own]; exact List.mem_cons_self
      rcases ck with rfl | rfl | ⟨q, rfl⟩ | rfl
      · exact Or.inl ⟨rfl, by omega, aM, if_pos rfl, eA⟩
      · exact Or.inr (Or.inr ⟨by decide, aM, if_pos rfl, eA, fun y => absurd y (by decide), fun y => absurd y (by decide), fun y => absurd y (by decide)⟩)
      · refine Or.inr (Or.inr ⟨by show 10 ≤ 10 + _; omega, aM, ?_, eA, fun y => ?_, fun y => ?_, fun y => ?_⟩)
        · show (if a = a then (if 10 + (zA z).1.1 = 1 then 1 else 3) else g.2.1 a) = 3
          rw [if_pos rfl, if_neg (by omega)]
        · show rk C.2 (upG (zG z) v.toInt _) _ (thP th) W (10 + (zA z).1.1 - 10, (zA z).1.2) _
          rw [ma, show 10 + (zA z).1.1 - 10 = (zA z).1.1 by omega]
          have h1 : rk C.2 (zG z) s.2.1 (thP th) W ((zA z).1.1, (zA z).1.2) (s.1 8) := hr.1
          refine rk_G h1 fun hk h10 => ?_
          have ne := hs hk
          have eg : upG (zG z) v.toInt (10 + (zA z).1.1, (zA z).1.2) (zA z).1.2.2 = zG z (zA z).1.2.2 := if_neg ne
          refine ⟨by show 10 ≤ (upG (zG z) v.toInt (10 + (zA z).1.1, (zA z).1.2) (zA z).1.2.2).1; rw [eg]; exact h10, mo _ fun y => ?_⟩
          have h10 : 10 ≤ (zG z (zA z).1.2.2).1 := h10
          obtain ⟨q0, -⟩ := wk_h (wk0 _) h10
          have y : ((W : Int) + (zA z).1.2.2).toNat = a := y
          omega
        · have y : 10 + (zA z).1.1 = 21 := y
          omega
        · have y : 10 + (zA z).1.1 = 22 := y
          omega
      · exact Or.inr (Or.inr ⟨by decide, aM, if_pos rfl, eA, fun _ => trivial, fun y => absurd y (by decide), fun y => absurd y (by decide)⟩)
    · refine mo _ fun y => ?_
      obtain ⟨q0, -⟩ := wk_h (wk0 x) (by omega)
      omega
    · obtain ⟨o, rfl, ho⟩ := hx
      have ec : c = a := by omega
      have hc : (if c = a then (if k.1 = 1 then 1 else 3) else g.2.1 c) = 2 := hc
      rw [if_pos ec] at hc
      split at hc <;> omega
    · show (cPop (sR (rdB s) 13 0)).1 11 = _
      rw [po_r 11 (by omega) (by omega)]; exact h11'
    · have key : ∀ (k1 k' : Kd) (x : Int32), (k' = a' ∨ k' = b' ∨ k' = c') → wR k1 k' → rk C.2 (zG z) s.2.1 (thP th) W k1 x → rk C.2 (upG (zG z) v.toInt k) (sM (cPop (sR (rdB s) 13 0)) a ((sR (rdB s) 13 0).1 8)).2.1 (thP th) W k' x := by
        intro k1 k' x hin hw h
        refine rk_G (rk_wR hw h) fun hk h10 => ?_
        have ne := hs' k' hin hk
        have eg : upG (zG z) v.toInt k k'.2.2 = zG z k'.2.2 := if_neg ne
        refine ⟨by rw [eg]; exact h10, mo _ fun y => ?_⟩
        obtain ⟨q0, -⟩ := wk_h (wk0 _) h10
        omega
      exact ⟨key _ a' _ (Or.inl rfl) ha' hr.2.1, key _ b' _ (Or.inr (Or.inl rfl)) hb' hr.2.2, key _ c' _ (Or.inr (Or.inr rfl)) hc' hr.2.2⟩
end
