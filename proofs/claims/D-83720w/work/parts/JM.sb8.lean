/-! (S): words are filled; frames come and go -/
section
variable {C : Cx} {M : Nat} {E : En} {s s' : Cr} {w : Wd} {g g' : Gh} {Q : Thr} {t : Nat} {th : Th}
theorem btS_nz {k : Kd} (h : btS k ≠ 0) : k.1 = 2 ∨ k.1 = 22 := by
  unfold btS at h
  split at h
  · assumption
  · exact (h rfl).elim
/-- n words from x on are of kinds K -/
def filG (G : Int → Kd) (x : Int) (n : Nat) (K : Int → Kd) : Int → Kd := fun o => if x ≤ o ∧ o < x + n then K o else G o
/-- a pointer's address -/
theorem wk_22 {pl : Nat → Nat} {A : List Nat} {pri W hi : Nat} {G : Int → Kd} {m : Nat → Int32} {o : Int} (h : wk pl M g Q A t pri G m W hi o) (hM : M ≤ 4016) (z : (G o).1 = 22) : (W + hi ≤ adS G m W o ∨ adS G m W o < 16) ∧ okH M g Q A t (G o).2.1 (adS G m W o) ∧ m (W + o).toNat = nI (adS G m W o) := by
  obtain ⟨-, -, -, -, -, -, -, h3⟩ := wk_h h (by omega)
  obtain ⟨a, a1, a2, a3⟩ := h3 z
  have : adS G m W o = a := by
    unfold adS
    rw [if_pos z, a1, nI_clamp (by have := a3.1; omega)]
  rw [this]
  exact ⟨a2, a3, a1⟩
variable {R : Nat → Sg → Prop} {j : Nat} {v : Int32} {z : Sg}
theorem i_fill {x : Int} {n q : Nat} {c : Int} {K : Int → Kd} (hC : C.1 j = some (15, nI 14)) (z0 : (zR z).1 = 0) (nl : (zL z).2.1 = []) (ha : (zA z).1 = (2, q, x)) (hb : (zA z).2.1 = (1, 0, (n : Int))) (hc : (zA z).2.2 = (1, 0, c)) (x1 : 0 < x) (x2 : x + n ≤ (zI z).2)
    (nc : noCp (zG z) (fun o => x ≤ o ∧ o < x + n)) (hK : ∀ o, x ≤ o → o < x + n → (K o).1 = 1 ∨ ((K o).1 = 2 ∧ c = -1)) (hR : R (j + 1) (zSG z (filG (zG z) x n K))) : rul C M E R j z := by
  refine ⟨15, nI 14, hC, fun s w g Q t th W r I _ e e0 ef h11 => ?_⟩
  obtain ⟨hE, h1, h2, h3⟩ := fE_i I e e0 ef
  have h11' : (sR (rdB s) 13 0).1 11 = nI (C.2 (j + 1)) := h11
  have hM := hE.1.2
  have hW := hE.2.2.2.2.1
  obtain ⟨hlo, hlo3, hhi, wk0, hwi, hij⟩ := hE.2.2.2.2.2
  rw [ha] at h1
  rw [hb] at h2
  rw [hc] at h3
  have h1 : (s.1 8).toInt = W + x := h1
  have h2 : (s.1 9).toInt = n := h2
  have h3 : (s.1 10).toInt = c := h3
  obtain ⟨a, ea⟩ : ∃ a : Nat, (W : Int) + x = a := ⟨(W + x).toNat, by omega⟩
  have e8 : s.1 8 = nI a := Int32.toInt_inj.mp (by rw [h1, ea, nI_toInt (by omega)])
  have e9 : (s.1 9).toNatClampNeg = n := by
    have : s.1 9 = nI n := Int32.toInt_inj.mp (by rw [h2, nI_toInt (by omega)])
    rw [this, nI_clamp (by omega)]
  obtain ⟨s1, f1, f2, f3, f4⟩ := fl_ok (s := sR (rdB s) 13 0) (x := s.1 8) (v := s.1 10) hE.1 e8 n (by omega)
  have kd := kid_0 I e e0 ef z0
  have own : ∀ y, a ≤ y → y < a + n → g.1 y = t := fun y y1 y2 => own_i I e kd (f := (W, j, z)) (by rw [ef]; exact List.mem_cons_self) (by show W ≤ y + (zI z).1; omega) (by show y < W + (zI z).2; omega)
  refine ⟨sR (sR (sR s1 8 0) 9 0) 10 0, w, ?_, Or.inl rfl, (g.1, (fun y => if a ≤ y ∧ y < a + n then (K (y - W)).1 else g.2.1 y), (fun y => if a ≤ y ∧ y < a + n then t else g.2.2.1 y), (fun y => if a ≤ y ∧ y < a + n then t else g.2.2.2 y)), qU Q t ((W, j + 1, zSG z (filG (zG z) x n K)) :: r, th.2), ?_, nFr_1 e ef hR⟩
  · rw [x_op (by decide)]
    show ((cFill (sR (rdB s) 13 0) ((sR (rdB s) 13 0).1 8) ((sR (rdB s) 13 0).1 10) ((sR (rdB s) 13 0).1 9).toNatClampNeg).map _).map _ = _
    rw [show ((sR (rdB s) 13 0).1 9).toNatClampNeg = n from e9]
    show ((cFill (sR (rdB s) 13 0) (s.1 8) (s.1 10) n).map _).map _ = _
    rw [f1]
    rfl
  · have nP : ∀ y : Nat, (∀ o, x ≤ o ∧ o < x + n → (y : Int) ≠ W + o) → ¬ (a ≤ y ∧ y < a + n) := fun y hy c => hy (y - W) ⟨by omega, by omega⟩ (by omega)
    refine ho_go (P := fun o => x ≤ o ∧ o < x + n) I e e0 ef kd nl (fun o ho => by omega) nc (fun o ho => if_neg ho) (fun i hi => ?_) f3 (fun y hy => ?_) (fun y hy => ⟨rfl, if_neg (nP y hy), if_neg (nP y hy), if_neg (nP y hy)⟩) (fun _ => rfl) (fun o ho out => ?_) ?_ (fun y hy hyx => ?_) (Or.inl ⟨?_, ?_⟩) (A := (k0, k0, k0)) ⟨trivial, trivial, trivial⟩
    · show (if i = 10 then _ else if i = 9 then _ else if i = 8 then _ else s1.1 i) = _
      rw [if_neg (by omega), if_neg (by omega), if_neg (by omega), f2]
      exact rd_r i (by omega)
    · have hy : s1.2.1 y ≠ s.2.1 y := hy
      rw [f4] at hy
      by_cases c : a ≤ y ∧ y < a + n
      · exact ⟨y - W, ⟨by omega, by omega⟩, by omega⟩
      · rw [if_neg c] at hy; exact (hy rfl).elim
    · have eG : filG (zG z) x n K o = K o := if_pos ho
      unfold wk
      rw [eG]
      have eo : (W : Int) + o = ((W + o).toNat : Nat) := by omega
      generalize (W + o).toNat = y at eo
      have yr : a ≤ y ∧ y < a + n := by omega
      have eA : g.1 y ∈ t :: thA th := by rw [own y yr.1 yr.2]; exact List.mem_cons_self
      have ky : K (y - W) = K o := by rw [show (y : Int) - W = o by omega]
      refine Or.inr ⟨by omega, by omega, ?_⟩
      rcases hK o ho.1 ho.2 with k | ⟨k, -⟩
      · exact Or.inl ⟨k, by omega, by omega, by show (if a ≤ y ∧ y < a + n then (K (y - W)).1 else g.2.1 y) = 1; rw [if_pos yr, ky]; exact k, eA⟩
      · refine Or.inr (Or.inl ⟨k, by omega, by show (if a ≤ y ∧ y < a + n then (K (y - W)).1 else g.2.1 y) = 2; rw [if_pos yr, ky]; exact k, eA, fun _ => Or.inl ?_, fun _ => Or.inl ?_⟩)
        · show (if a ≤ y ∧ y < a + n then t else g.2.2.1 y) = t; rw [if_pos yr]
        · show (if a ≤ y ∧ y < a + n then t else g.2.2.2 y) = t; rw [if_pos yr]
    · -- channels' addresses differ
      have ein : ∀ o, (x ≤ o ∧ o < x + n) → adS (filG (zG z) x n K) s1.2.1 W o = (W + o).toNat := by
        intro o ho
        have eG : filG (zG z) x n K o = K o := if_pos ho
        unfold adS
        rw [eG, if_neg]
        rcases hK o ho.1 ho.2 with k | ⟨k, -⟩ <;> omega
      have eout : ∀ o, ¬ (x ≤ o ∧ o < x + n) → adS (filG (zG z) x n K) s1.2.1 W o = adS (zG z) s.2.1 W o ∧ btS (filG (zG z) x n K o) = btS (zG z o) := by
        intro o ho
        have eG : filG (zG z) x n K o = zG z o := if_neg ho
        rw [eG]
        refine ⟨?_, rfl⟩
        unfold adS
        rw [eG]
        split
        · rename_i c
          obtain ⟨q0, -⟩ := wk_h (wk0 o) (by omega)
          rw [f4, if_neg (by omega)]
          rfl
        · rfl
      have far : ∀ o o', (x ≤ o ∧ o < x + n) → ¬ (x ≤ o' ∧ o' < x + n) → btS (zG z o') ≠ 0 → (W + o).toNat ≠ adS (zG z) s.2.1 W o' := by
        intro o o' ho ho' hb
        by_cases c2 : (zG z o').1 = 22
        · have q : W + (zI z).2 ≤ adS (zG z) s.2.1 W o' ∨ adS (zG z) s.2.1 W o' < 16 := (wk_22 (wk0 o') hM c2).1
          omega
        · have c3 : (zG z o').1 = 2 := (btS_nz hb).resolve_right c2
          obtain ⟨y, y1, -⟩ := wk_2 (wk0 o') c3
          unfold adS
          rw [if_neg c2]
          omega
      have bn : ∀ {p q : Nat}, p &&& q ≠ 0 → q ≠ 0 := fun {p q} h c => h (by rw [c, Nat.and_zero])
      have bn' : ∀ {p q : Nat}, p &&& q ≠ 0 → p ≠ 0 := fun {p q} h c => h (by rw [c, Nat.zero_and])
      refine ⟨fun o o' no hb => ?_, fun o c hc hb => ?_⟩
      · show adS (filG (zG z) x n K) s1.2.1 W o ≠ adS (filG (zG z) x n K) s1.2.1 W o'
        by_cases c : x ≤ o ∧ o < x + n
        · by_cases c' : x ≤ o' ∧ o' < x + n
          · rw [ein o c, ein o' c']
            omega
          · rw [(eout o' c').2] at hb
            rw [ein o c, (eout o' c').1]
            exact far o o' c c' (bn hb)
        · rw [(eout o c).2] at hb
          by_cases c' : x ≤ o' ∧ o' < x + n
          · rw [(eout o c).1, ein o' c']
            exact (far o' o c' c (bn' hb)).symm
          · rw [(eout o' c').2] at hb
            rw [(eout o c).1, (eout o' c').1]
            exact hij.1 o o' no hb
      · show adS (filG (zG z) x n K) s1.2.1 W o ≠ c
        by_cases c1 : x ≤ o ∧ o < x + n
        · rw [ein o c1]
          omega
        · rw [(eout o c1).2] at hb
          rw [(eout o c1).1]
          exact hij.2 o c hc hb
    · obtain ⟨o, ⟨o1, o2⟩, o3⟩ := hyx
      have yr : a ≤ y ∧ y < a + n := by omega
      have hy : (if a ≤ y ∧ y < a + n then (K (y - W)).1 else g.2.1 y) = 2 := hy
      rw [if_pos yr, show (y : Int) - W = o by omega] at hy
      show s1.2.1 y = -1
      rw [f4, if_pos yr]
      rcases hK o o1 o2 with k | ⟨k, kc⟩
      · omega
      · exact Int32.toInt_inj.mp (by rw [h3, kc]; rfl)
    · show s1.1 11 = _
      rw [f2]
      exact h11'
    · show s1.1 13 = _
      rw [f2]
      rfl
/-- frames come and go: a process without children, not in ALT -/
theorem cl_go {W W' j j' : Nat} {z z' : Sg} {r r' : List Fm} (I : Inv C M s w g Q E) (e : Q t = some th) (e0 : thS th = 0) (ef : thF th = (W, j, z) :: r) (k : thK th = []) (nl : (zL z).2.1 = [])
    (er : ∀ i, i = 5 ∨ i = 14 ∨ i = 15 ∨ (22 ≤ i ∧ i ≤ 27) → s'.1 i = s.1 i) (eq : s'.2.2 = s.2.2) (e12 : s'.1 12 = nI W')
    (hm : ∀ x, s'.2.1 x ≠ s.2.1 x → g.2.1 x = 1 ∨ g.1 x = t) (hg0 : ∀ x, g'.1 x = g.1 x) (hg : ∀ x, g.1 x ≠ t → g'.2.1 x = g.2.1 x) (hg1 : g'.2.2 = g.2.2)
    (hF : ∀ f ∈ (W', j', z') :: r', fOK C M s' g' Q t th f) (hl : lnk C s' g' t ((W', j', z') :: r')) (hu : ∀ f, (thF th).getLast? = some f → ∃ f', ((W', j', z') :: r').getLast? = some f' ∧ f'.1 = f.1 ∧ zU f'.2.2 = zU f.2.2)
    (hct : ctl g' t W' 3) (hWM : W' < M) (psN : pos C j' (s'.1 11) (s'.1 13)) (rN : rOK C s'.2.1 (thP th) W' z' (s'.1 8) (s'.1 9) (s'.1 10)) (nl' : (zL z').2.1 = []) (zr' : (zR z').1 = 0)
    (cN : ∀ c, g'.2.1 c = 2 → g.2.1 c = 2 ∧ s'.2.1 c = s.2.1 c) : Inv C M s' w g' (qU Q t ((W', j', z') :: r', th.2)) E := by
  obtain ⟨W0, j0, z0, r0, h1, h2, h3, h4, h5, h6, h7, h8, h9, h10, h11, h12, h13, h14⟩ := I.2.1 t th e
  rw [ef] at h1
  cases h1
  have eA : thA (((W', j', z') :: r', th.2) : Th) = thA th := rfl
  have bq := fun u b => bel_q (Q := Q) (t := t) (th' := ((W', j', z') :: r', th.2)) e eA u b
  have oth : ∀ b tb x, b ≠ t → Q b = some tb → g.1 x ∈ b :: thA tb → g.1 x ≠ t := by
    intro b tb x hb eb hx y
    rw [y] at hx
    rcases List.mem_cons.mp hx with q | q
    · exact hb q.symm
    · exact no_d' I e k eb q
  have same : ∀ b tb x, b ≠ t → Q b = some tb → g.1 x ∈ b :: thA tb → g.2.1 x ≠ 1 → s'.2.1 x = s.2.1 x := fun b tb x hb eb hx n1 => Classical.byContradiction fun c => by
    rcases hm x c with y | y
    · exact n1 y
    · exact oth b tb x hb eb hx y
  refine go I e e0 (fun ne => (ne k).elim) er eq (fun x hx => ?_) hg0 (fun x hx => ⟨hg x fun y => hx ⟨y, k⟩, by rw [hg1], by rw [hg1]⟩) (fun b tb hb eb hs => ?_) (fun b tb W' j1 z1 r1 x hb eb hf nl hx x2 xt => ?_) ?_ (fun c hc => ?_) ?_
  · rcases hm x hx with y | y
    · exact Or.inl y
    · exact Or.inr (Or.inr ⟨y, Or.inr k⟩)
  · have hx : g.2.1 (thC tb) = 2 ∧ g.1 (thC tb) ∈ b :: thA tb := by
      obtain ⟨W1, j1, z1, r1, -, -, -, -, -, -, -, -, k9, -⟩ := I.2.1 b tb eb
      unfold sOK at k9
      rcases hs with hs | hs
      · rw [hs] at k9; exact ⟨k9.2.2.2.2.2.1, k9.2.2.2.2.2.2.1⟩
      · rw [hs] at k9; exact ⟨k9.2.2.2.2.2.1, k9.2.2.2.2.2.2⟩
    exact same b tb _ hb eb hx.2 (by omega)
  · unfold hasC
    rw [same b tb x hb eb hx (by omega)]
    exact id
  · have sb0 : stb (fun _ => True) s'.2.1 s'.2.1 g' g' Q (qU Q t ((W', j', z') :: r', th.2)) (t :: thA th) t := ⟨fun _ _ _ _ => rfl, fun _ _ _ => ⟨rfl, rfl⟩, fun _ _ _ _ => ⟨(bq _ _).mpr, (bq _ _).mpr⟩⟩
    refine ⟨W', j', z', r', rfl, h2, h3, h4, fun f hf => fOK_mv (hF f hf) rfl rfl (fun _ _ => trivial) (fun _ _ => trivial) sb0, hl, fun x x1 x2 => by rw [hg0 x]; exact (bq _ _).mpr (h7 x x1 x2), ?_, ?_, fun _ ne => (ne nl').elim, fun _ => nl', ⟨fun _ _ => k, fun ne => (ne k).elim, fun y => (y zr').elim⟩, hct, hWM⟩
    · have u0 : uOK (qU Q t ((W', j', z') :: r', th.2)) t th := by
        refine uOK_mv h8 (fun c hc tc etc => ⟨tc, (qU_n (kid_ne I e hc)).trans etc, rfl⟩) (fun u tu hu eu hbu => ?_)
        have : u ≠ t := fun y => h8.2.2.1 (y ▸ hu)
        exact ⟨tu, (qU_n this).trans eu, rfl, hbu, rfl, fun fu ru hf => ⟨fu, ru, hf, rfl⟩⟩
      obtain ⟨u1, u2, u3, f, u4, u5, u6⟩ := u0
      obtain ⟨f', v1, v2, v3⟩ := hu f u4
      refine ⟨u1, u2, u3, f', v1, v2.trans u5, ?_⟩
      rw [v3, v2]
      exact u6
    · have e0' : thS (((W', j', z') :: r', th.2) : Th) = 0 := e0
      unfold sOK at h9 ⊢
      rw [e0']
      rw [e0] at h9
      exact ⟨by rw [er 14 (by omega)]; exact h9.1, e12, by rw [er 15 (by omega)]; exact h9.2.2.1, psN, rN⟩
  · obtain ⟨c1, c2⟩ := cN c hc
    refine ⟨(I.2.2.1 c c1).1, Or.inr (Or.inr ⟨c1, c2, ?_⟩)⟩
    rintro ⟨W1, j1, z1, r1, d1, d2, d3⟩
    rw [ef] at d1
    cases d1
    rcases d3 with ⟨d, -⟩ | ⟨d, -⟩ | ⟨-, i, n, -, -, d', -⟩
    · omega
    · omega
    · rw [nl] at d'
      exact nomatch d'
  · exact wsO_q e I.2.2.2.2 (fun c hc => by rw [hg1]; exact ⟨rfl, rfl⟩) (fun c => Iff.rfl) (fun h _ => by have h : thS th = 2 := h; omega)
/-- RET -/
theorem i_ret {y : Int} (hC : C.1 j = some (15, nI 19)) (z0 : (zR z).1 = 0) (nl : (zL z).2.1 = []) (hU : zU z = (1, 0, y)) : rul C M E R j z := by
  refine ⟨15, nI 19, hC, fun s w g Q t th W r I _ e e0 ef h11 => ?_⟩
  obtain ⟨hE, -⟩ := fE_i I e e0 ef
  obtain ⟨W0, j0, z0', r0, h1, h2, h3, h4, h5, h6, h7, h8, h9, h10, h11', h12, h13, h14⟩ := I.2.1 t th e
  rw [ef] at h1
  cases h1
  rw [ef] at h6
  cases r with
  | nil => exact absurd (show (zU z).1 = 1 by rw [hU]) h6
  | cons f1 r =>
    obtain ⟨W1, j1, z1⟩ := f1
    obtain ⟨k1, k2, k3, k4, k5, k6, k7, k8, k9, k10⟩ := h6
    have k2 : (W1 : Int) = W + (zU z).2.1 + 4 := k2
    rw [hU] at k2
    have k2 : (W1 : Int) = W + 0 + 4 := k2
    have eW : W1 = W + 4 := by omega
    have hM := I.1.2
    have f1M := h5 (W1, j1, z1) (by rw [ef]; exact List.mem_cons_of_mem _ List.mem_cons_self)
    have W1M : W1 < M := by
      have a := f1M.2.2.1
      have b : 1 ≤ (zI z1).2 := k8.2
      simp only at a
      omega
    refine ⟨sR (sR (sR (rdB s) 13 0) 11 (s.2.1 W)) 12 (nI (W + 4)), w, ?_, Or.inl rfl, g, qU Q t ((W1, j1, z1) :: r, th.2), ?_, ?_⟩
    · rw [x_sch (by decide) (by decide)]
      show (if mj_in ((sR (rdB s) 13 0).1 12 + 4) 4016 then _ else none) = _
      rw [hE.2.1, show (4 : Int32) = nI 4 from rfl, nI_add, if_pos (in_n (by omega) (by omega)), ad_n hE.1 h14]
      rfl
    · have hl : lnk C (sR (sR (sR (rdB s) 13 0) 11 (s.2.1 W)) 12 (nI (W + 4))) g t ((W1, j1, z1) :: r) := lnk_mv (s := s) (g := g) (s' := sR (sR (sR (rdB s) 13 0) 11 (s.2.1 W)) 12 (nI (W + 4))) (P := fun _ => True) (fun _ _ _ _ => rfl) (fun _ _ _ => ⟨rfl, rfl⟩) _ (fun _ _ _ _ _ => trivial) k10
      refine cl_go I e e0 ef (kid_0 I e e0 ef z0) nl (fun i hi => ?_) rfl (by rw [eW]; rfl) (fun x hx => (hx rfl).elim) (fun _ => rfl) (fun _ _ => rfl) rfl (fun f hf => h5 f (by rw [ef]; exact List.mem_cons_of_mem _ hf)) hl (fun f hf => ⟨f, by rw [ef, List.getLast?_cons_cons] at hf; exact hf, rfl, rfl⟩) (fun k hk => k5 k (by omega)) W1M (Or.inl ⟨?_, rfl⟩) ?_ k7 k8.1 (fun c hc => ⟨hc, rfl⟩)
      · show (if i = 12 then _ else if i = 11 then _ else (sR (rdB s) 13 0).1 i) = _
        rw [if_neg (by omega), if_neg (by omega)]
        exact rd_r i (by omega)
      · show s.2.1 W = nI (C.2 j1)
        have := k4
        simp only [eW] at this
        exact this
      · unfold rOK
        rw [show zA z1 = (k0, k0, k0) from k6]
        exact ⟨trivial, trivial, trivial⟩
    · refine ⟨?_, fun _ => ⟨t, _, qU_t⟩⟩
      intro b tb f hb hf
      by_cases c : b = t
      · subst c
        rw [qU_t] at hb
        cases hb
        exact Or.inr ⟨b, th, f, e, by rw [ef]; exact List.mem_cons_of_mem _ hf, rfl⟩
      · rw [qU_n c] at hb
        exact Or.inr ⟨b, tb, f, hb, hf, rfl⟩
end
