/-! an instruction, from a byte on -/
def dcJ (cd : Nat → Nat) : Nat → Nat → Int32 → Nat × Int32 × Nat
  | 0, a, o => (cd a / 16, o ||| nI (cd a % 16), a)
  | f + 1, a, o => if cd a / 16 = 2 then dcJ cd f (a + 1) ((o ||| nI (cd a % 16)) <<< ((4 : Int32) &&& 31)) else if cd a / 16 = 6 then dcJ cd f (a + 1) (((o ||| nI (cd a % 16)) ^^^ (-1)) <<< ((4 : Int32) &&& 31)) else (cd a / 16, o ||| nI (cd a % 16), a)
def dcB (cd : Nat → Nat) (n k : Nat) (x : Int32) : Int32 := if x = 0 then nI (dcJ cd (n - 1 - k) k 0).1 else if x = 1 then (dcJ cd (n - 1 - k) k 0).2.1 else nI ((dcJ cd (n - 1 - k) k 0).2.2 - k + 1)
def aIn (G : PgS) (B : Bg) (p k x : Int32) : An := if isQ G p then if 0 ≤ k ∧ k < nI (B p.toNatClampNeg).1 then if 0 ≤ x ∧ x ≤ nI 2 then .inl (dcB (G.2.2.2.2 p.toNatClampNeg) (B p.toNatClampNeg).1 k.toNatClampNeg x) else .inr 1 else .inr 2 else .inr 4
def cdI (e : Nat) : Nat := if e = 3 then 1 else if e = 4 then 2 else if e = 2 then 3 else 4
section
variable {G : PgS} {B : Bg} {S S' : Sy} {h0 h h' : mj_H} {d : Nat}
theorem and_cm {x : Int32} : x &&& 255 &&& 15 = x &&& 15 := by
  rw [Int32.and_assoc]
  congr 1
/-- the component -/
theorem k_dc {p n k : Nat} {x1 x3 : Int32} {cd : Nat → Nat} (hc : ∀ x, x < n → cd x < 256 ∧ h.1 69 p x &&& 255 = nI (cd x)) (hn : n ≤ 6000) (hl : ¬ cd (n - 1) / 16 = 2 ∧ ¬ cd (n - 1) / 16 = 6) : ∀ (f a : Nat) (o x8 : Int32), a + f = n - 1 → k ≤ a → a < n → mj_R mg (d + 1) mq_17 (58, [(7, vI (nI (cd a / 16))), (5, vI (nI a)), (6, vI o), (8, vI x8), (4, vR 13 p), (0, vR 2 0), (1, vI x1), (2, vI (nI k)), (3, vI x3)], [], h) = some (.inl (some (vI (if x3 = 0 then nI (dcJ cd f a o).1 else if x3 = 1 then (dcJ cd f a o).2.1 else nI ((dcJ cd f a o).2.2 - k + 1))), h)) := by
  have lowb : ∀ a, a < n → h.1 69 p a &&& 15 = nI (cd a % 16) := by
    intro a ha
    rw [← and_cm, (hc a ha).2, nI_and15]
  have fin : ∀ (a : Nat) (o x8 : Int32), k ≤ a → a < n → ¬ cd a / 16 = 2 → ¬ cd a / 16 = 6 → mj_R mg (d + 1) mq_17 (58, [(7, vI (nI (cd a / 16))), (5, vI (nI a)), (6, vI o), (8, vI x8), (4, vR 13 p), (0, vR 2 0), (1, vI x1), (2, vI (nI k)), (3, vI x3)], [], h) = some (.inl (some (vI (if x3 = 0 then nI (cd a / 16) else if x3 = 1 then o ||| nI (cd a % 16) else nI (a - k + 1))), h)) := by
    intro a o x8 hk ha c2 c6
    have hb := (hc a ha).1
    rw [q_17_58_2, if_neg (show ¬ nI (cd a / 16) = 2 from fun z => c2 ((nI_eq (b := 2) (by omega) (by omega)).mp z)), if_pos (show ¬ nI (cd a / 16) = 6 from fun z => c6 ((nI_eq (b := 6) (by omega) (by omega)).mp z)), if_pos (in_n (by omega) (by omega)), nI_clamp (by omega), lowb a ha, nI_sub hk, ← nI_succ]
    by_cases y0 : x3 = 0
    · rw [if_neg (fun z => z y0), q_17_167_2, if_pos y0]
    · rw [if_pos y0, if_neg y0]
      by_cases y1 : x3 = 1
      · rw [if_neg (fun z => z y1), q_17_167_2, if_pos y1]
      · rw [if_pos y1, q_17_167_2, if_neg y1]
  intro f
  induction f with
  | zero =>
    intro a o x8 hf hk ha
    have ea : a = n - 1 := by omega
    exact fin a o x8 hk ha (by rw [ea]; exact hl.1) (by rw [ea]; exact hl.2)
  | succ f ih =>
    intro a o x8 hf hk ha
    have hb := (hc a ha).1
    have hb2 := hc (a + 1) (by omega)
    have nx : h.1 69 p (a + 1) &&& 255 = nI (cd (a + 1)) := hb2.2
    have sh : nI (cd (a + 1)) >>> ((4 : Int32) &&& 31) = nI (cd (a + 1) / 16) := sh_4 (by omega)
    by_cases c2 : cd a / 16 = 2
    · rw [q_17_58_2, if_pos (by rw [c2]; rfl), q_17_71_2, if_pos (in_n (by omega) (by omega)), nI_clamp (by omega), lowb a ha, if_neg (fun z => z (by rw [c2]; rfl)), q_17_106_2, ← nI_succ, if_pos (in_n (by omega) (by omega)), nI_clamp (by omega), nx, sh]
      rw [ih (a + 1) _ _ (by omega) (by omega) (by omega)]
      simp only [dcJ, if_pos c2]
    · by_cases c6 : cd a / 16 = 6
      · rw [q_17_58_2, if_neg (show ¬ nI (cd a / 16) = 2 from fun z => c2 ((nI_eq (b := 2) (by omega) (by omega)).mp z)), if_neg (fun z => z (by rw [c6]; rfl)), q_17_71_2, if_pos (in_n (by omega) (by omega)), nI_clamp (by omega), lowb a ha, if_pos (show ¬ nI (cd a / 16) = 2 from fun z => c2 ((nI_eq (b := 2) (by omega) (by omega)).mp z)), q_17_106_2, ← nI_succ, if_pos (in_n (by omega) (by omega)), nI_clamp (by omega), nx, sh]
        rw [ih (a + 1) _ _ (by omega) (by omega) (by omega)]
        simp only [dcJ, if_neg c2, if_pos c6]
      · rw [fin a o x8 hk ha c2 c6]
        simp only [dcJ, if_neg c2, if_neg c6]
theorem k_aIn {p k x : Int32} (g : RG G h) (b : RB G B h) (ok : okBg G B) (cb : ∀ p, p < 6 → G.1 p = true → ∀ x, x < (B p).1 → G.2.2.2.2 p x < 256) (hl : ∀ p, p < 6 → G.1 p = true → ¬ G.2.2.2.2 p ((B p).1 - 1) / 16 = 2 ∧ ¬ G.2.2.2.2 p ((B p).1 - 1) / 16 = 6) : mj_R mg (d + 2) mq_17 (0, [(0, vR 2 0), (1, vI p), (2, vI k), (3, vI x)], [], h) = rsl (aIn G B p k x) h := by
  unfold aIn
  by_cases c : isQ G p
  · obtain ⟨i1, i2⟩ := q_ix c.1
    obtain ⟨b1, b2, b3, b4⟩ := b _ i2 c.2
    obtain ⟨o1, -⟩ := ok _ i2 c.2
    have e2 : mj_R mg (d + 1) mq_0 (0, [(0, vL ((x : Int32).toInt64)), (2, vL 0), (4, vL 2)], [], h) = _ := k_is (d := d + 1) (h := h) (x := x) (c := 2) (by omega)
    rw [if_pos c, q_17_0, k_coreOf (d := d) g c, mj_xr_r, b1, k_rng, mj_xi_ret, k_inn]
    by_cases c2 : 0 ≤ k ∧ k < nI (B p.toNatClampNeg).1
    · have x1 : 0 ≤ k.toInt := Int32.le_iff_toInt_le.mp c2.1
      have x2 := Int32.lt_iff_toInt_lt.mp c2.2
      rw [nI_toInt (by omega)] at x2
      have e3 : k.toNatClampNeg = k.toInt.toNat := rfl
      have xi : mj_in k 6000 := ⟨x1, by omega⟩
      have ek : k = nI k.toNatClampNeg := (n_cl (fun z => by
        have : k.toInt < 0 := Int32.lt_iff_toInt_lt.mp z
        omega)).1
      have kb : k.toNatClampNeg < (B p.toNatClampNeg).1 := by omega
      rw [if_pos c2, if_pos (decide_eq_true c2), mj_xv_ret, e2, mj_xi_ret, k_need]
      by_cases c3 : 0 ≤ x ∧ x ≤ nI 2
      · have hc : ∀ x, x < (B p.toNatClampNeg).1 → G.2.2.2.2 p.toNatClampNeg x < 256 ∧ h.1 69 p.toNatClampNeg x &&& 255 = nI (G.2.2.2.2 p.toNatClampNeg x) := fun x hx => ⟨cb _ i2 c.2 x hx, g.2.2.2.1 _ i2 c.2 x (by omega) (cb _ i2 c.2 x hx)⟩
        have hb := (hc _ kb).1
        have sh : nI (G.2.2.2.2 p.toNatClampNeg k.toNatClampNeg) >>> ((4 : Int32) &&& 31) = nI (G.2.2.2.2 p.toNatClampNeg k.toNatClampNeg / 16) := sh_4 (by omega)
        rw [if_pos c3, if_pos (decide_eq_true c3), mj_xv_ret, if_pos xi, (hc _ kb).2, sh]
        have K := k_dc (d := d + 1) (h := h) (p := p.toNatClampNeg) (k := k.toNatClampNeg) (x1 := p) (x3 := x) hc o1 (hl _ i2 c.2)
        have hll := hl _ i2 c.2
        generalize hcd : G.2.2.2.2 p.toNatClampNeg = cd at K hc hb hll ⊢
        have lowb : h.1 69 p.toNatClampNeg k.toNatClampNeg &&& 15 = nI (cd k.toNatClampNeg % 16) := by rw [← and_cm, (hc _ kb).2, nI_and15]
        show _ = (some (Sum.inl (some (vI (dcB cd (B p.toNatClampNeg).1 k.toNatClampNeg x)), h)) : Option mj_O)
        unfold dcB
        generalize p.toNatClampNeg = q at K hc lowb kb o1 hll ⊢
        generalize k.toNatClampNeg = a at ek K lowb kb hb ⊢
        subst ek
        generalize (B q).1 = n at K hc kb o1 hll ⊢
        have ll : n - 1 - a = 0 ∨ ∃ f, n - 1 - a = f + 1 := by
          rcases Nat.eq_zero_or_pos (n - 1 - a) with z | z
          · exact Or.inl z
          · exact Or.inr ⟨n - 1 - a - 1, by omega⟩
        have fin : ¬ cd a / 16 = 2 → ¬ cd a / 16 = 6 → mj_R mg (d + 2) mq_17 (58, [(7, vI (nI (cd a / 16))), (6, vI 0), (5, vI (nI a)), (4, vR 13 q), (0, vR 2 0), (1, vI p), (2, vI (nI a)), (3, vI x)], [], h) = some (.inl (some (vI (if x = 0 then nI (cd a / 16) else if x = 1 then 0 ||| nI (cd a % 16) else nI (a - a + 1))), h)) := by
          intro c2 c6
          rw [q_17_58, if_neg (show ¬ nI (cd a / 16) = 2 from fun z => c2 ((nI_eq (b := 2) (by omega) (by omega)).mp z)), if_pos (show ¬ nI (cd a / 16) = 6 from fun z => c6 ((nI_eq (b := 6) (by omega) (by omega)).mp z)), if_pos (in_n (by omega) (by omega)), nI_clamp (by omega), lowb, nI_sub (Nat.le_refl _), ← nI_succ]
          by_cases y0 : x = 0
          · rw [if_neg (fun z => z y0), q_17_167, if_pos y0]
          · rw [if_pos y0, if_neg y0]
            by_cases y1 : x = 1
            · rw [if_neg (fun z => z y1), q_17_167, if_pos y1]
            · rw [if_pos y1, q_17_167, if_neg y1]
        by_cases d2 : cd a / 16 = 2 ∨ cd a / 16 = 6
        · rcases ll with z | ⟨f, hf⟩
          · have ea : a = n - 1 := by omega
            rw [← ea] at hll
            exact (d2.elim hll.1 hll.2).elim
          · have hb2 := hc (a + 1) (by omega)
            have sh2 : nI (cd (a + 1)) >>> ((4 : Int32) &&& 31) = nI (cd (a + 1) / 16) := sh_4 (by omega)
            rw [hf]
            by_cases c2 : cd a / 16 = 2
            · rw [q_17_58, if_pos (by rw [c2]; rfl), q_17_71, if_pos (in_n (by omega) (by omega)), nI_clamp (by omega), lowb, if_neg (fun z => z (by rw [c2]; rfl)), q_17_106, ← nI_succ, if_pos (in_n (by omega) (by omega)), nI_clamp (by omega), hb2.2, sh2, K f (a + 1) _ _ (by omega) (by omega) (by omega)]
              simp only [dcJ, if_pos c2]
            · have c6 : cd a / 16 = 6 := d2.elim (fun z => (c2 z).elim) id
              rw [q_17_58, if_neg (show ¬ nI (cd a / 16) = 2 from fun z => c2 ((nI_eq (b := 2) (by omega) (by omega)).mp z)), if_neg (fun z => z (by rw [c6]; rfl)), q_17_71, if_pos (in_n (by omega) (by omega)), nI_clamp (by omega), lowb, if_pos (show ¬ nI (cd a / 16) = 2 from fun z => c2 ((nI_eq (b := 2) (by omega) (by omega)).mp z)), q_17_106, ← nI_succ, if_pos (in_n (by omega) (by omega)), nI_clamp (by omega), hb2.2, sh2, K f (a + 1) _ _ (by omega) (by omega) (by omega)]
              simp only [dcJ, if_neg c2, if_pos c6]
        · have n2 : ¬ cd a / 16 = 2 := fun z => d2 (Or.inl z)
          have n6 : ¬ cd a / 16 = 6 := fun z => d2 (Or.inr z)
          rw [fin n2 n6]
          rcases ll with z | ⟨f, hf⟩
          · rw [z]; rfl
          · rw [hf]; simp only [dcJ, if_neg n2, if_neg n6]
      · rw [if_neg c3, if_neg (by rw [decide_eq_false c3]; decide)]; rfl
    · rw [if_neg c2, if_neg (by rw [decide_eq_false c2]; decide)]; rfl
  · rw [if_neg c, q_17_0, k_coreN (d := d) g c]; rfl
/-- the twin -/
theorem y_dc {p n k : Nat} {x3 x4 x5 : Int32} {cd : Nat → Nat} (hp : p < 6) (hc : ∀ x, x < n → cd x < 256 ∧ h.1 125 0 (6000 * p + x) = nI (cd x)) (hn : n ≤ 6000) (hs : h.1 126 0 p = nI n) (hl : ¬ cd (n - 1) / 16 = 2 ∧ ¬ cd (n - 1) / 16 = 6) : ∀ (f a : Nat) (o x9 x8 : Int32), a + f = n - 1 → k ≤ a → a < n → (x8 = 2 ∨ x8 = 6) → mj_R mg (d + 1) mq_359 (108, [(7, vI (nI (a - k))), (6, vI o), (8, vI x8), (9, vI x9), (5, vI x5), (4, vI x4), (0, vR 15 0), (1, vI (nI p)), (2, vI (nI k)), (3, vI x3)], [], h) = some (.inl (some (vI (if x3 = 0 then nI (dcJ cd f a o).1 else if x3 = 1 then (dcJ cd f a o).2.1 else nI ((dcJ cd f a o).2.2 - k + 1))), h)) := by
  have ip := yp_in hp
  have enter : ∀ (a : Nat) (o x9 x8 : Int32), k ≤ a → a < n → (x8 = 2 ∨ x8 = 6) → mj_R mg (d + 1) mq_359 (108, [(7, vI (nI (a - k))), (6, vI o), (8, vI x8), (9, vI x9), (5, vI x5), (4, vI x4), (0, vR 15 0), (1, vI (nI p)), (2, vI (nI k)), (3, vI x3)], [], h) = mj_R mg (d + 1) mq_359 (108, [(7, vI (nI (a + 1 - k))), (6, vI (if cd a / 16 = 2 then (o ||| nI (cd a % 16)) <<< ((4 : Int32) &&& 31) else if cd a / 16 = 6 then ((o ||| nI (cd a % 16)) ^^^ (-1)) <<< ((4 : Int32) &&& 31) else o ||| nI (cd a % 16))), (8, vI (nI (cd a / 16))), (9, vI (nI (cd a))), (5, vI x5), (4, vI x4), (0, vR 15 0), (1, vI (nI p)), (2, vI (nI k)), (3, vI x3)], [], h) := by
    intro a o x9 x8 hk ha h8
    have hb := (hc a ha).1
    have sh : nI (cd a) >>> ((4 : Int32) &&& 31) = nI (cd a / 16) := sh_4 (by omega)
    have ea : (6000 : Int32) * nI p + nI k + nI (a - k) = nI (6000 * p + a) := by
      show nI 6000 * nI p + nI k + nI (a - k) = _
      rw [nI_mul, nI_add, nI_add, show 6000 * p + k + (a - k) = 6000 * p + a by omega]
    have ek : nI k + nI (a - k) = nI a := by rw [nI_add, show k + (a - k) = a by omega]
    have e0 : mj_R mg (d + 1) mq_359 (108, [(7, vI (nI (a - k))), (6, vI o), (8, vI x8), (9, vI x9), (5, vI x5), (4, vI x4), (0, vR 15 0), (1, vI (nI p)), (2, vI (nI k)), (3, vI x3)], [], h) = mj_R mg (d + 1) mq_359 (121, [(7, vI (nI (a - k))), (6, vI o), (8, vI x8), (9, vI x9), (5, vI x5), (4, vI x4), (0, vR 15 0), (1, vI (nI p)), (2, vI (nI k)), (3, vI x3)], [], h) := by
      rw [q_359_108_2]
      rcases h8 with z | z
      · rw [if_pos z]
      · rw [if_neg (by rw [z]; decide), if_neg (fun y => y z)]
    rw [e0, q_359_121_2, if_pos ip, nI_clamp (show p < 2 ^ 31 by omega), hs, ek, if_neg (nI_ge ha (by omega)), ea, if_pos (in_n (by omega) (by omega)), nI_clamp (by omega), (hc a ha).2, sh, nI_and15]
    by_cases c2 : cd a / 16 = 2
    · rw [if_neg (fun z => z (by rw [c2]; rfl)), q_359_198, ← nI_succ, if_pos c2, show a - k + 1 = a + 1 - k by omega]
    · rw [if_pos (show ¬ nI (cd a / 16) = 2 from fun z => c2 ((nI_eq (b := 2) (by omega) (by omega)).mp z)), if_neg c2]
      by_cases c6 : cd a / 16 = 6
      · rw [if_neg (fun z => z (by rw [c6]; rfl)), q_359_198, ← nI_succ, if_pos c6, show a - k + 1 = a + 1 - k by omega]
      · rw [if_pos (show ¬ nI (cd a / 16) = 6 from fun z => c6 ((nI_eq (b := 6) (by omega) (by omega)).mp z)), q_359_198, ← nI_succ, if_neg c6, show a - k + 1 = a + 1 - k by omega]
  have fin : ∀ (a : Nat) (o x9 x8 : Int32), k ≤ a → a < n → (x8 = 2 ∨ x8 = 6) → ¬ cd a / 16 = 2 → ¬ cd a / 16 = 6 → mj_R mg (d + 1) mq_359 (108, [(7, vI (nI (a - k))), (6, vI o), (8, vI x8), (9, vI x9), (5, vI x5), (4, vI x4), (0, vR 15 0), (1, vI (nI p)), (2, vI (nI k)), (3, vI x3)], [], h) = some (.inl (some (vI (if x3 = 0 then nI (cd a / 16) else if x3 = 1 then o ||| nI (cd a % 16) else nI (a - k + 1))), h)) := by
    intro a o x9 x8 hk ha h8 c2 c6
    have hb := (hc a ha).1
    rw [enter a o x9 x8 hk ha h8, if_neg c2, if_neg c6, q_359_108_2, if_neg (show ¬ nI (cd a / 16) = 2 from fun z => c2 ((nI_eq (b := 2) (by omega) (by omega)).mp z)), if_pos (show ¬ nI (cd a / 16) = 6 from fun z => c6 ((nI_eq (b := 6) (by omega) (by omega)).mp z)), q_359_206_2, show a + 1 - k = a - k + 1 by omega]
    by_cases y0 : x3 = 0
    · rw [if_neg (fun z => z y0), q_359_227_2, if_pos y0]
    · rw [if_pos y0, if_neg y0]
      by_cases y1 : x3 = 1
      · rw [if_neg (fun z => z y1), q_359_227_2, if_pos y1]
      · rw [if_pos y1, q_359_227_2, if_neg y1]
  intro f
  induction f with
  | zero =>
    intro a o x9 x8 hf hk ha h8
    have ea : a = n - 1 := by omega
    exact fin a o x9 x8 hk ha h8 (by rw [ea]; exact hl.1) (by rw [ea]; exact hl.2)
  | succ f ih =>
    intro a o x9 x8 hf hk ha h8
    by_cases c2 : cd a / 16 = 2
    · rw [enter a o x9 x8 hk ha h8, if_pos c2, ih (a + 1) _ _ _ (by omega) (by omega) (by omega) (Or.inl (by rw [c2]; rfl))]
      simp only [dcJ, if_pos c2]
    · by_cases c6 : cd a / 16 = 6
      · rw [enter a o x9 x8 hk ha h8, if_neg c2, if_pos c6, ih (a + 1) _ _ _ (by omega) (by omega) (by omega) (Or.inr (by rw [c6]; rfl))]
        simp only [dcJ, if_neg c2, if_pos c6]
      · rw [fin a o x9 x8 hk ha h8 c2 c6]
        simp only [dcJ, if_neg c2, if_neg c6]
end
