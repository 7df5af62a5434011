/-! (S): instructions that change registers alone -/
section
variable {C : Cx} {M : Nat} {E : En} {s s' : Cr} {w : Wd} {g : Gh} {Q : Thr} {t : Nat} {th : Th}
theorem x_dir {f : Nat} {v : Int32} (h : f ≠ 15) : xI s w f v = (cDir s f v).map fun s => (s, w) := if_neg h
theorem x_op {o : Nat} (h : o < 15) : xI s w 15 (nI o) = (cOpr s o).map fun s => (s, w) := by
  unfold xI
  rw [if_pos rfl, nI_clamp (by omega), if_pos h, if_neg (by rw [show (0 : Int32) = nI 0 from rfl]; exact nI_nlt (by omega) (by omega))]
theorem x_sch {o : Nat} (h : 15 ≤ o) (h2 : o < 100) : xI s w 15 (nI o) = cSch s w o := by
  unfold xI
  rw [if_pos rfl, nI_clamp (by omega), if_neg (by omega)]
/-- an address of data -/
def daA (G : Int → Kd) (k : Kd) : Prop := (k.1 = 2 ∧ (G k.2.2).1 = 1) ∨ (k.1 = 4 ∧ ∀ i : Nat, i < k.2.1 → (G (k.2.2 + i)).1 = 1) ∨ (k.1 = 5 ∧ (G k.2.2).1 = 21 ∧ 1 ≤ (G k.2.2).2.1) ∨ (k.1 = 6 ∧ (G k.2.2).1 = 21 ∧ k.2.1 ≤ (G k.2.2).2.1)
theorem wk_1 {pl : Nat → Nat} {A : List Nat} {pri W hi : Nat} {G : Int → Kd} {m : Nat → Int32} {off : Int} (h : wk pl M g Q A t pri G m W hi off) (z : (G off).1 = 1) : ∃ a : Nat, W + off = a ∧ okD M g A a := by
  rcases h with h | ⟨h0, h0', ⟨e, k⟩ | ⟨e, -⟩ | ⟨e, -⟩⟩
  · omega
  · exact ⟨_, (Int.toNat_of_nonneg h0).symm, k⟩
  · omega
  · omega
theorem wk_2 {pl : Nat → Nat} {A : List Nat} {pri W hi : Nat} {G : Int → Kd} {m : Nat → Int32} {off : Int} (h : wk pl M g Q A t pri G m W hi off) (z : (G off).1 = 2) : ∃ a : Nat, W + off = a ∧ 16 ≤ a ∧ okH M g Q A t (G off).2.1 a := by
  rcases h with h | ⟨h0, h0', ⟨e, -⟩ | ⟨e, k⟩ | ⟨e, -⟩⟩
  · omega
  · omega
  · exact ⟨_, (Int.toNat_of_nonneg h0).symm, h0', k⟩
  · omega
/-- any word that is known can be read -/
theorem wk_a {pl : Nat → Nat} {A : List Nat} {pri W hi : Nat} {G : Int → Kd} {m : Nat → Int32} {off : Int} (h : wk pl M g Q A t pri G m W hi off) (z : (G off).1 ≠ 0) : ∃ a : Nat, W + off = a ∧ 16 ≤ a ∧ a < M := by
  rcases h with h | ⟨h0, h0', ⟨e, k⟩ | ⟨e, k⟩ | ⟨e, k⟩⟩
  · exact (z h).elim
  · exact ⟨_, (Int.toNat_of_nonneg h0).symm, h0', k.2.1⟩
  · exact ⟨_, (Int.toNat_of_nonneg h0).symm, h0', k.1⟩
  · exact ⟨_, (Int.toNat_of_nonneg h0).symm, h0', k.1⟩
theorem daA_ok {A : List Nat} {pri W : Nat} {z : Sg} {k : Kd} {v : Int32} (hE : fE C M s g Q A t pri W z) (d : daA (zG z) k) (h : rk C.2 (zG z) s.2.1 pri W k v) : ∃ a : Nat, v.toInt = a ∧ v = nI a ∧ okD M g A a := by
  have hM := hE.1.2
  have wk0 := hE.2.2.2.2.2.2.2.2.1
  have fin : ∀ a : Nat, v.toInt = a → okD M g A a → ∃ a : Nat, v.toInt = a ∧ v = nI a ∧ okD M g A a := fun a h1 h2 => ⟨a, h1, Int32.toInt_inj.mp (by rw [h1, nI_toInt (by have := h2.2.1; omega)]), h2⟩
  obtain ⟨k1, k2, k3⟩ := k
  rcases d with ⟨rfl, d⟩ | ⟨rfl, d⟩ | ⟨rfl, d, d2⟩ | ⟨rfl, d, d2⟩
  · obtain ⟨a, a1, a2⟩ := wk_1 (wk0 _) d
    exact fin a (by rw [← a1]; exact h) a2
  · obtain ⟨i, h1, h2⟩ := h
    obtain ⟨a, a1, a2⟩ := wk_1 (wk0 _) (d i h1)
    exact fin a (by rw [h2, ← a1]; show (W : Int) + k3 + i = W + (k3 + i); omega) a2
  · obtain ⟨-, -, -, -, -, -, h2, -⟩ := wk_h (wk0 k3) h.1
    obtain ⟨a, a1, a2, a3⟩ := h2 d
    have a4 := a3 0 (by show 0 < (zG z k3).2.1; have d2 : 1 ≤ (zG z k3).2.1 := d2; omega)
    have hv : v = nI a := h.2.trans a1
    exact fin a (by rw [hv, nI_toInt (by have := a4.2.1; omega)]) a4
  · obtain ⟨h0, i, h1, hv⟩ := h
    obtain ⟨-, -, -, -, -, -, h2, -⟩ := wk_h (wk0 k3) h0
    obtain ⟨a, a1, a2, a3⟩ := h2 d
    have a4 := a3 i (by show i < (zG z k3).2.1; have h1 : i < k2 := h1; have d2 : k2 ≤ (zG z k3).2.1 := d2; omega)
    have hv : v = nI (a + i) := hv.trans (by rw [a1, nI_add])
    exact fin (a + i) (by rw [hv]; exact nI_toInt (by have := a4.2.1; omega)) a4
theorem pu_r {v : Int32} (i : Nat) (h8 : i ≠ 8) (h9 : i ≠ 9) (h10 : i ≠ 10) : (cPush s v).1 i = s.1 i := by
  show (if i = 8 then _ else if i = 9 then _ else if i = 10 then _ else s.1 i) = _
  rw [if_neg h8, if_neg h9, if_neg h10]
theorem s8_r {v : Int32} (i : Nat) (h8 : i ≠ 8) : (sR s 8 v).1 i = s.1 i := if_neg h8
theorem tw_r {v : Int32} (i : Nat) (h8 : i ≠ 8) (h9 : i ≠ 9) : (cTwo s v).1 i = s.1 i := by
  show (if i = 8 then _ else if i = 9 then _ else if i = 8 then _ else s.1 i) = _
  rw [if_neg h8, if_neg h9, if_neg h8]
theorem po_r (i : Nat) (h8 : i ≠ 8) (h9 : i ≠ 9) : (cPop s).1 i = s.1 i := by
  show (if i = 9 then _ else if i = 8 then _ else s.1 i) = _
  rw [if_neg h9, if_neg h8]
abbrev k0 : Kd := (0, 0, 0)
/-- less is known -/
def wR (k k' : Kd) : Prop := k' = k ∨ k' = k0
theorem rk_wR {pl : Nat → Nat} {G : Int → Kd} {m : Nat → Int32} {pri W : Nat} {k k' : Kd} {v : Int32} (h : wR k k') (r : rk pl G m pri W k v) : rk pl G m pri W k' v := by
  rcases h with rfl | rfl
  · exact r
  · trivial
variable {R : Nat → Sg → Prop} {j : Nat} {v : Int32} {z : Sg}
theorem i_ldc (hC : C.1 j = some (4, v)) {a b c : Kd} (hR : R (j + 1) (zSA z (a, b, c))) (ha : wR (1, 0, v.toInt) a := by first | exact Or.inl rfl | exact Or.inr rfl) (hb : wR (zA z).1 b := by first | exact Or.inl rfl | exact Or.inr rfl) (hc : wR (zA z).2.1 c := by first | exact Or.inl rfl | exact Or.inr rfl) : rul C M E R j z :=
  ru_r hC hR fun s w g Q A t pri W hE h11 h13 hr => ⟨cPush s v, rfl, rfl, pu_r, rk_wR ha rfl, rk_wR hb hr.1, rk_wR hc hr.2.1⟩
theorem i_lway {p b : Nat} (hC : C.1 j = some (4, v)) (hv : v = nI (C.2 p) - nI (C.2 b)) {b' c : Kd} (hR : R (j + 1) (zSA z ((8, p, b), b', c))) (hb : wR (zA z).1 b' := by first | exact Or.inl rfl | exact Or.inr rfl) (hc : wR (zA z).2.1 c := by first | exact Or.inl rfl | exact Or.inr rfl) : rul C M E R j z :=
  ru_r hC hR fun s w g Q A t pri W hE h11 h13 hr => ⟨cPush s v, rfl, rfl, pu_r, hv, rk_wR hb hr.1, rk_wR hc hr.2.1⟩
theorem i_ldlp (hC : C.1 j = some (1, v)) (h1 : -100000 ≤ v.toInt) (h2 : v.toInt ≤ 100000) {b c : Kd} (hR : R (j + 1) (zSA z ((2, 0, v.toInt), b, c))) (hb : wR (zA z).1 b := by first | exact Or.inl rfl | exact Or.inr rfl) (hc : wR (zA z).2.1 c := by first | exact Or.inl rfl | exact Or.inr rfl) : rul C M E R j z :=
  ru_r hC hR fun s w g Q A t pri W hE h11 h13 hr => ⟨cPush s (s.1 12 + v), rfl, rfl, pu_r, by
    show (s.1 12 + v).toInt = W + v.toInt
    have := hE.1.2
    have := hE.2.2.2.2.1
    rw [hE.2.1, i_add (nI_toInt (by omega)) rfl (by omega) (by omega)], rk_wR hb hr.1, rk_wR hc hr.2.1⟩
theorem i_ldl {k : Kd} (hC : C.1 j = some (7, v)) (hz : (zG z v.toInt).1 ≠ 0) (hk : k = k0 ∨ (10 ≤ (zG z v.toInt).1 ∧ k = (5, 0, v.toInt)) ∨ (10 ≤ (zG z v.toInt).1 ∧ (zG z v.toInt).1 ≤ 19 ∧ k = ((zG z v.toInt).1 - 10, (zG z v.toInt).2))) {b c : Kd} (hR : R (j + 1) (zSA z (k, b, c))) (hb : wR (zA z).1 b := by first | exact Or.inl rfl | exact Or.inr rfl) (hc : wR (zA z).2.1 c := by first | exact Or.inl rfl | exact Or.inr rfl) : rul C M E R j z :=
  ru_r hC hR fun s w g Q A t pri W hE h11 h13 hr => by
    have wk0 := hE.2.2.2.2.2.2.2.2.1 v.toInt
    obtain ⟨a, a1, a2, a3⟩ := wk_a wk0 hz
    have hM := hE.1.2
    have ad := ad_w (v := v) hE.1 hE.2.1 (by have := hE.2.2.2.2.1; omega) rfl a1 a3
    refine ⟨cPush s (s.2.1 a), by rw [x_dir (by decide)]; show ((adM s (s.1 12 + v)).map _).map _ = _; rw [ad]; rfl, rfl, pu_r, ?_, rk_wR hb hr.1, rk_wR hc hr.2.1⟩
    show rk C.2 (zG z) s.2.1 pri W k (s.2.1 a)
    have ea : (W + v.toInt).toNat = a := by rw [a1]; rfl
    rcases hk with rfl | ⟨h, rfl⟩ | ⟨h, h', rfl⟩
    · trivial
    · exact ⟨h, by show s.2.1 a = s.2.1 (W + v.toInt).toNat; rw [ea]⟩
    · obtain ⟨-, -, -, -, -, b1, -⟩ := wk_h wk0 h
      rw [ea] at b1
      exact b1 h'
theorem i_ldnl (hC : C.1 j = some (3, 0)) (hd : daA (zG z) (zA z).1) {b c : Kd} (hR : R (j + 1) (zSA z (k0, b, c))) (hb : wR (zA z).2.1 b := by first | exact Or.inl rfl | exact Or.inr rfl) (hc : wR (zA z).2.2 c := by first | exact Or.inl rfl | exact Or.inr rfl) : rul C M E R j z :=
  ru_r hC hR fun s w g Q A t pri W hE h11 h13 hr => by
    obtain ⟨a, a1, a2, a3⟩ := daA_ok hE hd hr.1
    have ad : adM s (s.1 8 + 0) = some a := by rw [Int32.add_zero]; exact ad_v hE.1 a1 a3.2.1
    exact ⟨sR s 8 (s.2.1 a), by rw [x_dir (by decide)]; show ((adM s (s.1 8 + 0)).map _).map _ = _; rw [ad]; rfl, rfl, fun i h _ _ => s8_r i h, trivial, rk_wR hb hr.2.1, rk_wR hc hr.2.2⟩
theorem i_eqc (hC : C.1 j = some (12, v)) {b c : Kd} (hR : R (j + 1) (zSA z (k0, b, c))) (hb : wR (zA z).2.1 b := by first | exact Or.inl rfl | exact Or.inr rfl) (hc : wR (zA z).2.2 c := by first | exact Or.inl rfl | exact Or.inr rfl) : rul C M E R j z :=
  ru_r hC hR fun s w g Q A t pri W hE h11 h13 hr => ⟨_, rfl, rfl, fun i h _ _ => s8_r i h, trivial, rk_wR hb hr.2.1, rk_wR hc hr.2.2⟩
theorem i_adc (hC : C.1 j = some (8, v)) {b c : Kd} (hR : R (j + 1) (zSA z (k0, b, c))) (hb : wR (zA z).2.1 b := by first | exact Or.inl rfl | exact Or.inr rfl) (hc : wR (zA z).2.2 c := by first | exact Or.inl rfl | exact Or.inr rfl) : rul C M E R j z :=
  ru_r hC hR fun s w g Q A t pri W hE h11 h13 hr => ⟨_, rfl, rfl, fun i h _ _ => s8_r i h, trivial, rk_wR hb hr.2.1, rk_wR hc hr.2.2⟩
theorem i_rev (hC : C.1 j = some (15, nI 0)) {a b c : Kd} (hR : R (j + 1) (zSA z (a, b, c))) (ha : wR (zA z).2.1 a := by first | exact Or.inl rfl | exact Or.inr rfl) (hb : wR (zA z).1 b := by first | exact Or.inl rfl | exact Or.inr rfl) (hc : wR (zA z).2.2 c := by first | exact Or.inl rfl | exact Or.inr rfl) : rul C M E R j z :=
  ru_r hC hR fun s w g Q A t pri W hE h11 h13 hr => ⟨_, x_op (by decide), rfl, fun i h h9 _ => by
    show (if i = 9 then _ else if i = 8 then _ else s.1 i) = _
    rw [if_neg h9, if_neg h], rk_wR ha hr.2.1, rk_wR hb hr.1, rk_wR hc hr.2.2⟩
theorem i_two {o : Nat} (ho : o = 1 ∨ o = 2 ∨ o = 3 ∨ o = 6 ∨ o = 7 ∨ o = 8 ∨ o = 9 ∨ o = 10) (hC : C.1 j = some (15, nI o)) {b c : Kd} (hR : R (j + 1) (zSA z (k0, b, c))) (hb : wR (zA z).2.2 b := by first | exact Or.inl rfl | exact Or.inr rfl) (hc : wR (zA z).2.2 c := by first | exact Or.inl rfl | exact Or.inr rfl) : rul C M E R j z :=
  ru_r hC hR fun s w g Q A t pri W hE h11 h13 hr => by
    have : ∃ v, cOpr s o = some (cTwo s v) := by
      rcases ho with rfl | rfl | rfl | rfl | rfl | rfl | rfl | rfl <;> exact ⟨_, rfl⟩
    obtain ⟨v, hv⟩ := this
    exact ⟨cTwo s v, by rw [x_op (by omega), hv]; rfl, rfl, fun i h h9 _ => tw_r i h h9, trivial, rk_wR hb hr.2.2, rk_wR hc hr.2.2⟩
theorem i_addc {x y : Int32} (hC : C.1 j = some (15, nI 1)) (ha : (zA z).1 = (1, 0, y.toInt)) (hb : (zA z).2.1 = (1, 0, x.toInt)) {b c : Kd} (hR : R (j + 1) (zSA z ((1, 0, (x + y).toInt), b, c))) (hc1 : wR (zA z).2.2 b := by first | exact Or.inl rfl | exact Or.inr rfl) (hc2 : wR (zA z).2.2 c := by first | exact Or.inl rfl | exact Or.inr rfl) : rul C M E R j z :=
  ru_r hC hR fun s w g Q A t pri W hE h11 h13 hr => by
    obtain ⟨h1, h2, h3⟩ := hr
    rw [ha] at h1
    rw [hb] at h2
    have h1 : s.1 8 = y := Int32.toInt_inj.mp h1
    have h2 : s.1 9 = x := Int32.toInt_inj.mp h2
    exact ⟨cTwo s (s.1 9 + s.1 8), x_op (by decide), rfl, fun i h h9 _ => tw_r i h h9, by show (s.1 9 + s.1 8).toInt = (x + y).toInt; rw [h1, h2], rk_wR hc1 h3, rk_wR hc2 h3⟩
theorem i_subc {x y : Int32} (hC : C.1 j = some (15, nI 2)) (ha : (zA z).1 = (1, 0, y.toInt)) (hb : (zA z).2.1 = (1, 0, x.toInt)) {b c : Kd} (hR : R (j + 1) (zSA z ((1, 0, (x - y).toInt), b, c))) (hc1 : wR (zA z).2.2 b := by first | exact Or.inl rfl | exact Or.inr rfl) (hc2 : wR (zA z).2.2 c := by first | exact Or.inl rfl | exact Or.inr rfl) : rul C M E R j z :=
  ru_r hC hR fun s w g Q A t pri W hE h11 h13 hr => by
    obtain ⟨h1, h2, h3⟩ := hr
    rw [ha] at h1
    rw [hb] at h2
    have h1 : s.1 8 = y := Int32.toInt_inj.mp h1
    have h2 : s.1 9 = x := Int32.toInt_inj.mp h2
    exact ⟨cTwo s (s.1 9 - s.1 8), x_op (by decide), rfl, fun i h h9 _ => tw_r i h h9, by show (s.1 9 - s.1 8).toInt = (x - y).toInt; rw [h1, h2], rk_wR hc1 h3, rk_wR hc2 h3⟩
theorem i_dm {o : Nat} (ho : o = 4 ∨ o = 5) (hC : C.1 j = some (15, nI o)) (z0 : (zR z).1 = 0) (nl : (zL z).2.1 = []) {b c : Kd} (hR : R (j + 1) (zSA z (k0, b, c))) (hb : wR (zA z).2.2 b := by first | exact Or.inl rfl | exact Or.inr rfl) (hc : wR (zA z).2.2 c := by first | exact Or.inl rfl | exact Or.inr rfl) : rul C M E R j z :=
  ru_x hC z0 nl hR fun s w g Q A t pri W hE h11 h13 hr => by
    have : (∃ v, cOpr s o = some (cTwo s v)) ∨ cOpr s o = some (cFails s) := by
      rcases ho with rfl | rfl
      · by_cases c : s.1 8 = 0
        · exact Or.inr (if_pos c)
        · exact Or.inl ⟨_, if_neg c⟩
      · by_cases c : s.1 8 = 0
        · exact Or.inr (if_pos c)
        · exact Or.inl ⟨_, if_neg c⟩
    rcases this with ⟨v, hv⟩ | hv
    · exact ⟨cTwo s v, by rw [x_op (by omega), hv]; rfl, rfl, Or.inl ⟨fun i h h9 _ => tw_r i h h9, trivial, rk_wR hb hr.2.2, rk_wR hc hr.2.2⟩⟩
    · refine ⟨cFails s, by rw [x_op (by omega), hv]; rfl, rfl, Or.inr ⟨fun i hi => ?_, rfl⟩⟩
      show (if i = 14 then _ else if i = 18 then _ else s.1 i) = _
      rw [if_neg (by omega), if_neg (by omega)]
/-- an index is looked at -/
theorem i_chk {n : Nat} {k : Kd} (hC : C.1 j = some (15, nI 12)) (z0 : (zR z).1 = 0) (nl : (zL z).2.1 = []) (ha : (zA z).1 = (1, 0, (n : Int))) (hk : k = (3, n, 0) ∨ (∃ x : Int, (zA z).2.1 = (1, 0, x) ∧ (0 ≤ x ∧ x < n ∧ k = (1, 0, x) ∨ ¬ (0 ≤ x ∧ x < n) ∧ k = (10, 0, 0)))) {b c : Kd} (hR : R (j + 1) (zSA z (k, b, c))) (hb : wR (zA z).2.2 b := by first | exact Or.inl rfl | exact Or.inr rfl) (hc : wR (zA z).2.2 c := by first | exact Or.inl rfl | exact Or.inr rfl) : rul C M E R j z :=
  ru_x hC z0 nl hR fun s w g Q A t pri W hE h11 h13 hr => by
    obtain ⟨h1, h2, h3⟩ := hr
    rw [ha] at h1
    have h1 : (s.1 8).toInt = n := h1
    by_cases c : 0 ≤ s.1 9 ∧ s.1 9 < s.1 8
    · have c1 : 0 ≤ (s.1 9).toInt := Int32.le_iff_toInt_le.mp c.1
      have c2 : (s.1 9).toInt < n := by rw [← h1]; exact Int32.lt_iff_toInt_lt.mp c.2
      refine ⟨cPop s, by rw [x_op (by decide)]; show some (_, w) = _; rw [if_pos c], rfl, Or.inl ⟨fun i h h9 _ => po_r i h h9, ?_, rk_wR hb h3, rk_wR hc h3⟩⟩
      show rk C.2 (zG z) s.2.1 pri W k (s.1 9)
      rcases hk with rfl | ⟨x, hx, ⟨-, -, rfl⟩ | ⟨hn, -⟩⟩
      · exact ⟨c1, c2⟩
      · rw [hx] at h2; exact h2
      · rw [hx] at h2
        have h2 : (s.1 9).toInt = x := h2
        omega
    · refine ⟨cFails (cPop s), by rw [x_op (by decide)]; show some (_, w) = _; rw [if_neg c], rfl, Or.inr ⟨fun i hi => ?_, rfl⟩⟩
      show (if i = 14 then _ else if i = 18 then _ else (cPop s).1 i) = _
      rw [if_neg (by omega), if_neg (by omega), po_r i (by omega) (by omega)]
/-- never here -/
theorem i_nv {f : Nat} (hC : C.1 j = some (f, v)) (ha : (zA z).1 = (10, 0, 0) ∨ (zA z).2.1 = (10, 0, 0)) : rul C M E R j z := by
  refine ⟨f, v, hC, fun s w g Q t th W r I _ e e0 ef h11 => ?_⟩
  obtain ⟨-, h1, h2, -⟩ := fE_i I e e0 ef
  rcases ha with ha | ha
  · rw [ha] at h1; exact h1.elim
  · rw [ha] at h2; exact h2.elim
/-- an element's address -/
theorem i_wsub {k : Kd} (hC : C.1 j = some (15, nI 11)) (hk : (∃ n m x, (zA z).1 = (2, m, x) ∧ (zA z).2.1 = (3, n, 0) ∧ -100000 ≤ x ∧ x ≤ 100000 ∧ n < 100000 ∧ k = (4, n, x)) ∨ (∃ m x y, (zA z).1 = (2, m, x) ∧ (zA z).2.1 = (1, 0, y) ∧ -100000 ≤ x ∧ x ≤ 100000 ∧ 0 ≤ y ∧ y < 100000 ∧ k = (2, 0, x + y)) ∨
      (∃ n m x, (zA z).1 = (5, m, x) ∧ (zA z).2.1 = (3, n, 0) ∧ k = (6, n, x)) ∨ (∃ (n m : Nat) (x y : Int), (zA z).1 = (5, m, x) ∧ (zA z).2.1 = (1, 0, y) ∧ 0 ≤ y ∧ y < n ∧ k = (6, n, x))) {b c : Kd} (hR : R (j + 1) (zSA z (k, b, c))) (hc1 : wR (zA z).2.2 b := by first | exact Or.inl rfl | exact Or.inr rfl) (hc2 : wR (zA z).2.2 c := by first | exact Or.inl rfl | exact Or.inr rfl) : rul C M E R j z :=
  ru_r hC hR fun s w g Q A t pri W hE h11 h13 hr => by
    obtain ⟨h1, h2, h3⟩ := hr
    refine ⟨cTwo s (s.1 9 + s.1 8), x_op (by decide), rfl, fun i h h9 _ => tw_r i h h9, ?_, rk_wR hc1 h3, rk_wR hc2 h3⟩
    show rk C.2 (zG z) s.2.1 pri W k (s.1 9 + s.1 8)
    have hW := hE.2.2.2.2.1
    have hM := hE.1.2
    rcases hk with ⟨n, m, x, ha, hb, x1, x2, x3, rfl⟩ | ⟨m, x, y, ha, hb, x1, x2, y1, y2, rfl⟩ | ⟨n, m, x, ha, hb, rfl⟩ | ⟨n, m, x, y, ha, hb, y1, y2, rfl⟩
    · rw [ha] at h1
      rw [hb] at h2
      have h1 : (s.1 8).toInt = W + x := h1
      obtain ⟨b1, b2⟩ : 0 ≤ (s.1 9).toInt ∧ (s.1 9).toInt < n := h2
      refine ⟨(s.1 9).toInt.toNat, by show _ < n; omega, ?_⟩
      rw [i_add rfl h1 (by omega) (by omega)]
      show _ = (W : Int) + x + ((s.1 9).toInt.toNat : Int)
      omega
    · rw [ha] at h1
      rw [hb] at h2
      have h1 : (s.1 8).toInt = W + x := h1
      have h2 : (s.1 9).toInt = y := h2
      show (s.1 9 + s.1 8).toInt = W + (x + y)
      rw [i_add h2 h1 (by omega) (by omega)]
      omega
    · rw [ha] at h1
      rw [hb] at h2
      obtain ⟨b1, b2⟩ : 0 ≤ (s.1 9).toInt ∧ (s.1 9).toInt < n := h2
      refine ⟨h1.1, (s.1 9).toInt.toNat, by show _ < n; omega, ?_⟩
      rw [h1.2, Int32.add_comm]
      congr 1
      refine Int32.toInt_inj.mp ?_
      have := Int32.toInt_lt (s.1 9)
      rw [nI_toInt (by omega)]
      omega
    · rw [ha] at h1
      rw [hb] at h2
      have h2 : (s.1 9).toInt = y := h2
      refine ⟨h1.1, (s.1 9).toInt.toNat, by show _ < n; omega, ?_⟩
      rw [h1.2, Int32.add_comm]
      congr 1
      refine Int32.toInt_inj.mp ?_
      have := Int32.toInt_lt (s.1 9)
      rw [nI_toInt (by omega)]
      omega
theorem i_ldpi {p : Nat} (hC : C.1 j = some (15, nI 13)) (ha : (zA z).1 = (8, p, ((j + 1 : Nat) : Int))) (hR : R (j + 1) (zSA z ((7, p, 0), (zA z).2.1, (zA z).2.2))) : rul C M E R j z :=
  ru_r hC hR fun s w g Q A t pri W hE h11 h13 hr => by
    obtain ⟨h1, h2, h3⟩ := hr
    rw [ha] at h1
    have h1 : s.1 8 = nI (C.2 p) - nI (C.2 (j + 1)) := h1
    refine ⟨sR s 8 (s.1 8 + s.1 11), x_op (by decide), rfl, fun i h _ _ => s8_r i h, ?_, h2, h3⟩
    show s.1 8 + s.1 11 = nI (C.2 p)
    rw [h1, h11, Int32.sub_add_cancel]
theorem i_self (hC : C.1 j = some (15, nI 30)) {b c : Kd} (hR : R (j + 1) (zSA z ((9, 0, 0), b, c))) (hb : wR (zA z).1 b := by first | exact Or.inl rfl | exact Or.inr rfl) (hc : wR (zA z).2.1 c := by first | exact Or.inl rfl | exact Or.inr rfl) : rul C M E R j z :=
  ru_r hC hR fun s w g Q A t pri W hE h11 h13 hr => ⟨cPush s (cSelf s), x_sch (by decide) (by decide), rfl, pu_r, sf_ok hE.2.1 hE.2.2.1, rk_wR hb hr.1, rk_wR hc hr.2.1⟩
end
