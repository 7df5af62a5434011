/-! the least signs of what is read: processes -/
def txP (pa : List (List Nat)) (P : PrP) : Prop := ∀ (lv : Nat) (vis : List Nat) (sy : List Sym) (L : List PL) (x : Tm × List Sym × List PL), wfI pa sy vis → P lv vis sy L = .inr x → x.2.2 <:+ L ∧ ((∀ y ∈ L, y.1 ≤ 3000) → ∀ syF, sX x.2.1 syF → rdQ syF x.1 0 vis ∧ cQ syF x.1 0 lv + cL x.2.2 ≤ cL L)
theorem isAt_i {lv u i : Nat} {ts : List Tok} {r : List PL} (h : isAt lv ((u, i, ts) :: r) = true) : i = 2 * lv := by
  have h2 : ((i / 2 == lv) && !(oddI i)) = true := h
  rw [Bool.and_eq_true] at h2
  have h3 : i / 2 = lv := by simpa using h2.1
  have h4 : oddI i = false := by simpa using h2.2
  rw [oddI, decide_eq_false_iff_not] at h4
  omega
theorem sf_mem {L L' : List PL} (h : L' <:+ L) {x : PL} (hx : x ∈ L') : x ∈ L := h.subset hx
section
variable {pa : List (List Nat)} {P : PrP}
theorem tx_blw (hW : wfP pa P) (hP : txP pa P) {lv least most : Nat} {vis : List Nat} : ∀ (m many : Nat) (sy : List Sym) (L : List PL) (x : Tm × List Sym × List PL), wfI pa sy vis → blwS P lv vis least most m many sy L = .inr x → x.2.2 <:+ L ∧ ((∀ y ∈ L, y.1 ≤ 3000) → ∀ syF, sX x.2.1 syF → rdQ syF x.1 1 vis ∧ cQ syF x.1 1 lv + cL x.2.2 ≤ cL L) := by
  intro m
  induction m with
  | zero => intro many sy L x _ h; cases h
  | succ m ih =>
    intro many sy L x I h
    rw [blwS] at h
    split at h
    · split at h
      · cases h
      · obtain ⟨y, h1, h⟩ := bnd_ok h
        obtain ⟨w, h2, h⟩ := bnd_ok h
        have e := Sum.inr.inj h
        subst e
        obtain ⟨i1, i2, i3, i4⟩ := hW _ _ _ _ _ I h1
        obtain ⟨p1, p2⟩ := hP _ _ _ _ _ I h1
        obtain ⟨q1, q2⟩ := ih _ _ _ _ (I.ex i1 i2) h2
        obtain ⟨j1, -⟩ := wf_blw hW _ _ _ _ _ (I.ex i1 i2) h2
        refine ⟨q1.trans p1, fun hu syF hF => ?_⟩
        obtain ⟨a1, a2⟩ := p2 hu syF (j1.tr hF)
        obtain ⟨b1, b2⟩ := q2 (fun z hz => hu z (sf_mem p1 hz)) syF hF
        refine ⟨⟨a1, b1⟩, ?_⟩
        show cQ syF y.1 0 lv + cQ syF w.1 1 lv + cL w.2.2 ≤ _
        omega
    · have e := Sum.inr.inj h
      subst e
      refine ⟨List.suffix_refl _, fun hu syF hF => ⟨trivial, ?_⟩⟩
      show 0 + cL L ≤ cL L
      omega
theorem tx_ifs (hW : wfP pa P) (hP : txP pa P) {lv : Nat} {vis : List Nat} : ∀ (m : Nat) (more : Bool) (sy : List Sym) (L : List PL) (x : Tm × List Sym × List PL), wfI pa sy vis → ifsS P lv vis m more sy L = .inr x → x.2.2 <:+ L ∧ ((∀ y ∈ L, y.1 ≤ 3000) → ∀ syF, sX x.2.1 syF → rdQ syF x.1 2 vis ∧ cQ syF x.1 2 lv + cL x.2.2 ≤ cL L) := by
  intro m
  induction m with
  | zero => intro more sy L x _ h; cases h
  | succ m ih =>
    intro more sy L x I h
    rw [ifsS_s] at h
    split at h
    · split at h
      · rename_i hA
        cases L with
        | nil => cases h
        | cons l L2 =>
          obtain ⟨u, i, ts⟩ := l
          unfold ifsB at h
          dsimp only at h
          obtain ⟨e, h1, h⟩ := bnd_ok h
          obtain ⟨y, h2, h⟩ := bnd_ok h
          obtain ⟨w, h3, h⟩ := bnd_ok h
          have ee := Sum.inr.inj h
          subst ee
          have h1 := lft_ok h1
          obtain ⟨e2, h4, h1⟩ := bnd_ok h1
          obtain ⟨z, h5, h1⟩ := bnd_ok h1
          have ee := Sum.inr.inj h1
          subst ee
          obtain ⟨i1, i2, i3, i4⟩ := hW _ _ _ _ _ I h2
          obtain ⟨p1, p2⟩ := hP _ _ _ _ _ I h2
          obtain ⟨q1, q2⟩ := ih _ _ _ _ (I.ex i1 i2) h3
          obtain ⟨j1, -⟩ := wf_ifs hW _ _ _ _ _ (I.ex i1 i2) h3
          refine ⟨(q1.trans p1).trans (List.suffix_cons _ _), fun hu syF hF => ?_⟩
          obtain ⟨a1, a2⟩ := p2 (fun z hz => hu z (List.mem_cons_of_mem _ hz)) syF (j1.tr hF)
          obtain ⟨b1, b2⟩ := q2 (fun z hz => hu z (List.mem_cons_of_mem _ (sf_mem p1 hz))) syF hF
          obtain ⟨c1, c2⟩ := tx_exT (((i1.tr j1).tr hF).syO I.2.1 I.1) (by omega) h4
          have hi := isAt_i hA
          refine ⟨⟨c1, a1, b1⟩, ?_⟩
          show 2 * lv + 3 + cE syF e2.1 + cQ syF y.1 0 (lv + 2) + cQ syF w.1 2 lv + cL w.2.2 ≤ i + cT ts + 1 + cL L2
          omega
      · cases h
    · have e := Sum.inr.inj h
      subst e
      refine ⟨List.suffix_refl _, fun hu syF hF => ⟨trivial, ?_⟩⟩
      show 0 + cL L ≤ cL L
      omega
theorem tx_alt (hW : wfP pa P) (hP : txP pa P) {lv : Nat} {vis : List Nat} : ∀ (m many : Nat) (sy : List Sym) (L : List PL) (x : Tm × List Sym × List PL), wfI pa sy vis → altS P lv vis m many sy L = .inr x → x.2.2 <:+ L ∧ ((∀ y ∈ L, y.1 ≤ 3000) → ∀ syF, sX x.2.1 syF → rdQ syF x.1 3 vis ∧ cQ syF x.1 3 lv + cL x.2.2 ≤ cL L) := by
  intro m
  induction m with
  | zero => intro many sy L x _ h; cases h
  | succ m ih =>
    intro many sy L x I h
    rw [altS_s] at h
    split at h
    · split at h
      · rename_i hA
        split at h
        · cases h
        · cases L with
          | nil => cases h
          | cons l L2 =>
            obtain ⟨u, i, ts⟩ := l
            unfold altB at h
            dsimp only at h
            obtain ⟨g, h1, h⟩ := bnd_ok h
            obtain ⟨y, h2, h⟩ := bnd_ok h
            obtain ⟨w, h3, h⟩ := bnd_ok h
            have ee := Sum.inr.inj h
            subst ee
            have h1 := lft_ok h1
            obtain ⟨i1, i2, i3, i4⟩ := hW _ _ _ _ _ I h2
            obtain ⟨p1, p2⟩ := hP _ _ _ _ _ I h2
            obtain ⟨q1, q2⟩ := ih _ _ _ _ (I.ex i1 i2) h3
            obtain ⟨j1, -⟩ := wf_alt hW _ _ _ _ _ (I.ex i1 i2) h3
            refine ⟨(q1.trans p1).trans (List.suffix_cons _ _), fun hu syF hF => ?_⟩
            obtain ⟨a1, a2⟩ := p2 (fun z hz => hu z (List.mem_cons_of_mem _ hz)) syF (j1.tr hF)
            obtain ⟨b1, b2⟩ := q2 (fun z hz => hu z (List.mem_cons_of_mem _ (sf_mem p1 hz))) syF hF
            obtain ⟨c1, c2, c3⟩ := tx_grd (((i1.tr j1).tr hF).syO I.2.1 I.1) h1
            have hi := isAt_i hA
            refine ⟨⟨hu _ List.mem_cons_self, c1, c2, a1, b1⟩, ?_⟩
            show 2 * lv + 3 + cGd syF g.1 g.2.1 g.2.2 + cQ syF y.1 0 (lv + 2) + cQ syF w.1 3 lv + cL w.2.2 ≤ i + cT ts + 1 + cL L2
            omega
      · cases h
    · have e := Sum.inr.inj h
      subst e
      refine ⟨List.suffix_refl _, fun hu syF hF => ⟨trivial, ?_⟩⟩
      show 0 + cL L ≤ cL L
      omega
theorem tx_con (hW : wfP pa P) (hP : txP pa P) {lv u : Nat} {vis : List Nat} {sy : List Sym} {ts : List Tok} {L : List PL} {x : Tm × List Sym × List PL} (I : wfI pa sy vis) (h : conS P lv vis sy u ts L = .inr x) : x.2.2 <:+ L ∧ (u ≤ 3000 → (∀ y ∈ L, y.1 ≤ 3000) → ∀ syF, sX x.2.1 syF → rdQ syF (.div (.index u) x.1) 0 vis ∧ cQ syF (.div (.index u) x.1) 0 lv + cL x.2.2 ≤ 2 * lv + cT ts + 1 + cL L) := by
  have c0 := cT_hd (ts := ts)
  rw [conS] at h
  split at h
  · rename_i hw
    obtain ⟨z, h1, h⟩ := bnd_ok h
    have e := Sum.inr.inj h
    subst e
    have c1 : tc (hd ts) = 4 := isW_c hw
    refine ⟨List.suffix_refl _, fun hu _ syF _ => ⟨hu, ?_⟩⟩
    show 2 * lv + 5 + cL L ≤ _
    omega
  split at h
  · rename_i hw
    obtain ⟨z, h1, h⟩ := bnd_ok h
    have e := Sum.inr.inj h
    subst e
    have c1 : tc (hd ts) = 4 := isW_c hw
    refine ⟨List.suffix_refl _, fun hu _ syF _ => ⟨hu, ?_⟩⟩
    show 2 * lv + 5 + cL L ≤ _
    omega
  split at h
  · rename_i hw
    have c1 : tc (hd ts) = 3 := isW_c hw
    split at h
    · obtain ⟨z, h1, h⟩ := bnd_ok h
      obtain ⟨y, h2, h⟩ := bnd_ok h
      have e := Sum.inr.inj h
      subst e
      have h1 := lft_ok h1
      obtain ⟨n, k1, h1⟩ := bnd_ok h1
      obtain ⟨r, k2, h1⟩ := bnd_ok h1
      obtain ⟨e1, k3, h1⟩ := bnd_ok h1
      obtain ⟨r2, k4, h1⟩ := bnd_ok h1
      obtain ⟨e2, k5, h1⟩ := bnd_ok h1
      obtain ⟨z5, k6, h1⟩ := bnd_ok h1
      have e := Sum.inr.inj h1
      subst e
      obtain ⟨hl2, cs, hn⟩ := wf_new I.1 k1
      have X : sX sy n.1 := ⟨_, hn⟩
      have en : n.1.length = sy.length + 1 := by rw [hn]; simp
      have es : srO n.1 sy.length = 10 := by rw [srO, syO_lt (by omega) (by omega)]; simp [hn]
      have I2 := I.ex X (by omega)
      have I3 := I2.cons (s := sy.length) (by omega) (by rw [es]; decide)
      obtain ⟨i1, -⟩ := hW _ _ _ _ _ I3 h2
      obtain ⟨p1, p2⟩ := hP _ _ _ _ _ I3 h2
      refine ⟨p1, fun hu hL syF hF => ?_⟩
      have EV := (i1.tr hF).syO I2.2.1 I2.1
      obtain ⟨a1, a2⟩ := p2 hL syF hF
      have b0 := tx_new I.1 k1 syF (i1.tr hF)
      obtain ⟨b1, b2⟩ := tkS_c k2
      obtain ⟨b3, b4⟩ := tx_exT EV (by omega) k3
      obtain ⟨b5, b6⟩ := tkS_c k4
      obtain ⟨b7, b8⟩ := tx_exT EV (by omega) k5
      have b9 := isS_c b1
      have b10 : tc (hd e1.2) = 3 := isW_c b5
      have es' : srO syF sy.length = 10 := by rw [srO, syO_ex (i1.tr hF) (Or.inl (by omega)) (by omega)]; exact es
      refine ⟨⟨⟨hu, es'⟩, b3, b7, a1⟩, ?_⟩
      show 2 * lv + 8 + ncs syF sy.length + cE syF e1.1 + cE syF e2.1 + cQ syF y.1 0 (lv + 1) + cL y.2.2 ≤ _
      omega
    · obtain ⟨z, h1, h⟩ := bnd_ok h
      obtain ⟨y, h2, h⟩ := bnd_ok h
      have e := Sum.inr.inj h
      subst e
      obtain ⟨p1, p2⟩ := tx_blw hW hP _ _ _ _ _ I h2
      refine ⟨p1, fun hu hL syF hF => ?_⟩
      obtain ⟨a1, a2⟩ := p2 hL syF hF
      refine ⟨⟨hu, a1⟩, ?_⟩
      show 2 * lv + 4 + cQ syF y.1 1 (lv + 1) + cL y.2.2 ≤ _
      omega
  split at h
  · rename_i hw
    have c1 : tc (hd ts) = 3 := isW_c hw
    split at h
    · obtain ⟨z, h1, h⟩ := bnd_ok h
      obtain ⟨y, h2, h⟩ := bnd_ok h
      have e := Sum.inr.inj h
      subst e
      have h1 := lft_ok h1
      obtain ⟨n, k1, h1⟩ := bnd_ok h1
      obtain ⟨r, k2, h1⟩ := bnd_ok h1
      obtain ⟨e1, k3, h1⟩ := bnd_ok h1
      obtain ⟨r2, k4, h1⟩ := bnd_ok h1
      obtain ⟨e2, k5, h1⟩ := bnd_ok h1
      obtain ⟨z5, k6, h1⟩ := bnd_ok h1
      have e := Sum.inr.inj h1
      subst e
      obtain ⟨hl2, cs, hn⟩ := wf_new I.1 k1
      have X : sX sy n.1 := ⟨_, hn⟩
      have en : n.1.length = sy.length + 1 := by rw [hn]; simp
      have es : srO n.1 sy.length = 11 := by rw [srO, syO_lt (by omega) (by omega)]; simp [hn]
      have I2 := I.ex X (by omega)
      have I3 := I2.cons (s := sy.length) (by omega) (by rw [es]; decide)
      obtain ⟨i1, -⟩ := hW _ _ _ _ _ I3 h2
      obtain ⟨p1, p2⟩ := hP _ _ _ _ _ I3 h2
      refine ⟨p1, fun hu hL syF hF => ?_⟩
      obtain ⟨a1, a2⟩ := p2 hL syF hF
      have b0 := tx_new I.1 k1 syF (i1.tr hF)
      obtain ⟨b1, b2⟩ := tkS_c k2
      have b4 := numS_c k3
      obtain ⟨b5, b6⟩ := tkS_c k4
      have b8 := numS_c k5
      have b9 := isS_c b1
      have b10 : tc (hd e1.2) = 3 := isW_c b5
      have es' : srO syF sy.length = 11 := by rw [srO, syO_ex (i1.tr hF) (Or.inl (by omega)) (by omega)]; exact es
      refine ⟨⟨⟨hu, es'⟩, (wf_num k5).1, (wf_num k5).2, a1⟩, ?_⟩
      show 2 * lv + 10 + ncs syF sy.length + cQ syF y.1 0 (lv + 1) + cL y.2.2 ≤ _
      omega
    · obtain ⟨z, h1, h⟩ := bnd_ok h
      obtain ⟨y, h2, h⟩ := bnd_ok h
      have e := Sum.inr.inj h
      subst e
      obtain ⟨p1, p2⟩ := tx_blw hW hP _ _ _ _ _ I h2
      refine ⟨p1, fun hu hL syF hF => ?_⟩
      obtain ⟨a1, a2⟩ := p2 hL syF hF
      obtain ⟨-, -, j3, -⟩ := wf_blw hW _ _ _ _ _ I h2
      refine ⟨⟨⟨hu, by omega⟩, a1⟩, ?_⟩
      show 2 * lv + 4 + cQ syF y.1 1 (lv + 1) + cL y.2.2 ≤ _
      omega
  split at h
  · rename_i hw
    have c1 : tc (hd ts) = 3 := isW_c hw
    obtain ⟨z, h1, h⟩ := bnd_ok h
    obtain ⟨y, h2, h⟩ := bnd_ok h
    have e := Sum.inr.inj h
    subst e
    obtain ⟨r, k1, k2⟩ := bnd_ok (lft_ok h1)
    obtain ⟨b1, b2⟩ := tkS_c k1
    have b3 : tc (hd ts.tail) = 3 := isW_c b1
    obtain ⟨p1, p2⟩ := tx_blw hW hP _ _ _ _ _ I h2
    refine ⟨p1, fun hu hL syF hF => ?_⟩
    obtain ⟨a1, a2⟩ := p2 hL syF hF
    obtain ⟨-, -, j3, -⟩ := wf_blw hW _ _ _ _ _ I h2
    refine ⟨⟨⟨hu, by omega⟩, a1⟩, ?_⟩
    show 2 * lv + 7 + cQ syF y.1 1 (lv + 1) + cL y.2.2 ≤ _
    omega
  split at h
  · rename_i hw
    have c1 : tc (hd ts) = 2 := isW_c hw
    obtain ⟨z, h1, h⟩ := bnd_ok h
    obtain ⟨y, h2, h⟩ := bnd_ok h
    have e := Sum.inr.inj h
    subst e
    obtain ⟨p1, p2⟩ := tx_ifs hW hP _ _ _ _ _ I h2
    refine ⟨p1, fun hu hL syF hF => ?_⟩
    obtain ⟨a1, a2⟩ := p2 hL syF hF
    refine ⟨⟨hu, a1⟩, ?_⟩
    show 2 * lv + 3 + cQ syF y.1 2 lv + cL y.2.2 ≤ _
    omega
  split at h
  · rename_i hw
    have c1 : tc (hd ts) = 5 := isW_c hw
    obtain ⟨e, h1, h⟩ := bnd_ok h
    obtain ⟨y, h2, h⟩ := bnd_ok h
    have ee := Sum.inr.inj h
    subst ee
    have h1 := lft_ok h1
    obtain ⟨e2, h4, h1⟩ := bnd_ok h1
    obtain ⟨z, h5, h1⟩ := bnd_ok h1
    have ee := Sum.inr.inj h1
    subst ee
    obtain ⟨i1, -⟩ := hW _ _ _ _ _ I h2
    obtain ⟨p1, p2⟩ := hP _ _ _ _ _ I h2
    refine ⟨p1, fun hu hL syF hF => ?_⟩
    obtain ⟨a1, a2⟩ := p2 hL syF hF
    obtain ⟨b3, b4⟩ := tx_exT ((i1.tr hF).syO I.2.1 I.1) (by omega) h4
    refine ⟨⟨hu, b3, a1⟩, ?_⟩
    show 2 * lv + 6 + cE syF e2.1 + cQ syF y.1 0 (lv + 1) + cL y.2.2 ≤ _
    omega
  split at h
  · rename_i hw
    have c1 : tc (hd ts) = 3 := isW_c hw
    obtain ⟨z, h1, h⟩ := bnd_ok h
    obtain ⟨y, h2, h⟩ := bnd_ok h
    have e := Sum.inr.inj h
    subst e
    obtain ⟨-, -, j3, -⟩ := wf_alt hW _ _ _ _ _ I h2
    obtain ⟨p1, p2⟩ := tx_alt hW hP _ _ _ _ _ I h2
    refine ⟨p1, fun hu hL syF hF => ?_⟩
    obtain ⟨a1, a2⟩ := p2 hL syF hF
    refine ⟨⟨hu, by omega, a1⟩, ?_⟩
    show 2 * lv + 4 + cQ syF y.1 3 lv + cL y.2.2 ≤ _
    omega
  · cases h
end
theorem tx_pro (pa : List (List Nat)) : ∀ m, txP pa (proS pa m) := by
  intro m
  induction m with
  | zero => intro lv vis sy L x _ h; cases h
  | succ m ih =>
    intro lv vis sy L x I h
    rw [proS_s] at h
    split at h
    · rename_i hA
      cases L with
      | nil => cases h
      | cons l L2 =>
        obtain ⟨u, i, ts⟩ := l
        dsimp only at h
        have hi := isAt_i hA
        obtain ⟨y, h1, h⟩ := bnd_ok h
        have e := Sum.inr.inj h
        subst e
        split at h1
        · obtain ⟨sy2, h2, h1⟩ := bnd_ok h1
          obtain ⟨w, h3, h1⟩ := bnd_ok h1
          have e := Sum.inr.inj h1
          subst e
          obtain ⟨d1, d2, d3, d4⟩ := wf_dec I.1 (lft_ok h2)
          have nz : ∀ s, dcl sy2 s → srO sy2 s ≠ 0 := by
            rintro s (⟨h | h, -⟩ | ⟨h | h, -⟩) <;> rw [h] <;> decide
          have I2 := (I.ex d3 d1).see (f := sy.length) (sy2.length - sy.length) (by omega) (fun k hk => nz _ (d4 _ (by omega) (by omega)))
          obtain ⟨i1, -⟩ := wf_pro pa m _ _ _ _ _ I2 h3
          obtain ⟨p1, p2⟩ := ih _ _ _ _ _ I2 h3
          refine ⟨p1.trans (List.suffix_cons _ _), fun hL syF hF => ?_⟩
          obtain ⟨a1, a2⟩ := p2 (fun z hz => hL z (List.mem_cons_of_mem _ hz)) syF hF
          have b := tx_dec (lv := lv) I.1 (lft_ok h2) syF (i1.tr hF)
          refine ⟨⟨hL _ List.mem_cons_self, a1⟩, ?_⟩
          show 2 * lv + 4 + (if 0 < szO syF sy.length then 3 else 0) + cN syF sy.length (sy2.length - sy.length) + cQ syF w.1 0 lv + cL w.2.2 ≤ i + cT ts + 1 + cL L2
          omega
        split at h1
        · obtain ⟨a, h2, h1⟩ := bnd_ok h1
          have e := Sum.inr.inj h1
          subst e
          refine ⟨List.suffix_cons _ _, fun hL syF hF => ?_⟩
          obtain ⟨a1, a2⟩ := tx_stm (lv := lv) (u := u) (pa := pa) (hF.syO I.2.1 I.1) (hL _ List.mem_cons_self) (lft_ok h2)
          refine ⟨a1, ?_⟩
          show cQ syF (.div (.index u) a) 0 lv + cL L2 ≤ i + cT ts + 1 + cL L2
          omega
        · obtain ⟨p1, p2⟩ := tx_con (wf_pro pa m) ih I h1
          refine ⟨p1.trans (List.suffix_cons _ _), fun hL syF hF => ?_⟩
          obtain ⟨a1, a2⟩ := p2 (hL _ List.mem_cons_self) (fun z hz => hL z (List.mem_cons_of_mem _ hz)) syF hF
          refine ⟨a1, ?_⟩
          show cQ syF (.div (.index u) y.1) 0 lv + cL y.2.2 ≤ i + cT ts + 1 + cL L2
          omega
    · cases h
