/-! (S): what a process may lean on; branches -/
/-- the context of a process -/
def ctxP (sy : List Sym) (vis : List Nat) (wd : Nat → Int32) (z : Sg) (q : Nat) : Prop := qt z ∧ zL z = (0, [], 0, 0, 0) ∧ zR z = (0, []) ∧ 1 ≤ q ∧ (zI z).2 < 5000 ∧ (∀ o : Int, (q : Int) ≤ o → o < (zI z).2 → zG z o = (1, 0, 0)) ∧ eC sy vis wd (zG z) ∧ cTg sy vis wd (zG z) ∧ lay sy vis wd q (zI z).2 ∧ pOs sy vis wd ∧ apS sy vis wd ∧ (∀ o, (zG z o).1 ≠ 0 → 0 < o) ∧ ∀ o, (zG z o).1 ≠ 15 ∧ (zG z o).1 ≠ 16
/-- keys of single channels have no index -/
def shpE (sy : List Sym) (e : Ev) : Prop := srO sy e.1.1 = 7 ∨ srO sy e.1.1 = 8 ∨ srO sy e.1.1 = 1 → e.1.2.2 = 0
/-- rights for what happens -/
def crt (sy : List Sym) (vis : List Nat) (wd : Nat → Int32) (z : Sg) (L : List Ev) : Prop := ∀ e ∈ L, e.1.1 ∈ vis → shpE sy e → ∀ m, m = 4 ∨ m = 8 → e.2 &&& m ≠ 0 → rgt sy wd (zG z) (zW z) e.1 m
/-- a key's words -/
def cov (sy : List Sym) (wd : Nat → Int32) (k : Ky) (o : Int) : Prop := ((srO sy k.1 = 7 ∨ srO sy k.1 = 8) ∧ o = (wd k.1).toInt) ∨ (srO sy k.1 = 9 ∧ (wd k.1).toInt ≤ o ∧ o < (wd k.1).toInt + szO sy k.1 ∧ (k.2.1 = false → o = (wd k.1).toInt + k.2.2.toInt))
/-- masks of a branch -/
def mOK (sy : List Sym) (vis : List Nat) (wd : Nat → Int32) (L : List Ev) (mw : Int → Nat) (mr : Nat → Nat) : Prop := (∀ o m, m = 4 ∨ m = 8 → (mw o &&& m ≠ 0 ↔ ∃ e ∈ L, (e.1.1 ∈ vis ∧ shpE sy e) ∧ e.2 &&& m ≠ 0 ∧ cov sy wd e.1 o)) ∧ (∀ c m, m = 4 ∨ m = 8 → (mr c &&& m ≠ 0 ↔ ∃ e ∈ L, (e.1.1 ∈ vis ∧ shpE sy e) ∧ e.2 &&& m ≠ 0 ∧ srO sy e.1.1 = 1 ∧ szO sy e.1.1 = c)) ∧ (∀ o, mw o &&& 12 = mw o) ∧ ∀ c, mr c &&& 12 = mr c
theorem m_ex {P4 P8 : Prop} : ∃ n : Nat, (n &&& 4 ≠ 0 ↔ P4) ∧ (n &&& 8 ≠ 0 ↔ P8) ∧ n &&& 12 = n := by
  by_cases h4 : P4
  · by_cases h8 : P8
    · exact ⟨12, ⟨fun _ => h4, fun _ => by decide⟩, ⟨fun _ => h8, fun _ => by decide⟩, rfl⟩
    · exact ⟨4, ⟨fun _ => h4, fun _ => by decide⟩, ⟨fun y => absurd rfl y, fun y => (h8 y).elim⟩, rfl⟩
  · by_cases h8 : P8
    · exact ⟨8, ⟨fun y => absurd rfl y, fun y => (h4 y).elim⟩, ⟨fun _ => h8, fun _ => by decide⟩, rfl⟩
    · exact ⟨0, ⟨fun y => absurd rfl y, fun y => (h4 y).elim⟩, ⟨fun y => absurd rfl y, fun y => (h8 y).elim⟩, rfl⟩
theorem mOK_ex (sy : List Sym) (vis : List Nat) (wd : Nat → Int32) (L : List Ev) : ∃ mw mr, mOK sy vis wd L mw mr := by
  have h1 := fun o : Int => m_ex (P4 := ∃ e ∈ L, (e.1.1 ∈ vis ∧ shpE sy e) ∧ e.2 &&& 4 ≠ 0 ∧ cov sy wd e.1 o) (P8 := ∃ e ∈ L, (e.1.1 ∈ vis ∧ shpE sy e) ∧ e.2 &&& 8 ≠ 0 ∧ cov sy wd e.1 o)
  have h2 := fun c : Nat => m_ex (P4 := ∃ e ∈ L, (e.1.1 ∈ vis ∧ shpE sy e) ∧ e.2 &&& 4 ≠ 0 ∧ srO sy e.1.1 = 1 ∧ szO sy e.1.1 = c) (P8 := ∃ e ∈ L, (e.1.1 ∈ vis ∧ shpE sy e) ∧ e.2 &&& 8 ≠ 0 ∧ srO sy e.1.1 = 1 ∧ szO sy e.1.1 = c)
  refine ⟨fun o => Classical.choose (h1 o), fun c => Classical.choose (h2 c), fun o m hm => ?_, fun c m hm => ?_, fun o => (Classical.choose_spec (h1 o)).2.2, fun c => (Classical.choose_spec (h2 c)).2.2⟩
  · rcases hm with rfl | rfl
    · exact (Classical.choose_spec (h1 o)).1
    · exact (Classical.choose_spec (h1 o)).2.1
  · rcases hm with rfl | rfl
    · exact (Classical.choose_spec (h2 c)).1
    · exact (Classical.choose_spec (h2 c)).2.1
/-- the words of a branch: what it sees of those above; with its own -/
def bG0 (G : Int → Kd) (mw : Int → Nat) (d : Nat) : Int → Kd := fun o => if (G (o - d)).1 = 1 then (1, 0, 0) else if (G (o - d)).1 = 2 then (2, mw (o - d), 0) else if (G (o - d)).1 = 21 then G (o - d) else if (G (o - d)).1 = 22 then (22, mw (o - d), 0) else k0
def bGk (G : Int → Kd) (mw : Int → Nat) (d hc : Nat) : Int → Kd := fun o => if 1 ≤ o ∧ o < hc then (1, 0, 0) else bG0 G mw d o
def bZs (G : Int → Kd) (q d lc hc : Nat) (mr : Nat → Nat) : Sg := (G, (k0, k0, k0), (lc, hc), (2, (d : Int), (q : Int)), (0, [], 0, 0, 0), (0, []), fun c => if c < 14 then mr c else 0)
def bZ0 (z : Sg) (q d lc hc : Nat) (mw : Int → Nat) (mr : Nat → Nat) : Sg := bZs (bG0 (hdG (zG z) q) mw d) q d lc hc mr
def bZ (z : Sg) (q d lc hc : Nat) (mw : Int → Nat) (mr : Nat → Nat) : Sg := bZs (bGk (hdG (zG z) q) mw d hc) q d lc hc mr
theorem bG0_c {G : Int → Kd} {mw : Int → Nat} {d : Nat} (o : Int) : ((G (o - d)).1 = 1 ∧ bG0 G mw d o = (1, 0, 0)) ∨ ((G (o - d)).1 = 2 ∧ bG0 G mw d o = (2, mw (o - d), 0)) ∨ ((G (o - d)).1 = 21 ∧ bG0 G mw d o = G (o - d)) ∨ ((G (o - d)).1 = 22 ∧ bG0 G mw d o = (22, mw (o - d), 0)) ∨ bG0 G mw d o = k0 := by
  unfold bG0
  by_cases h1 : (G (o - d)).1 = 1
  · exact Or.inl ⟨h1, if_pos h1⟩
  · rw [if_neg h1]
    by_cases h2 : (G (o - d)).1 = 2
    · exact Or.inr (Or.inl ⟨h2, if_pos h2⟩)
    · rw [if_neg h2]
      by_cases h3 : (G (o - d)).1 = 21
      · exact Or.inr (Or.inr (Or.inl ⟨h3, if_pos h3⟩))
      · rw [if_neg h3]
        by_cases h4 : (G (o - d)).1 = 22
        · exact Or.inr (Or.inr (Or.inr (Or.inl ⟨h4, if_pos h4⟩)))
        · exact Or.inr (Or.inr (Or.inr (Or.inr (if_neg h4))))
theorem cv_bZ {z : Sg} {q d lc hc : Nat} {mw : Int → Nat} {mr : Nat → Nat} : cv (bZ0 z q d lc hc mw mr) (bZ z q d lc hc mw mr) := by
  refine ⟨rfl, rfl, rfl, rfl, rfl, rfl, rfl, rfl, fun o => ?_, fun o ho => ?_⟩
  · show bGk (hdG (zG z) q) mw d hc o = bG0 (hdG (zG z) q) mw d o ∨ (bGk (hdG (zG z) q) mw d hc o).1 = 0 ∨ ((bGk (hdG (zG z) q) mw d hc o).1 = 1 ∧ 0 < o ∧ o < ((hc : Nat) : Int))
    unfold bGk
    by_cases c : 1 ≤ o ∧ o < hc
    · rw [if_pos c]; exact Or.inr (Or.inr ⟨rfl, by omega, c.2⟩)
    · rw [if_neg c]; exact Or.inl rfl
  · exfalso
    have ho : (bGk (hdG (zG z) q) mw d hc o).1 = 15 ∨ (bGk (hdG (zG z) q) mw d hc o).1 = 16 := ho
    unfold bGk at ho
    by_cases c : 1 ≤ o ∧ o < hc
    · rw [if_pos c] at ho; exact absurd ho (by decide)
    · rw [if_neg c] at ho
      rcases bG0_c (G := hdG (zG z) q) (mw := mw) (d := d) o with ⟨-, y⟩ | ⟨-, y⟩ | ⟨y1, y⟩ | ⟨-, y⟩ | y
      · rw [y] at ho; exact absurd ho (by decide)
      · rw [y] at ho; exact absurd (show (2 : Nat) = 15 ∨ (2 : Nat) = 16 from ho) (by decide)
      · rw [y] at ho; omega
      · rw [y] at ho; exact absurd (show (22 : Nat) = 15 ∨ (22 : Nat) = 16 from ho) (by decide)
      · rw [y] at ho; exact absurd ho (by decide)
theorem sub_12 {n m : Nat} (h : n &&& 12 = n) (h4 : n &&& 4 ≠ 0 → m &&& 4 ≠ 0) (h8 : n &&& 8 ≠ 0 → m &&& 8 ≠ 0) : subB n m := by
  have := sbm_12 h4 h8
  rw [h] at this
  exact this
section
variable {sy : List Sym} {vis : List Nat} {wd wd' : Nat → Int32} {z : Sg} {q d lc hc : Nat} {L : List Ev} {mw : Int → Nat} {mr : Nat → Nat}
theorem rgt_cov {G : Int → Kd} {wr : Nat → Nat} {k : Ky} {m : Nat} {o : Int} (h : rgt sy wd G wr k m) (c : cov sy wd k o) : (G o).2.1 &&& m ≠ 0 := by
  obtain ⟨r7, r8, -, r9⟩ := h
  rcases c with ⟨c1 | c1, c2⟩ | ⟨c1, c2, c3, c4⟩
  · rw [c2]; exact (r7 c1).2
  · rw [c2]; exact (r8 c1).2
  · obtain ⟨a1, a2, a3⟩ := r9 c1
    cases hk : k.2.1 with
    | true =>
      have := a2 hk (o - (wd k.1).toInt).toNat (by omega)
      rw [show (wd k.1).toInt + (((o - (wd k.1).toInt).toNat : Nat) : Int) = o by omega] at this
      exact this
    | false =>
      have e := c4 hk
      rw [e]
      exact a3 hk (by omega) (by omega)
/-- a branch fits -/
theorem br_ok {st rw : Nat} (cx : ctxP sy vis wd z q) (cr : crt sy vis wd z L) (mk : mOK sy vis wd L mw mr) (l3 : 3 ≤ lc) (h1 : 1 ≤ hc) (dl : d + lc ≤ (zI z).1) (dh : hc + 3 ≤ d) : brOK (hdG (zG z) q) (zW z) q (zI z).1 (d, st, rw, bZ0 z q d lc hc mw mr) := by
  obtain ⟨-, -, -, -, -, -, -, -, ly, -, -, hG, -⟩ := cx
  obtain ⟨k1, k2, k3, k4⟩ := mk
  have hH : ∀ o, (hdG (zG z) q o).1 ≠ 0 → 0 < o ∧ hdG (zG z) q o = zG z o := fun o ho => by
    unfold hdG at ho ⊢
    by_cases c : (q : Int) ≤ o ∧ o < q + 3
    · rw [if_pos c] at ho; exact (ho rfl).elim
    · rw [if_neg c] at ho ⊢; exact ⟨hG o ho, rfl⟩
  have sb : ∀ o, hdG (zG z) q o = zG z o → subB (mw o) (zG z o).2.1 := fun o _ => sub_12 (k3 o) (fun y => by
    obtain ⟨e, e1, ev, e2, e3⟩ := (k1 o 4 (Or.inl rfl)).mp y
    exact rgt_cov (cr e e1 ev.1 ev.2 4 (Or.inl rfl) e2) e3) (fun y => by
    obtain ⟨e, e1, ev, e2, e3⟩ := (k1 o 8 (Or.inr rfl)).mp y
    exact rgt_cov (cr e e1 ev.1 ev.2 8 (Or.inr rfl) e2) e3)
  refine ⟨rfl, rfl, rfl, rfl, l3, h1, dl, dh, fun off => ?_, fun c hc14 => ?_⟩
  · show (bG0 (hdG (zG z) q) mw d off).1 = 0 ∨ ((bG0 (hdG (zG z) q) mw d off).1 = 1 ∧ (hdG (zG z) q (off - d)).1 = 1) ∨ ((bG0 (hdG (zG z) q) mw d off).1 = 2 ∧ (hdG (zG z) q (off - d)).1 = 2 ∧ subB (bG0 (hdG (zG z) q) mw d off).2.1 (hdG (zG z) q (off - d)).2.1) ∨ ((bG0 (hdG (zG z) q) mw d off).1 = 21 ∧ (hdG (zG z) q (off - d)).1 = 21 ∧ (bG0 (hdG (zG z) q) mw d off).2.1 ≤ (hdG (zG z) q (off - d)).2.1) ∨ ((bG0 (hdG (zG z) q) mw d off).1 = 22 ∧ (hdG (zG z) q (off - d)).1 = 22 ∧ subB (bG0 (hdG (zG z) q) mw d off).2.1 (hdG (zG z) q (off - d)).2.1)
    rcases bG0_c (G := hdG (zG z) q) (mw := mw) (d := d) off with ⟨y1, y⟩ | ⟨y1, y⟩ | ⟨y1, y⟩ | ⟨y1, y⟩ | y
    · rw [y]; exact Or.inr (Or.inl ⟨rfl, y1⟩)
    · have e := (hH (off - d) (by omega)).2
      rw [y]
      refine Or.inr (Or.inr (Or.inl ⟨rfl, y1, ?_⟩))
      rw [e]
      exact sb _ e
    · rw [y]; exact Or.inr (Or.inr (Or.inr (Or.inl ⟨y1, y1, Nat.le_refl _⟩)))
    · have e := (hH (off - d) (by omega)).2
      rw [y]
      refine Or.inr (Or.inr (Or.inr (Or.inr ⟨rfl, y1, ?_⟩)))
      rw [e]
      exact sb _ e
    · rw [y]; exact Or.inl rfl
  · show subB (if c < 14 then mr c else 0) (zW z c)
    rw [if_pos hc14]
    refine sub_12 (k4 c) (fun y => ?_) (fun y => ?_)
    · obtain ⟨e, e1, ev, e2, e3, e4⟩ := (k2 c 4 (Or.inl rfl)).mp y
      have := ((cr e e1 ev.1 ev.2 4 (Or.inl rfl) e2).2.2.1 e3).2
      rw [e4] at this
      exact this
    · obtain ⟨e, e1, ev, e2, e3, e4⟩ := (k2 c 8 (Or.inr rfl)).mp y
      have := ((cr e e1 ev.1 ev.2 8 (Or.inr rfl) e2).2.2.1 e3).2
      rw [e4] at this
      exact this
/-- words of names as a branch sees them -/
theorem bG_nm {s : Nat} (cx : ctxP sy vis wd z q) (q3 : q + 3 ≤ (zI z).2) (dh : hc + 3 ≤ d) (wd1 : ∀ s ∈ vis, srO sy s ≠ 1 → srO sy s ≠ 11 → (wd' s).toInt = (wd s).toInt + d) (hs : s ∈ vis) (n1 : srO sy s ≠ 1) (n11 : srO sy s ≠ 11) (i : Nat) (hi : i < nwS sy s) : bGk (hdG (zG z) q) mw d hc ((wd' s).toInt + i) = bG0 (hdG (zG z) q) mw d ((wd' s).toInt + i) ∧ hdG (zG z) q ((wd' s).toInt + i - d) = zG z ((wd s).toInt + i) ∧ (wd' s).toInt + i - d = (wd s).toInt + i := by
  obtain ⟨-, -, -, -, -, -, -, -, ly, ps, -⟩ := cx
  have e := wd1 s hs n1 n11
  have p := ps s hs n1 n11
  have l := ly s hs n1 n11 i hi
  refine ⟨?_, ?_, by omega⟩
  · unfold bGk
    rw [if_neg (by omega)]
  · rw [show (wd' s).toInt + i - d = (wd s).toInt + i by omega]
    unfold hdG
    rw [if_neg (by omega)]
/-- the context of a branch -/
theorem br_cx (cx : ctxP sy vis wd z q) (q3 : q + 3 ≤ (zI z).2) (dh : hc + 3 ≤ d) (h5 : hc < 5000) (wd1 : ∀ s ∈ vis, srO sy s ≠ 1 → srO sy s ≠ 11 → (wd' s).toInt = (wd s).toInt + d) (wb : ∀ s ∈ vis, srO sy s ≠ 1 → srO sy s ≠ 11 → (wd' s).toInt ≤ 100000) : ctxP sy vis wd' (bZ z q d lc hc mw mr) 1 := by
  have cx' := cx
  obtain ⟨qz, zl, zr, q1, hb, dt, ec, ct, ly, ps, ap, hG, tg⟩ := cx
  have nw1 : ∀ s, 0 < nwS sy s := fun s => by unfold nwS; omega
  have one : ∀ s ∈ vis, srO sy s ≠ 1 → srO sy s ≠ 11 → bGk (hdG (zG z) q) mw d hc (wd' s).toInt = bG0 (hdG (zG z) q) mw d (wd' s).toInt ∧ hdG (zG z) q ((wd' s).toInt - d) = zG z (wd s).toInt := fun s hs n1 n11 => by
    have := bG_nm (mw := mw) cx' q3 dh wd1 hs n1 n11 0 (nw1 s)
    rw [show (wd' s).toInt + ((0 : Nat) : Int) = (wd' s).toInt by omega, show (wd s).toInt + ((0 : Nat) : Int) = (wd s).toInt by omega] at this
    exact ⟨this.1, this.2.1⟩
  refine ⟨⟨rfl, rfl, rfl⟩, rfl, rfl, Nat.le_refl _, h5, fun o o1 o2 => ?_, fun s hs => ?_, fun s hs => ?_, fun s hs n1 n11 i hi => ?_, fun s hs n1 n11 => ?_, ⟨fun s hs s' hs' ne n1 n11 n1' n11' => ?_, ap.2⟩, fun o ho => ?_, fun o => ?_⟩
  · show bGk (hdG (zG z) q) mw d hc o = (1, 0, 0)
    unfold bGk
    have o2 : o < (hc : Int) := o2
    rw [if_pos ⟨by omega, o2⟩]
  · obtain ⟨a1, a2, a3, a4, a5, a6⟩ := ec s hs
    show (_ → (bGk (hdG (zG z) q) mw d hc (wd' s).toInt).1 = 1) ∧ (_ → (bGk (hdG (zG z) q) mw d hc (wd' s).toInt).1 = 21 ∧ 1 ≤ (bGk (hdG (zG z) q) mw d hc (wd' s).toInt).2.1) ∧ (_ → (∀ i : Nat, i < szO sy s → (bGk (hdG (zG z) q) mw d hc ((wd' s).toInt + i)).1 = 1) ∧ -100000 ≤ (wd' s).toInt ∧ (wd' s).toInt ≤ 100000) ∧ (_ → (bGk (hdG (zG z) q) mw d hc (wd' s).toInt).1 = 21 ∧ szO sy s ≤ (bGk (hdG (zG z) q) mw d hc (wd' s).toInt).2.1) ∧ _ ∧ (_ → _ → -100000 ≤ (wd' s).toInt ∧ (wd' s).toInt ≤ 100000)
    have bd : srO sy s ≠ 1 → srO sy s ≠ 11 → -100000 ≤ (wd' s).toInt ∧ (wd' s).toInt ≤ 100000 := fun n1 n11 => ⟨by have := wd1 s hs n1 n11; have := ps s hs n1 n11; omega, wb s hs n1 n11⟩
    refine ⟨fun y => ?_, fun y => ?_, fun y => ⟨fun i hi => ?_, bd (by omega) (by omega)⟩, fun y => ?_, a5, bd⟩
    · obtain ⟨e1, e2⟩ := one s hs (by omega) (by omega)
      rw [e1]
      have := a1 y
      rw [← e2] at this
      unfold bG0
      rw [if_pos this]
    · obtain ⟨e1, e2⟩ := one s hs (by omega) (by omega)
      rw [e1]
      have := a2 y
      rw [← e2] at this
      unfold bG0
      rw [if_neg (by omega), if_neg (by omega), if_pos this.1]
      exact this
    · obtain ⟨e1, e2, -⟩ := bG_nm (mw := mw) cx' q3 dh wd1 hs (by omega) (by omega) i (by unfold nwS; rw [if_pos (Or.inl y)]; omega)
      rw [e1]
      have := (a3 y).1 i hi
      rw [← e2] at this
      unfold bG0
      rw [if_pos this]
    · obtain ⟨e1, e2⟩ := one s hs (by omega) (by omega)
      rw [e1]
      have := a4 y
      rw [← e2] at this
      unfold bG0
      rw [if_neg (by omega), if_neg (by omega), if_pos this.1]
      exact this
  · obtain ⟨a1, a2, a3, a4⟩ := ct s hs
    show (_ → (bGk (hdG (zG z) q) mw d hc (wd' s).toInt).1 = 2) ∧ (_ → (bGk (hdG (zG z) q) mw d hc (wd' s).toInt).1 = 22) ∧ (_ → ∀ i : Nat, i < szO sy s → (bGk (hdG (zG z) q) mw d hc ((wd' s).toInt + i)).1 = 2) ∧ _
    refine ⟨fun y => ?_, fun y => ?_, fun y i hi => ?_, a4⟩
    · obtain ⟨e1, e2⟩ := one s hs (by omega) (by omega)
      rw [e1]
      have := a1 y
      rw [← e2] at this
      unfold bG0
      rw [if_neg (by omega), if_pos this]
    · obtain ⟨e1, e2⟩ := one s hs (by omega) (by omega)
      rw [e1]
      have := a2 y
      rw [← e2] at this
      unfold bG0
      rw [if_neg (by omega), if_neg (by omega), if_neg (by omega), if_pos this]
    · obtain ⟨e1, e2, -⟩ := bG_nm (mw := mw) cx' q3 dh wd1 hs (by omega) (by omega) i (by unfold nwS; rw [if_pos (Or.inr y)]; omega)
      rw [e1]
      have := a3 y i hi
      rw [← e2] at this
      unfold bG0
      rw [if_neg (by omega), if_pos this]
  · have e := wd1 s hs n1 n11
    have p := ps s hs n1 n11
    exact Or.inr (by show ((hc : Nat) : Int) ≤ _; omega)
  · have e := wd1 s hs n1 n11
    have p := ps s hs n1 n11
    omega
  · have e := wd1 s hs n1 n11
    have e' := wd1 s' hs' n1' n11'
    have := ap.1 s hs s' hs' ne n1 n11 n1' n11'
    omega
  · have ho : (bGk (hdG (zG z) q) mw d hc o).1 ≠ 0 := ho
    unfold bGk at ho
    by_cases c : 1 ≤ o ∧ o < hc
    · omega
    · rw [if_neg c] at ho
      have hz : (hdG (zG z) q (o - d)).1 ≠ 0 := by
        rcases bG0_c (G := hdG (zG z) q) (mw := mw) (d := d) o with ⟨y, -⟩ | ⟨y, -⟩ | ⟨y, -⟩ | ⟨y, -⟩ | y
        · omega
        · omega
        · omega
        · omega
        · rw [y] at ho; exact (ho rfl).elim
      unfold hdG at hz
      split at hz
      · exact (hz rfl).elim
      · have := hG _ hz
        omega
  · show (bGk (hdG (zG z) q) mw d hc o).1 ≠ 15 ∧ (bGk (hdG (zG z) q) mw d hc o).1 ≠ 16
    unfold bGk
    by_cases c : 1 ≤ o ∧ o < hc
    · rw [if_pos c]; exact ⟨(by decide : (1 : Nat) ≠ 15), (by decide : (1 : Nat) ≠ 16)⟩
    · rw [if_neg c]
      rcases bG0_c (G := hdG (zG z) q) (mw := mw) (d := d) o with ⟨-, y⟩ | ⟨-, y⟩ | ⟨y1, y⟩ | ⟨-, y⟩ | y
      · rw [y]; exact ⟨(by decide : (1 : Nat) ≠ 15), (by decide : (1 : Nat) ≠ 16)⟩
      · rw [y]; exact ⟨(by decide : (2 : Nat) ≠ 15), (by decide : (2 : Nat) ≠ 16)⟩
      · rw [y]; omega
      · rw [y]; exact ⟨(by decide : (22 : Nat) ≠ 15), (by decide : (22 : Nat) ≠ 16)⟩
      · rw [y]; exact ⟨(by decide : (0 : Nat) ≠ 15), (by decide : (0 : Nat) ≠ 16)⟩
end
