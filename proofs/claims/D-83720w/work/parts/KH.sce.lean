/-! (S): rights of branches, declarations -/
section
variable {sy : List Sym} {vis : List Nat} {wd wd' : Nat → Int32} {z : Sg} {q d lc hc : Nat} {L : List Ev} {mw : Int → Nat} {mr : Nat → Nat}
/-- a branch has the rights that it needs -/
theorem br_cr (cx : ctxP sy vis wd z q) (q3 : q + 3 ≤ (zI z).2) (dh : hc + 3 ≤ d) (wd1 : ∀ s ∈ vis, srO sy s ≠ 1 → srO sy s ≠ 11 → (wd' s).toInt = (wd s).toInt + d) (mk : mOK sy vis wd L mw mr) : crt sy vis wd' (bZ z q d lc hc mw mr) L := by
  intro e he hv hsh m hm hb
  have cx' := cx
  obtain ⟨-, -, -, -, -, -, -, ct, -⟩ := cx
  obtain ⟨t7, t8, t9, t1⟩ := ct e.1.1 hv
  obtain ⟨k1, k2, -, -⟩ := mk
  have nw1 : 0 < nwS sy e.1.1 := by unfold nwS; omega
  have one : srO sy e.1.1 ≠ 1 → srO sy e.1.1 ≠ 11 → bGk (hdG (zG z) q) mw d hc (wd' e.1.1).toInt = bG0 (hdG (zG z) q) mw d (wd' e.1.1).toInt ∧ hdG (zG z) q ((wd' e.1.1).toInt - d) = zG z (wd e.1.1).toInt ∧ (wd' e.1.1).toInt - d = (wd e.1.1).toInt := fun n1 n11 => by
    have := bG_nm (mw := mw) cx' q3 dh wd1 hv n1 n11 0 nw1
    rw [show (wd' e.1.1).toInt + ((0 : Nat) : Int) = (wd' e.1.1).toInt by omega, show (wd e.1.1).toInt + ((0 : Nat) : Int) = (wd e.1.1).toInt by omega] at this
    exact this
  have cv' : ∀ o, cov sy wd e.1 o → mw o &&& m ≠ 0 := fun o ho => (k1 o m hm).mpr ⟨e, he, ⟨hv, hsh⟩, hb, ho⟩
  have el : srO sy e.1.1 = 9 → ∀ i : Nat, i < szO sy e.1.1 → bGk (hdG (zG z) q) mw d hc ((wd' e.1.1).toInt + i) = (2, mw ((wd e.1.1).toInt + i), 0) := fun h9 i hi => by
    obtain ⟨e1, e2, e3⟩ := bG_nm (mw := mw) cx' q3 dh wd1 hv (by omega) (by omega) i (by unfold nwS; rw [if_pos (Or.inr h9)]; omega)
    have t := t9 h9 i hi
    rw [← e2] at t
    rw [e1]
    unfold bG0
    rw [if_neg (by omega), if_pos t, e3]
  refine ⟨fun y => ?_, fun y => ?_, fun y => ⟨t1 y, ?_⟩, fun y => ⟨fun i hi => ?_, fun hw i hi => ?_, fun hw i0 i1 => ?_⟩⟩
  · show (bGk (hdG (zG z) q) mw d hc (wd' e.1.1).toInt).1 = 2 ∧ (bGk (hdG (zG z) q) mw d hc (wd' e.1.1).toInt).2.1 &&& m ≠ 0
    obtain ⟨e1, e2, e3⟩ := one (by omega) (by omega)
    have t := t7 y
    rw [← e2] at t
    rw [e1]
    unfold bG0
    rw [if_neg (by omega), if_pos t, e3]
    exact ⟨rfl, cv' _ (Or.inl ⟨Or.inl y, rfl⟩)⟩
  · show (bGk (hdG (zG z) q) mw d hc (wd' e.1.1).toInt).1 = 22 ∧ (bGk (hdG (zG z) q) mw d hc (wd' e.1.1).toInt).2.1 &&& m ≠ 0
    obtain ⟨e1, e2, e3⟩ := one (by omega) (by omega)
    have t := t8 y
    rw [← e2] at t
    rw [e1]
    unfold bG0
    rw [if_neg (by omega), if_neg (by omega), if_neg (by omega), if_pos t, e3]
    exact ⟨rfl, cv' _ (Or.inl ⟨Or.inr y, rfl⟩)⟩
  · show (if szO sy e.1.1 < 14 then mr (szO sy e.1.1) else 0) &&& m ≠ 0
    rw [if_pos (t1 y)]
    exact (k2 _ m hm).mpr ⟨e, he, ⟨hv, hsh⟩, hb, y, rfl⟩
  · show (bGk (hdG (zG z) q) mw d hc _).1 = 2
    rw [el y i hi]
  · show (bGk (hdG (zG z) q) mw d hc _).2.1 &&& m ≠ 0
    rw [el y i hi]
    exact cv' _ (Or.inr ⟨y, by omega, by omega, fun z => by rw [hw] at z; exact absurd z (by decide)⟩)
  · show (bGk (hdG (zG z) q) mw d hc _).2.1 &&& m ≠ 0
    have := el y e.1.2.2.toInt.toNat (by omega)
    rw [show ((e.1.2.2.toInt.toNat : Nat) : Int) = e.1.2.2.toInt by omega] at this
    rw [this]
    exact cv' _ (Or.inr ⟨y, by omega, by omega, fun _ => rfl⟩)
theorem and_12 {x y r : Nat} (hr : r = 4 ∨ r = 8) (hx : x &&& r ≠ 0) (hy : y &&& r ≠ 0) : x &&& y &&& 12 ≠ 0 := by
  have key : ∀ k, (k = 2 ∨ k = 3) → x &&& 2 ^ k ≠ 0 → y &&& 2 ^ k ≠ 0 → x &&& y &&& 12 ≠ 0 := by
    intro k hk h1 h2
    have bt : ∀ v : Nat, v &&& 2 ^ k ≠ 0 → v.testBit k = true := by
      intro v hv
      cases c : v.testBit k with
      | true => rfl
      | false =>
        refine (hv (Nat.eq_of_testBit_eq fun i => ?_)).elim
        rw [Nat.testBit_and, Nat.zero_testBit, Nat.testBit_two_pow]
        by_cases ki : k = i
        · subst ki; rw [c]; rfl
        · rw [decide_eq_false ki, Bool.and_false]
    intro z
    have := congrArg (fun v => Nat.testBit v k) z
    have t12 : (12 : Nat).testBit k = true := by rcases hk with rfl | rfl <;> rfl
    simp only [Nat.testBit_and, bt x h1, bt y h2, t12, Nat.zero_testBit] at this
    exact absurd this (by decide)
  rcases hr with rfl | rfl
  · exact key 2 (Or.inl rfl) hx hy
  · exact key 3 (Or.inr rfl) hx hy
/-- branches that do not clash are apart -/
theorem br_ap {st rw d' lc' hc' st' rw' : Nat} {L' : List Ev} {mw' : Int → Nat} {mr' : Nat → Nat} (ap : apS sy vis wd) (mk : mOK sy vis wd L mw mr) (mk' : mOK sy vis wd L' mw' mr') (nc : ∀ e ∈ L, ∀ e' ∈ L', e.1.1 ∈ vis → srO sy e.1.1 ≠ 11 → mtK e.1 e'.1 = true → e.2 &&& e'.2 &&& 12 = 0)
    (iv : d + lc + hc' ≤ d' ∨ d' + lc' + hc ≤ d) : brAp (d, st, rw, bZ0 z q d lc hc mw mr) (d', st', rw', bZ0 z q d' lc' hc' mw' mr') := by
  refine ⟨iv, fun r hr => ⟨fun off off' ho hb hb' => ?_, fun c hc14 hb hb' => ?_⟩⟩
  · have hb : btS (bG0 (hdG (zG z) q) mw d off) &&& r ≠ 0 := hb
    have hb' : btS (bG0 (hdG (zG z) q) mw' d' off') &&& r ≠ 0 := hb'
    have ho : off - (d : Int) = off' - (d' : Int) := ho
    have mb : ∀ (mw : Int → Nat) (d : Nat) (off : Int), btS (bG0 (hdG (zG z) q) mw d off) &&& r ≠ 0 → mw (off - d) &&& r ≠ 0 := by
      intro mw d off hb
      rcases bG0_c (G := hdG (zG z) q) (mw := mw) (d := d) off with ⟨-, y⟩ | ⟨-, y⟩ | ⟨y1, y⟩ | ⟨-, y⟩ | y
      · rw [y] at hb; exact absurd (Nat.zero_and r) hb
      · rw [y] at hb; exact hb
      · rw [y] at hb
        unfold btS at hb
        rw [if_neg (by omega), Nat.zero_and] at hb
        exact (hb rfl).elim
      · rw [y] at hb; exact hb
      · rw [y] at hb; exact absurd (Nat.zero_and r) hb
    obtain ⟨e, e1, ev, e2, e3⟩ := (mk.1 _ r hr).mp (mb mw d off hb)
    obtain ⟨e', e1', ev', e2', e3'⟩ := (mk'.1 _ r hr).mp (mb mw' d' off' hb')
    rw [← ho] at e3'
    have rng : ∀ k : Ky, cov sy wd k (off - d) → srO sy k.1 ≠ 1 ∧ srO sy k.1 ≠ 11 ∧ (wd k.1).toInt ≤ off - d ∧ off - d < (wd k.1).toInt + nwS sy k.1 := by
      intro k hk
      unfold nwS
      rcases hk with ⟨y1, y2⟩ | ⟨y1, y2, y3, -⟩
      · exact ⟨by omega, by omega, by omega, by omega⟩
      · rw [if_pos (Or.inr y1)]
        exact ⟨by omega, by omega, by omega, by omega⟩
    obtain ⟨a1, a2, a3, a4⟩ := rng e.1 e3
    obtain ⟨b1, b2, b3, b4⟩ := rng e'.1 e3'
    have same : e.1.1 = e'.1.1 := Classical.byContradiction fun n => by
      have := ap.1 _ ev.1 _ ev'.1 n a1 a2 b1 b2
      omega
    have mt : mtK e.1 e'.1 = true := by
      unfold mtK
      rw [same, beq_self_eq_true, Bool.true_and]
      cases k1 : e.1.2.1 with
      | true => rfl
      | false =>
        cases k2 : e'.1.2.1 with
        | true => rfl
        | false =>
          have : e.1.2.2 = e'.1.2.2 := by
            by_cases h9 : srO sy e.1.1 = 9
            · rcases e3 with ⟨y, -⟩ | ⟨-, -, -, y⟩
              · omega
              · rcases e3' with ⟨y', -⟩ | ⟨-, -, -, y'⟩
                · rw [← same] at y'; omega
                · have q1 := y k1
                  have q2 := y' k2
                  rw [← same] at q2
                  exact Int32.toInt_inj.mp (by omega)
            · have s7 : srO sy e.1.1 = 7 ∨ srO sy e.1.1 = 8 := by
                rcases e3 with ⟨y, -⟩ | ⟨y, -⟩
                · exact y
                · exact (h9 y).elim
              rw [ev.2 (by omega), ev'.2 (by rw [← same]; omega)]
          rw [this]
          simp
    exact and_12 hr e2 e2' (nc e e1 e' e1' ev.1 a2 mt)
  · have hb : (if c < 14 then mr c else 0) &&& r ≠ 0 := hb
    have hb' : (if c < 14 then mr' c else 0) &&& r ≠ 0 := hb'
    rw [if_pos hc14] at hb hb'
    obtain ⟨e, e1, ev, e2, e3, e4⟩ := (mk.2.1 c r hr).mp hb
    obtain ⟨e', e1', ev', e2', e3', e4'⟩ := (mk'.2.1 c r hr).mp hb'
    have same := ap.2 _ ev.1 _ ev'.1 e3 e3' (e4.trans e4'.symm)
    have mt : mtK e.1 e'.1 = true := by
      unfold mtK
      rw [ev.2 (by omega), ev'.2 (by omega), same]
      simp
    exact and_12 hr e2 e2' (nc e e1 e' e1' ev.1 (by omega) mt)
/-- a name's words lie on one side -/
theorem lay_s {s : Nat} {q hi : Int} (ly : lay sy vis wd q hi) (qh : q < hi) (hs : s ∈ vis) (n1 : srO sy s ≠ 1) (n11 : srO sy s ≠ 11) : (wd s).toInt + nwS sy s ≤ q ∨ hi ≤ (wd s).toInt := by
  have l := ly s hs n1 n11
  have nw : nwS sy s = max 1 (if srO sy s = 5 ∨ srO sy s = 9 then szO sy s else 1) := rfl
  rw [← nw] at l
  have n0 : 0 < nwS sy s := by rw [nw]; omega
  rcases l 0 n0 with y | y
  · left
    have key : ∀ i : Nat, i < nwS sy s → (wd s).toInt + i < q := by
      intro i
      induction i with
      | zero => intro _; exact y
      | succ i ih =>
        intro hi'
        have h1 := ih (by omega)
        rcases l (i + 1) hi' with z | z
        · exact z
        · omega
    have := key (nwS sy s - 1) (by omega)
    omega
  · right
    omega
end
