/-! (S): a call -/
/-- parameters' kinds -/
def pKd (sy : List Sym) (pb : Nat → Nat) (q : Nat) : Kd := if srO sy q = 3 then (1, 0, 0) else if srO sy q = 4 then (21, 1, 0) else if srO sy q = 6 then (21, szO sy q, 0) else (22, pb q &&& 12, 0)
/-- where a PROC begins -/
def zEn (sy : List Sym) (pb : Nat → Nat) (sz : Nat) (qs : List Nat) (lo : Nat) : Sg := ((fun o => if 1 ≤ o + 3 + sz ∧ o + 3 + sz ≤ qs.length then pKd sy pb (qs.getD (o + 2 + sz).toNat 0) else k0), (k0, k0, k0), (lo, 0), (1, 0, 0), (0, [], 0, 0, 0), (0, []), fun _ => 0)
def tmG : Tm → Nat → Tm
  | .elem x _, 0 => x
  | .elem _ r, i + 1 => tmG r i
  | _, _ => .null
/-- names' words are apart -/
def nwS (sy : List Sym) (s : Nat) : Nat := max 1 (if srO sy s = 5 ∨ srO sy s = 9 then szO sy s else 1)
def apS (sy : List Sym) (vis : List Nat) (wd : Nat → Int32) : Prop := (∀ s ∈ vis, ∀ s' ∈ vis, s ≠ s' → srO sy s ≠ 1 → srO sy s ≠ 11 → srO sy s' ≠ 1 → srO sy s' ≠ 11 → (wd s).toInt + nwS sy s ≤ (wd s').toInt ∨ (wd s').toInt + nwS sy s' ≤ (wd s).toInt) ∧ ∀ s ∈ vis, ∀ s' ∈ vis, srO sy s = 1 → srO sy s' = 1 → szO sy s = szO sy s' → s = s'
section
variable {C : Cx} {M : Nat} {E : En} {Y : Nat → Sg → Prop} {sy : List Sym} {vis : List Nat} {wd r : Nat → Int32} {pe : Nat → Nat} {pb : Nat → Nat}
theorem aRs_i {G G' : Int → Kd} {sz : Nat} : ∀ (qs : List Nat) (k : Nat) (as : Tm) (i q : Nat), wfA sy vis qs as → aRs sy vis wd r G G' sz k qs as → qs[i]? = some q → aRes sy vis wd r G q (tmG as i) (G' (aOf sz (k + i))) := by
  intro qs
  induction qs with
  | nil => intro k as i q _ _ h; exact nomatch h
  | cons q0 qs ih =>
    intro k as i q wf h hi
    obtain ⟨x, as', rfl, -, wr⟩ := wfA_c wf
    cases i with
    | zero =>
      have : q0 = q := Option.some.inj hi
      subst this
      exact h.1
    | succ i =>
      have := ih (k + 1) as' i q wr h.2 hi
      rw [show k + 1 + i = k + (i + 1) by omega] at this
      exact this
/-- a channel's address lies in its name's words -/
theorem chK_s {k : Ky} {x : Kd} {y : Int} (h : chK sy wd k x) (hs : srcO (10 + x.1, x.2) y) : srO sy k.1 ≠ 1 ∧ srO sy k.1 ≠ 11 ∧ (wd k.1).toInt ≤ y ∧ y < (wd k.1).toInt + nwS sy k.1 ∧ (srO sy k.1 = 9 → k.2.1 = false → y = (wd k.1).toInt + k.2.2.toInt) := by
  unfold nwS
  rcases h with ⟨a, rfl⟩ | ⟨a, rfl⟩ | ⟨a, rfl⟩ | ⟨a, b, rfl⟩ | ⟨a, b, c, d, rfl⟩
  · rcases hs with ⟨-, e⟩ | ⟨e, -⟩ | ⟨e, -⟩
    · have e : y = (wd k.1).toInt := e
      exact ⟨by omega, by omega, by omega, by omega, fun z => by omega⟩
    · exact absurd (show (12 : Nat) = 14 from e) (by decide)
    · exact absurd (show (12 : Nat) = 15 from e) (by decide)
  · rcases hs with ⟨e, -⟩ | ⟨e, -⟩ | ⟨-, e⟩
    · exact absurd (show (15 : Nat) = 12 from e) (by decide)
    · exact absurd (show (15 : Nat) = 14 from e) (by decide)
    · have e : y = (wd k.1).toInt := e
      exact ⟨by omega, by omega, by omega, by omega, fun z => by omega⟩
  · rcases hs with ⟨e, -⟩ | ⟨e, -⟩ | ⟨e, -⟩
    · exact absurd (show (11 : Nat) = 12 from e) (by decide)
    · exact absurd (show (11 : Nat) = 14 from e) (by decide)
    · exact absurd (show (11 : Nat) = 15 from e) (by decide)
  · rcases hs with ⟨e, -⟩ | ⟨-, e1, e2⟩ | ⟨e, -⟩
    · exact absurd (show (14 : Nat) = 12 from e) (by decide)
    · have e1 : (wd k.1).toInt ≤ y := e1
      have e2 : y < (wd k.1).toInt + (szO sy k.1 : Nat) := e2
      rw [if_pos (Or.inr a)]
      exact ⟨by omega, by omega, e1, by omega, fun _ z => by rw [b] at z; exact absurd z (by decide)⟩
    · exact absurd (show (14 : Nat) = 15 from e) (by decide)
  · rcases hs with ⟨-, e⟩ | ⟨e, -⟩ | ⟨e, -⟩
    · have e : y = (wd k.1).toInt + k.2.2.toInt := e
      rw [if_pos (Or.inr a)]
      exact ⟨by omega, by omega, by omega, by omega, fun _ _ => e⟩
    · exact absurd (show (12 : Nat) = 14 from e) (by decide)
    · exact absurd (show (12 : Nat) = 15 from e) (by decide)
theorem kyT_f {c : Tm} (wf : wfC sy vis c) (h9 : srO sy (kyT sy r c).1 ≠ 9) : (kyT sy r c).2 = (false, 0) := by
  unfold wfC at wf
  split at wf
  · rename_i s
    have hv := wf.2
    unfold sChn at hv
    simp only [Bool.or_eq_true, beq_iff_eq] at hv
    show (arrS (srO sy s), (0 : Int32)) = (false, 0)
    have : arrS (srO sy s) = false := by
      unfold arrS sArr
      rcases hv with (hv | hv) | hv <;> rw [hv] <;> rfl
    rw [this]
  · rename_i s e
    exact (h9 wf.2.1).elim
  · exact wf.elim
/-- two channels that do not match are apart -/
theorem chK_ap {c c' : Tm} {x x' : Kd} (ap : apS sy vis wd) (wf : wfC sy vis c) (wf' : wfC sy vis c') (h : chK sy wd (kyT sy r c) x) (h' : chK sy wd (kyT sy r c') x') (nm : mtK (kyT sy r c) (kyT sy r c') = false) : (∀ y, srcO (10 + x.1, x.2) y → ¬ srcO (10 + x'.1, x'.2) y) ∧ (10 + x.1 = 11 → 10 + x'.1 = 11 → x.2.2 ≠ x'.2.2) := by
  have v := wfC_v (r := r) wf
  have v' := wfC_v (r := r) wf'
  refine ⟨fun y hy hy' => ?_, fun y y' e => ?_⟩
  · obtain ⟨a1, a2, a3, a4, a5⟩ := chK_s h hy
    obtain ⟨b1, b2, b3, b4, b5⟩ := chK_s h' hy'
    by_cases e : (kyT sy r c).1 = (kyT sy r c').1
    · unfold mtK at nm
      rw [e, beq_self_eq_true, Bool.true_and, Bool.or_eq_false_iff, Bool.or_eq_false_iff] at nm
      obtain ⟨⟨n1, n2⟩, n3⟩ := nm
      by_cases h9 : srO sy (kyT sy r c).1 = 9
      · have y1 := a5 h9 n1
        have y2 := b5 (by rw [← e]; exact h9) n2
        rw [← e] at y2
        have : (kyT sy r c).2.2 = (kyT sy r c').2.2 := Int32.toInt_inj.mp (by omega)
        rw [this] at n3
        simp at n3
      · have y1 := kyT_f (r := r) wf h9
        have y2 := kyT_f (r := r) wf' (by rw [← e]; exact h9)
        rw [y1, y2] at n3
        simp at n3
    · have := ap.1 _ v _ v' e a1 a2 b1 b2
      omega
  · have k1 : ∀ (c : Tm) (x : Kd), chK sy wd (kyT sy r c) x → 10 + x.1 = 11 → srO sy (kyT sy r c).1 = 1 ∧ x.2.2 = ((szO sy (kyT sy r c).1 : Nat) : Int) := by
      intro c x hc hx
      rcases hc with ⟨-, rfl⟩ | ⟨-, rfl⟩ | ⟨a, rfl⟩ | ⟨-, -, rfl⟩ | ⟨-, -, -, -, rfl⟩
      · exact absurd (show (12 : Nat) = 11 from hx) (by decide)
      · exact absurd (show (15 : Nat) = 11 from hx) (by decide)
      · exact ⟨a, rfl⟩
      · exact absurd (show (14 : Nat) = 11 from hx) (by decide)
      · exact absurd (show (12 : Nat) = 11 from hx) (by decide)
    obtain ⟨p1, p2⟩ := k1 c x h y
    obtain ⟨q1, q2⟩ := k1 c' x' h' y'
    rw [p2, q2] at e
    have e1 := ap.2 _ v _ v' p1 q1 (by omega)
    unfold mtK at nm
    have y1 := kyT_f (r := r) wf (by omega)
    have y2 := kyT_f (r := r) wf' (by omega)
    rw [e1, y1, y2, beq_self_eq_true, Bool.true_and] at nm
    simp at nm
theorem sbm_12 {n m : Nat} (h4 : n &&& 4 ≠ 0 → m &&& 4 ≠ 0) (h8 : n &&& 8 ≠ 0 → m &&& 8 ≠ 0) : sbm (n &&& 12) m := by
  have b4 : ∀ v : Nat, v &&& 4 ≠ 0 ↔ v.testBit 2 = true := by
    intro v
    constructor
    · intro hv
      cases c : v.testBit 2 with
      | true => rfl
      | false =>
        refine (hv (Nat.eq_of_testBit_eq fun i => ?_)).elim
        rw [Nat.testBit_and, Nat.zero_testBit, show (4 : Nat) = 2 ^ 2 from rfl, Nat.testBit_two_pow]
        by_cases ki : 2 = i
        · subst ki; rw [c]; rfl
        · rw [decide_eq_false ki, Bool.and_false]
    · intro hv y
      have := congrArg (fun v => Nat.testBit v 2) y
      simp only [Nat.testBit_and, hv, Nat.zero_testBit] at this
      exact absurd this (by decide)
  have b8 : ∀ v : Nat, v &&& 8 ≠ 0 ↔ v.testBit 3 = true := by
    intro v
    constructor
    · intro hv
      cases c : v.testBit 3 with
      | true => rfl
      | false =>
        refine (hv (Nat.eq_of_testBit_eq fun i => ?_)).elim
        rw [Nat.testBit_and, Nat.zero_testBit, show (8 : Nat) = 2 ^ 3 from rfl, Nat.testBit_two_pow]
        by_cases ki : 3 = i
        · subst ki; rw [c]; rfl
        · rw [decide_eq_false ki, Bool.and_false]
    · intro hv y
      have := congrArg (fun v => Nat.testBit v 3) y
      simp only [Nat.testBit_and, hv, Nat.zero_testBit] at this
      exact absurd this (by decide)
  rw [b4, b4] at h4
  rw [b8, b8] at h8
  unfold sbm
  refine Nat.eq_of_testBit_eq fun i => ?_
  rw [Nat.testBit_and, Nat.testBit_and]
  have t12 : (12 : Nat).testBit i = (decide (i = 2) || decide (i = 3)) := by
    by_cases e2 : i = 2
    · subst e2; rfl
    · by_cases e3 : i = 3
      · subst e3; rfl
      · rw [decide_eq_false e2, decide_eq_false e3]
        by_cases l : i < 4
        · have : i = 0 ∨ i = 1 := by omega
          rcases this with rfl | rfl <;> rfl
        · exact Nat.testBit_lt_two_pow (Nat.lt_of_lt_of_le (by decide : 12 < 2 ^ 4) (Nat.pow_le_pow_right (by decide) (by omega)))
  rw [t12]
  by_cases e2 : i = 2
  · subst e2
    cases hn : n.testBit 2 with
    | false => rfl
    | true => rw [h4 hn]; rfl
  · by_cases e3 : i = 3
    · subst e3
      cases hn : n.testBit 3 with
      | false => rfl
      | true => rw [h8 hn]; rfl
    · rw [decide_eq_false e2, decide_eq_false e3, Bool.or_false, Bool.and_false, Bool.false_and]
end
