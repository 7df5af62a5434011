/-! the least signs of what is read: expressions, statements -/
def opS : Tm → Bool
  | .add _ _ => false
  | .length _ => false
  | .sum _ => false
  | _ => true
/-- the innermost of its name -/
def fnv (sy : List Sym) (vis : List Nat) (s : Nat) : Prop := fnd sy vis (syO sy s).1 = some s
/-- an expression as it is read, with D brackets that are left -/
def shE (sy : List Sym) (vis : List Nat) : Nat → Tm → Prop
  | _, .int _ => True
  | _, .arg s => fnv sy vis s
  | D, .elem (.arg s) e => (fnv sy vis s ∧ arrS (srO sy s) = true) ∧ 1 ≤ D ∧ shE sy vis (D - 1) e
  | D, .length e => opS e = true ∧ shE sy vis D e
  | D, .sum e => opS e = true ∧ shE sy vis D e
  | D, .old e => 1 ≤ D ∧ shE sy vis (D - 1) e
  | D, .add (.index _) (.sub x y) => opS x = true ∧ opS y = true ∧ shE sy vis D x ∧ shE sy vis D y
  | _, _ => False
def thI : Tm → Bool
  | .arg _ => true
  | .elem (.arg _) _ => true
  | _ => false
theorem fnd_eq {sy syF : List Sym} {cs : List Nat} : ∀ {vis : List Nat}, eqV sy syF vis → fnd syF vis cs = fnd sy vis cs
  | [], _ => rfl
  | s :: r, h => by
    rw [fnd, fnd, h s List.mem_cons_self, fnd_eq (fun s hs => h s (List.mem_cons_of_mem _ hs))]
theorem cT_hd {ts : List Tok} : cT ts = tc (hd ts) + cT ts.tail := by
  cases ts with
  | nil => rfl
  | cons k r => rfl
theorem isS_c {c : Nat} {k : Tok} (h : isS c k = true) : 1 ≤ tc k := by
  rw [isS, Bool.and_eq_true, beq_iff_eq, beq_iff_eq] at h
  rw [tc, if_neg (by omega), if_neg (by omega), if_neg (by omega), if_pos h.1]
  split <;> omega
theorem isS_c2 {c : Nat} {k : Tok} (h : isS c k = true) (hc : 256 ≤ c) : 2 ≤ tc k := by
  rw [isS, Bool.and_eq_true, beq_iff_eq, beq_iff_eq] at h
  rw [tc, if_neg (by omega), if_neg (by omega), if_neg (by omega), if_pos h.1, if_neg (by omega)]
  exact Nat.le_refl _
theorem isW_c {w : Nat} {k : Tok} (h : isW w k = true) : tc k = mt_sln (w - 1) := by
  rw [isW, Bool.and_eq_true, beq_iff_eq, beq_iff_eq] at h
  rw [tc, if_neg (by omega), if_pos h.1, h.2]
theorem isO_c {k : Tok} (h : isO k = true) : (if opC k = 65 ∨ opC k = 79 then 2 else 1) ≤ tc k := by
  rw [isO, Bool.or_eq_true, Bool.or_eq_true] at h
  rcases h with (h | h) | h
  · rw [isW_c h]
    show _ ≤ 3
    split <;> omega
  · rw [isW_c h]
    show _ ≤ 2
    split <;> omega
  · rw [Bool.and_eq_true, beq_iff_eq] at h
    have h4 := h.1
    have e : opC k = k.2.2.1 := if_neg (show ¬ k.1 = 2 by omega)
    have hv : ¬ (k.2.2.1 = 65 ∨ k.2.2.1 = 79) := by
      rintro (z | z) <;> (rw [z] at h; exact absurd h.2 (by decide))
    rw [e, if_neg hv, tc, if_neg (by omega), if_neg (by omega), if_neg (by omega), if_pos h4]
    split <;> omega
section
variable {sy syF : List Sym} {vis : List Nat}
theorem tx_kn {ts : List Tok} {x : Nat × List Tok} (hE : eqV sy syF vis) (h : knS sy vis ts = .inr x) : x.1 ∈ vis ∧ fnv syF vis x.1 ∧ ncs syF x.1 + cT x.2 ≤ cT ts := by
  rw [knS] at h
  split at h
  · rename_i h1
    split at h
    · cases h
    · rename_i s hf
      have e := Sum.inr.inj h
      subst e
      obtain ⟨f1, f2⟩ := fnd_in hf
      have e2 : (syO syF s).1 = (hd ts).2.2.2 := by rw [hE s f1]; exact f2
      refine ⟨f1, ?_, ?_⟩
      · show fnd syF vis (syO syF s).1 = some s
        rw [e2, fnd_eq hE]; exact hf
      · rw [cT_hd (ts := ts)]
        show nc (syO syF s).1 + cT ts.tail ≤ _
        rw [e2, tc, if_pos h1]
        exact Nat.le_refl _
  · cases h
/-- what an expression's reader gives with D brackets left ahead of it -/
def txX (syF : List Sym) (vis : List Nat) (EX : ExP) (M : Nat) : Prop := ∀ br ts x, br ≤ M → EX br ts = .inr x → shE syF vis (8 - br) x.1 ∧ cE syF x.1 + cT x.2 ≤ cT ts
theorem tx_thOf {EX : ExP} {s place w br : Nat} {ts : List Tok} {x : Tm × List Tok} (hX : txX syF vis EX 8) (hb : br ≤ 8) (hs : fnv syF vis s) (he : syO syF s = syO sy s) (h : thOf EX sy s place w br ts = .inr x) : thI x.1 = true ∧ shE syF vis (8 - br) x.1 ∧ cE syF x.1 + cT x.2 ≤ ncs syF s + cT ts := by
  rw [thOf] at h
  cases h91 : isS 91 (hd ts) with
  | true =>
    rw [h91, if_pos rfl] at h
    obtain ⟨z, h1, h⟩ := bnd_ok h
    obtain ⟨z2, h2, h⟩ := bnd_ok h
    obtain ⟨y, h3, h⟩ := bnd_ok h
    obtain ⟨r, h4, h⟩ := bnd_ok h
    have e := Sum.inr.inj h
    subst e
    obtain ⟨k1, k2⟩ := tkS_ok h4
    have hb8 : br ≠ 8 := by
      have := chkS_ok h2
      simpa using this
    obtain ⟨a1, a2⟩ := hX (br + 1) _ _ (by omega) h3
    have c1 := isS_c h91
    have c2 := isS_c k1
    have c3 := cT_hd (ts := ts)
    have c4 := cT_hd (ts := y.2)
    have ha : arrS (srO syF s) = true := by
      have h6 := chkS_ok h1
      rw [srO, he]
      show arrS (srO sy s) = true
      rw [Bool.or_eq_true, Bool.and_eq_true, Bool.and_eq_true] at h6
      rw [arrS, Bool.or_eq_true]
      exact h6.imp (fun x => x.1) (fun x => x.1)
    refine ⟨rfl, ⟨⟨hs, ha⟩, by omega, ?_⟩, ?_⟩
    · rw [show 8 - br - 1 = 8 - (br + 1) by omega]; exact a1
    · show ncs syF s + 2 + cE syF y.1 + cT r ≤ _
      rw [k2]
      omega
  | false =>
    rw [h91, if_neg (show ¬ (false = true) by decide)] at h
    have e := Sum.inr.inj h
    subst e
    refine ⟨rfl, hs, ?_⟩
    show ncs syF s + cT ts ≤ _
    omega
theorem tx_opd {EX : ExP} {br : Nat} {ts : List Tok} {x : Tm × List Tok} (hE : eqV sy syF vis) (hX : txX syF vis EX 8) (hb : br ≤ 8) (h : opd EX sy vis br ts = .inr x) : opS x.1 = true ∧ shE syF vis (8 - br) x.1 ∧ cE syF x.1 + cT x.2 ≤ cT ts := by
  have c3 := cT_hd (ts := ts)
  rw [opd] at h
  split at h
  · rename_i h3
    have e := Sum.inr.inj h
    subst e
    refine ⟨rfl, trivial, ?_⟩
    have : tc (hd ts) = 1 := by rw [tc, if_neg (by omega), if_neg (by omega), if_pos h3]
    show 1 + cT ts.tail ≤ _
    omega
  split at h
  · rename_i h3
    have e := Sum.inr.inj h
    subst e
    refine ⟨rfl, trivial, ?_⟩
    have : tc (hd ts) = 4 := isW_c h3
    show 1 + cT ts.tail ≤ _
    omega
  split at h
  · rename_i h3
    have e := Sum.inr.inj h
    subst e
    refine ⟨rfl, trivial, ?_⟩
    have : tc (hd ts) = 5 := isW_c h3
    show 1 + cT ts.tail ≤ _
    omega
  split at h
  · rename_i h40
    obtain ⟨z, h1, h⟩ := bnd_ok h
    obtain ⟨y, h3, h⟩ := bnd_ok h
    obtain ⟨r, h4, h⟩ := bnd_ok h
    have e := Sum.inr.inj h
    subst e
    obtain ⟨k1, k2⟩ := tkS_ok h4
    have hb8 : br ≠ 8 := by
      have := chkS_ok h1
      simpa using this
    obtain ⟨a1, a2⟩ := hX (br + 1) _ _ (by omega) h3
    have c1 := isS_c h40
    have c2 := isS_c k1
    have c4 := cT_hd (ts := y.2)
    refine ⟨rfl, ⟨by omega, ?_⟩, ?_⟩
    · rw [show 8 - br - 1 = 8 - (br + 1) by omega]; exact a1
    · show 2 + cE syF y.1 + cT r ≤ _
      rw [k2]
      omega
  split at h
  · obtain ⟨y, h1, h⟩ := bnd_ok h
    obtain ⟨z, h2, h⟩ := bnd_ok h
    have e := Sum.inr.inj h
    subst e
    rw [thg] at h1
    obtain ⟨s, h3, h1⟩ := bnd_ok h1
    obtain ⟨a1, a2, a3⟩ := tx_kn hE h3
    obtain ⟨b1, b2, b3⟩ := tx_thOf hX hb a2 (hE _ a1) h1
    refine ⟨?_, b2, by omega⟩
    revert b1
    cases y.1 <;> first | exact fun _ => rfl | exact fun z => (Bool.noConfusion z)
  · cases h
theorem tx_beh {EX : ExP} {br : Nat} {a : Tm} {ts : List Tok} {x : Tm × List Tok} (hE : eqV sy syF vis) (hX : txX syF vis EX 8) (hb : br ≤ 8) (ha : opS a = true ∧ shE syF vis (8 - br) a) (h : behS EX sy vis br a ts = .inr x) : shE syF vis (8 - br) x.1 ∧ cE syF x.1 + cT x.2 ≤ cE syF a + cT ts := by
  rw [behS] at h
  split at h
  · rename_i hO
    obtain ⟨y, h1, h⟩ := bnd_ok h
    have e := Sum.inr.inj h
    subst e
    obtain ⟨b1, b2, b3⟩ := tx_opd hE hX hb h1
    have c1 := isO_c hO
    have c3 := cT_hd (ts := ts)
    refine ⟨⟨ha.1, b1, ha.2, b2⟩, ?_⟩
    show cE syF a + cE syF y.1 + (if opC (hd ts) = 65 ∨ opC (hd ts) = 79 then 2 else 1) + cT y.2 ≤ _
    omega
  · have e := Sum.inr.inj h
    subst e
    exact ⟨ha.2, Nat.le_refl _⟩
theorem tx_exp (hE : eqV sy syF vis) : ∀ (m : Nat), txX syF vis (expS sy vis m) 8 := by
  intro m
  induction m with
  | zero => intro br ts x _ h; cases h
  | succ m ih =>
    intro br ts x hb h
    have c3 := cT_hd (ts := ts)
    rw [expS] at h
    split at h
    · rename_i h45
      obtain ⟨y, h1, h⟩ := bnd_ok h
      have e := Sum.inr.inj h
      subst e
      obtain ⟨b1, b2, b3⟩ := tx_opd hE ih hb h1
      have c1 := isS_c h45
      refine ⟨⟨b1, b2⟩, ?_⟩
      show 1 + cE syF y.1 + cT y.2 ≤ _
      omega
    split at h
    · rename_i h16
      obtain ⟨y, h1, h⟩ := bnd_ok h
      have e := Sum.inr.inj h
      subst e
      obtain ⟨b1, b2, b3⟩ := tx_opd hE ih hb h1
      have c1 : tc (hd ts) = 3 := isW_c h16
      refine ⟨⟨b1, b2⟩, ?_⟩
      show 3 + cE syF y.1 + cT y.2 ≤ _
      omega
    · obtain ⟨y, h1, h⟩ := bnd_ok h
      obtain ⟨b1, b2, b3⟩ := tx_opd hE ih hb h1
      obtain ⟨d1, d2⟩ := tx_beh hE ih hb ⟨b1, b2⟩ h
      exact ⟨d1, by omega⟩
theorem shE_mono {D D' : Nat} {e : Tm} (h : D ≤ D') : shE sy vis D e → shE sy vis D' e := by
  induction D, e using shE.induct generalizing D' with
  | case1 D v => exact fun x => x
  | case2 D s => exact fun x => x
  | case3 D s e ih => exact fun x => ⟨x.1, by have := x.2.1; omega, ih (by omega) x.2.2⟩
  | case4 D e ih => exact fun x => ⟨x.1, ih h x.2⟩
  | case5 D e ih => exact fun x => ⟨x.1, ih h x.2⟩
  | case6 D e ih => exact fun x => ⟨by have := x.1; omega, ih (by omega) x.2⟩
  | case7 D o x y ih1 ih2 => exact fun z => ⟨z.1, z.2.1, ih1 h z.2.2.1, ih2 h z.2.2.2⟩
  | case8 D e h1 h2 h3 h4 h5 h6 h7 =>
    intro x
    unfold shE at x
    split at x
    · exact (h1 _ rfl).elim
    · exact (h2 _ rfl).elim
    · exact (h3 _ _ rfl).elim
    · exact (h4 _ rfl).elim
    · exact (h5 _ rfl).elim
    · exact (h6 _ rfl).elim
    · exact (h7 _ _ _ rfl).elim
    · exact x.elim
theorem tx_exT {br : Nat} {ts : List Tok} {x : Tm × List Tok} (hE : eqV sy syF vis) (hb : br ≤ 8) (h : exT sy vis br ts = .inr x) : shE syF vis 8 x.1 ∧ cE syF x.1 + cT x.2 ≤ cT ts := by
  obtain ⟨a, b⟩ := tx_exp hE _ br ts x hb h
  exact ⟨shE_mono (by omega) a, b⟩
theorem tx_thT {w br : Nat} {ts : List Tok} {x : Tm × List Tok} (hE : eqV sy syF vis) (hb : br ≤ 8) (h : thT sy vis w br ts = .inr x) : thI x.1 = true ∧ shE syF vis 8 x.1 ∧ cE syF x.1 + cT x.2 ≤ cT ts := by
  rw [thT, thg] at h
  obtain ⟨s, h1, h⟩ := bnd_ok h
  obtain ⟨a1, a2, a3⟩ := tx_kn hE h1
  obtain ⟨b1, b2, b3⟩ := tx_thOf (tx_exp hE _) hb a2 (hE _ a1) h
  exact ⟨b1, shE_mono (by omega) b2, by omega⟩
theorem tx_ref {ok : List Sym → Tm → Bool} {w br : Nat} {ts : List Tok} {x : Tm × List Tok} (hE : eqV sy syF vis) (hb : br ≤ 8) (h : refS ok sy vis w br ts = .inr x) : thI x.1 = true ∧ shE syF vis 8 x.1 ∧ cE syF x.1 + cT x.2 ≤ cT ts := by
  rw [refS] at h
  obtain ⟨y, h1, h⟩ := bnd_ok h
  obtain ⟨z, h2, h⟩ := bnd_ok h
  have e := Sum.inr.inj h
  subst e
  exact tx_thT hE hb h1
end
theorem thI_op {t : Tm} (h : thI t = true) : opS t = true := by
  revert h
  cases t <;> first | exact fun _ => rfl | exact fun z => (Bool.noConfusion z)
