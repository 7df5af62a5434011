/-! rows: leaves of expressions, and their prices -/
def lvE (kp : Nat → Bool) : Tm → List Tm
  | .arg s => if kp s then [.arg s] else []
  | .elem (.arg s) e => lvE kp e ++ [.elem (.arg s) e]
  | .length e => lvE kp e
  | .sum e => lvE kp e
  | .old e => lvE kp e
  | .add (.index _) (.sub x y) => lvE kp x ++ lvE kp y
  | _ => []
def lvA (kp : Nat → Bool) : List Nat → Tm → List Tm
  | _ :: qs, .elem a as => lvE kp a ++ lvA kp qs as
  | _, _ => []
def wtS (w : Tm → Nat) : List Tm → Nat
  | [] => 0
  | t :: r => w t + wtS w r
theorem wtS_app (w : Tm → Nat) (A B : List Tm) : wtS w (A ++ B) = wtS w A + wtS w B := by
  induction A with
  | nil => exact (Nat.zero_add _).symm
  | cons t r ih => show w t + wtS w (r ++ B) = w t + wtS w r + wtS w B; rw [ih]; omega
theorem wtS_mul (w : Tm → Nat) (c : Nat) (A : List Tm) : c * wtS w A = wtS (fun t => c * w t) A := by
  induction A with
  | nil => rfl
  | cons t r ih => show c * (w t + wtS w r) = c * w t + wtS (fun t => c * w t) r; rw [Nat.mul_add, ih]
theorem wtS_le {w w' : Tm → Nat} {A : List Tm} (h : ∀ t ∈ A, w t ≤ w' t) : wtS w A ≤ wtS w' A := by
  induction A with
  | nil => exact Nat.le_refl _
  | cons t r ih => exact Nat.add_le_add (h t List.mem_cons_self) (ih (fun t ht => h t (List.mem_cons_of_mem _ ht)))
section
variable {kp : Nat → Bool} {sy : List Sym} {r : Nv} {Z : List (List Nv)} {w : Tm → Nat}
theorem wE_le (hw : ∀ t m, wF (fun r => [(kyT sy r t, m)]) r Z ≤ w t) : ∀ e, wF (fun r => evE kp sy r e) r Z ≤ wtS w (lvE kp e) := by
  intro e
  induction e using cE.induct with
  | case1 v => exact Nat.le_of_eq (wF_nil r Z)
  | case2 s =>
    have h1 := hw (.arg s) 1
    show wF (fun r => if kp s then [((s, arrS (srO sy s), 0), 1)] else []) r Z ≤ wtS w (if kp s then [.arg s] else [])
    cases kp s with
    | true => exact Nat.le_trans h1 (Nat.le_refl _)
    | false => exact Nat.le_of_eq (wF_nil r Z)
  | case3 s e ih =>
    have h1 := hw (.elem (.arg s) e) 1
    have h2 := wF_app (fun r => evE kp sy r e) (fun r => [(kyT sy r (.elem (.arg s) e), 1)]) r Z
    show wF (fun r => evE kp sy r e ++ [(kyT sy r (.elem (.arg s) e), 1)]) r Z ≤ wtS w (lvE kp e ++ [.elem (.arg s) e])
    rw [wtS_app]
    show _ ≤ wtS w (lvE kp e) + (w (.elem (.arg s) e) + 0)
    omega
  | case4 e ih => exact ih
  | case5 e ih => exact ih
  | case6 e ih => exact ih
  | case7 o x y ih1 ih2 =>
    have h2 := wF_app (fun r => evE kp sy r x) (fun r => evE kp sy r y) r Z
    show wF (fun r => evE kp sy r x ++ evE kp sy r y) r Z ≤ wtS w (lvE kp x ++ lvE kp y)
    rw [wtS_app]
    omega
  | case8 e h0 h1 h2 h3 h4 h5 h6 =>
    have : (fun r => evE kp sy r e) = fun _ => [] := by
      funext r
      unfold evE
      split
      · exact (h1 _ rfl).elim
      · exact (h2 _ _ rfl).elim
      · exact (h3 _ rfl).elim
      · exact (h4 _ rfl).elim
      · exact (h5 _ rfl).elim
      · exact (h6 _ _ _ rfl).elim
      · rfl
    rw [this, wF_nil]
    exact Nat.zero_le _
theorem wT_le (hw : ∀ t m, wF (fun r => [(kyT sy r t, m)]) r Z ≤ w t) (m : Nat) : ∀ t, wF (fun r => evT kp sy r m t) r Z ≤ wtS w (lvE kp t) := by
  intro t
  by_cases c1 : ∃ s, t = .arg s
  · obtain ⟨s, rfl⟩ := c1
    have h1 := hw (.arg s) m
    show wF (fun r => if kp s then [((s, arrS (srO sy s), 0), m)] else []) r Z ≤ wtS w (if kp s then [.arg s] else [])
    cases kp s with
    | true => exact Nat.le_trans h1 (Nat.le_refl _)
    | false => exact Nat.le_of_eq (wF_nil r Z)
  by_cases c2 : ∃ s e, t = .elem (.arg s) e
  · obtain ⟨s, e, rfl⟩ := c2
    have h1 := hw (.elem (.arg s) e) m
    have h2 := wF_app (fun r => evE kp sy r e) (fun r => [(kyT sy r (.elem (.arg s) e), m)]) r Z
    have h3 := wE_le (kp := kp) hw e
    show wF (fun r => evE kp sy r e ++ [(kyT sy r (.elem (.arg s) e), m)]) r Z ≤ wtS w (lvE kp e ++ [.elem (.arg s) e])
    rw [wtS_app]
    show _ ≤ wtS w (lvE kp e) + (w (.elem (.arg s) e) + 0)
    omega
  · have : (fun r => evT kp sy r m t) = fun _ => [] := by
      funext r
      unfold evT
      split
      · exact (c1 ⟨_, rfl⟩).elim
      · exact (c2 ⟨_, _, rfl⟩).elim
      · rfl
    rw [this, wF_nil]
    exact Nat.zero_le _
theorem wA_le {pb : Nat → Nat} (hw : ∀ t m, wF (fun r => [(kyT sy r t, m)]) r Z ≤ w t) : ∀ (qs : List Nat) (as : Tm), wF (fun r => evA kp sy pb r qs as) r Z ≤ wtS w (lvA kp qs as) := by
  intro qs as
  induction qs, as using lvA.induct with
  | case1 q qs a as ih =>
    have h2 := wF_app (fun r => if srO sy q = 3 then evE kp sy r a else evT kp sy r (pb q) a) (fun r => evA kp sy pb r qs as) r Z
    have h3 := wE_le (kp := kp) hw a
    have h4 := wT_le (kp := kp) hw (pb q) a
    show wF (fun r => (if srO sy q = 3 then evE kp sy r a else evT kp sy r (pb q) a) ++ evA kp sy pb r qs as) r Z ≤ wtS w (lvE kp a ++ lvA kp qs as)
    rw [wtS_app]
    by_cases h : srO sy q = 3
    · simp only [if_pos h] at h2 ⊢
      omega
    · simp only [if_neg h] at h2 ⊢
      omega
  | case2 qs as h1 =>
    have : (fun r => evA kp sy pb r qs as) = fun _ => [] := by
      funext r
      unfold evA
      split
      · exact (h1 _ _ _ _ rfl rfl).elim
      · rfl
    rw [this, wF_nil]
    exact Nat.zero_le _
theorem plC_lv (hk : ∀ s, srO sy s = 11 → kp s = false) : ∀ e, plC sy e = true → lvE kp e = [] := by
  intro e
  induction e using plC.induct with
  | case1 v => exact fun _ => rfl
  | case2 s =>
    intro h
    show (if kp s then [Jvm.Term.arg s] else []) = []
    rw [hk s (beq_iff_eq.mp h)]
    rfl
  | case3 e ih => exact fun h => ih h
  | case4 e h1 h2 h3 =>
    intro h
    unfold plC at h
    split at h
    · exact (h1 _ rfl).elim
    · exact (h2 _ rfl).elim
    · exact (h3 _ rfl).elim
    · cases h
theorem nuE_lv : ∀ e, nuE e = true → lvE kp e = [] := by
  intro e
  induction e using nuE.induct with
  | case1 v => exact fun _ => rfl
  | case2 e ih => exact fun h => ih h
  | case3 e h1 h2 =>
    intro h
    unfold nuE at h
    split at h
    · exact (h1 _ rfl).elim
    · exact (h2 _ rfl).elim
    · cases h
theorem fix_lv (hk : ∀ s, srO sy s = 11 → kp s = false) : ∀ e, fixE sy e = true → lvE kp e = [] := by
  intro e
  induction e using fixE.induct with
  | case1 e ih => exact fun h => ih h
  | case2 o x y =>
    intro h
    have h' : ((o == 43 || o == 45) && plC sy x && nuE y) = true := h
    rw [Bool.and_eq_true, Bool.and_eq_true] at h'
    show lvE kp x ++ lvE kp y = []
    rw [plC_lv hk x h'.1.2, nuE_lv y h'.2]
    rfl
  | case3 v => exact fun _ => rfl
  | case4 s =>
    intro h
    show (if kp s then [Jvm.Term.arg s] else []) = []
    rw [hk s (beq_iff_eq.mp h)]
    rfl
  | case5 e h1 h2 h3 h4 =>
    intro h
    unfold fixE at h
    split at h
    · exact (h1 _ rfl).elim
    · exact (h2 _ _ _ rfl).elim
    · exact (h3 _ rfl).elim
    · exact (h4 _ rfl).elim
    · cases h
/-- prices of leaves in twentieths of a sign; o, oE: what operands and expressions may lack -/
def prc (kp : Nat → Bool) (sy : List Sym) (w : Tm → Nat) (o oE : Nat) : Prop :=
  (∀ s, kp s = true → w (.arg s) ≤ 20 * ncs sy s + o) ∧ (∀ a e, fixE sy e = true → w (.elem (.arg a) e) ≤ 20 * (ncs sy a + 2 + cE sy e) + o) ∧ (∀ a e, fixE sy e = false → w (.elem (.arg a) e) + oE ≤ 60 + o) ∧ (∀ s, srO sy s = 11 → kp s = false) ∧ oE ≤ 40 + o ∧ 2 * o ≤ 20 + oE ∧ o ≤ oE
theorem prE {o oE : Nat} (P : prc kp sy w o oE) {vis : List Nat} : ∀ (D : Nat) (e : Tm), shE sy vis D e → wtS w (lvE kp e) ≤ 20 * cE sy e + oE ∧ (opS e = true → wtS w (lvE kp e) ≤ 20 * cE sy e + o) := by
  obtain ⟨p1, p2, p3, p4, p5, p6, p7⟩ := P
  intro D e
  induction D, e using shE.induct with
  | case1 D v => exact fun _ => ⟨Nat.zero_le _, fun _ => Nat.zero_le _⟩
  | case2 D s =>
    intro _
    have h : wtS w (if kp s then [.arg s] else []) ≤ 20 * ncs sy s + o := by
      cases hk : kp s with
      | true => have := p1 s hk; show w (.arg s) + 0 ≤ _; omega
      | false => exact Nat.zero_le _
    have h' : wtS w (lvE kp (.arg s)) ≤ 20 * cE sy (.arg s) + o := h
    exact ⟨by omega, fun _ => h'⟩
  | case3 D s e ih =>
    intro h
    have i1 := (ih h.2.2).1
    have n1 : 1 ≤ ncs sy s := nc_1 _
    have key : wtS w (lvE kp e ++ [.elem (.arg s) e]) ≤ 20 * (ncs sy s + 2 + cE sy e) + o := by
      rw [wtS_app]
      show wtS w (lvE kp e) + (w (.elem (.arg s) e) + 0) ≤ _
      cases hf : fixE sy e with
      | true =>
        have := p2 s e hf
        rw [fix_lv p4 e hf]
        show 0 + (w (.elem (.arg s) e) + 0) ≤ _
        omega
      | false =>
        have := p3 s e hf
        omega
    have k2 : wtS w (lvE kp (.elem (.arg s) e)) ≤ 20 * cE sy (.elem (.arg s) e) + o := key
    exact ⟨by omega, fun _ => k2⟩
  | case4 D e ih =>
    intro h
    have i1 := (ih h.2).2 h.1
    refine ⟨?_, fun z => Bool.noConfusion z⟩
    show wtS w (lvE kp e) ≤ 20 * (1 + cE sy e) + oE
    omega
  | case5 D e ih =>
    intro h
    have i1 := (ih h.2).2 h.1
    refine ⟨?_, fun z => Bool.noConfusion z⟩
    show wtS w (lvE kp e) ≤ 20 * (3 + cE sy e) + oE
    omega
  | case6 D e ih =>
    intro h
    have i1 := (ih h.2).1
    have k2 : wtS w (lvE kp (.old e)) ≤ 20 * cE sy (.old e) + o := by
      show wtS w (lvE kp e) ≤ 20 * (2 + cE sy e) + o
      omega
    exact ⟨by omega, fun _ => k2⟩
  | case7 D op x y ih1 ih2 =>
    intro h
    have i1 := (ih1 h.2.2.1).2 h.1
    have i2 := (ih2 h.2.2.2).2 h.2.1
    refine ⟨?_, fun z => Bool.noConfusion z⟩
    show wtS w (lvE kp x ++ lvE kp y) ≤ 20 * (cE sy x + cE sy y + if op = 65 ∨ op = 79 then 2 else 1) + oE
    rw [wtS_app]
    split <;> omega
  | case8 D e h1 h2 h3 h4 h5 h6 h7 =>
    intro x
    unfold shE at x
    split at x
    · exact (h1 _ rfl).elim
    · exact (h2 _ rfl).elim
    · exact (h3 _ _ rfl).elim
    · exact (h4 _ rfl).elim
    · exact (h5 _ rfl).elim
    · exact (h6 _ rfl).elim
    · exact (h7 _ _ _ rfl).elim
    · exact x.elim
theorem prA {o oE : Nat} (P : prc kp sy w o oE) {vis : List Nat} : ∀ (qs : List Nat) (as : Tm), pAs sy vis as → wtS w (lvA kp qs as) ≤ 20 * cA sy as + (oE - 20) * qs.length := by
  intro qs as
  induction qs, as using lvA.induct with
  | case1 q qs a as ih =>
    intro h
    have h1 := (prE P 8 a h.1).1
    have h2 := ih h.2
    show wtS w (lvE kp a ++ lvA kp qs as) ≤ 20 * (cE sy a + 1 + cA sy as) + (oE - 20) * (qs.length + 1)
    rw [wtS_app, Nat.mul_add (oE - 20)]
    omega
  | case2 qs as h1 =>
    intro _
    have : lvA kp qs as = [] := by
      unfold lvA
      split
      · exact (h1 _ _ _ _ rfl rfl).elim
      · rfl
    rw [this]
    exact Nat.zero_le _
end
