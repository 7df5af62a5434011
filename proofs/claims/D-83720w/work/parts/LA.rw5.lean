/-! rows: loops that are heavy -/
section
variable {kp : Nat → Bool} {fl : Bool} {sy : List Sym} {pb : Nat → Nat} {pa : List (List Nat)}
theorem shE_sym {vis : List Nat} : ∀ (D : Nat) (e : Tm), shE sy vis D e → ∀ t ∈ lvE kp e, ∀ a e', t = .elem (.arg a) e' → fnv sy vis a ∧ arrS (srO sy a) = true := by
  intro D e
  induction D, e using shE.induct with
  | case1 D v => exact fun _ t ht => absurd ht List.not_mem_nil
  | case2 D s =>
    intro _ t ht a e' he
    have ht' : t ∈ (if kp s then [Jvm.Term.arg s] else []) := ht
    split at ht'
    · rw [List.mem_singleton] at ht'
      rw [ht'] at he
      cases he
    · cases ht'
  | case3 D s e ih =>
    intro h t ht a e' he
    have ht' : t ∈ lvE kp e ++ [.elem (.arg s) e] := ht
    rw [List.mem_append, List.mem_singleton] at ht'
    rcases ht' with ht' | ht'
    · exact ih h.2.2 t ht' a e' he
    · rw [ht'] at he
      cases he
      exact h.1
  | case4 D e ih => exact fun h t ht => ih h.2 t ht
  | case5 D e ih => exact fun h t ht => ih h.2 t ht
  | case6 D e ih => exact fun h t ht => ih h.2 t ht
  | case7 D o x y ih1 ih2 =>
    intro h t ht
    have ht' : t ∈ lvE kp x ++ lvE kp y := ht
    rw [List.mem_append] at ht'
    rcases ht' with ht' | ht'
    · exact ih1 h.2.2.1 t ht'
    · exact ih2 h.2.2.2 t ht'
  | case8 D e h1 h2 h3 h4 h5 h6 h7 =>
    intro x
    unfold shE at x
    split at x
    · exact (h1 _ rfl).elim
    · exact (h2 _ rfl).elim
    · exact (h3 _ _ rfl).elim
    · exact (h4 _ rfl).elim
    · exact (h5 _ rfl).elim
    · exact (h6 _ rfl).elim
    · exact (h7 _ _ _ rfl).elim
    · exact x.elim
theorem pAs_sym {vis : List Nat} : ∀ (qs : List Nat) (as : Tm), pAs sy vis as → ∀ t ∈ lvA kp qs as, ∀ a e', t = .elem (.arg a) e' → fnv sy vis a ∧ arrS (srO sy a) = true := by
  intro qs as
  induction qs, as using lvA.induct with
  | case1 q qs x as ih =>
    intro h t ht
    have ht' : t ∈ lvE kp x ++ lvA kp qs as := ht
    rw [List.mem_append] at ht'
    rcases ht' with ht' | ht'
    · exact shE_sym 8 x h.1 t ht'
    · exact ih h.2 t ht'
  | case2 qs as h1 =>
    intro _ t ht
    have : lvA kp qs as = [] := by
      unfold lvA
      split
      · exact (h1 _ _ _ _ rfl rfl).elim
      · rfl
    rw [this] at ht
    cases ht
theorem fnd_see {vis : List Nat} {f : Nat} {cs : List Nat} {a : Nat} : ∀ m, fnd sy (seeS vis f m) cs = some a → fnd sy vis cs = some a ∨ a ∈ List.range' f m
  | 0, h => Or.inl h
  | m + 1, h => by
    have h' : (if (syO sy (f + m)).1 = cs then some (f + m) else fnd sy (seeS vis f m) cs) = some a := h
    rw [List.mem_range'_1]
    split at h'
    · have e := Option.some.inj h'
      right; omega
    · rcases fnd_see m h' with h1 | h1
      · exact Or.inl h1
      · rw [List.mem_range'_1] at h1
        right; omega
def smO (sy : List Sym) (vis ds : List Nat) (t : Tm) : Prop := ∀ a e', t = .elem (.arg a) e' → arrS (srO sy a) = true ∧ (fnv sy vis a ∨ a ∈ ds)
theorem rd_sym {X : Nat} : ∀ (A : Tm) (md : Nat) (vis : List Nat), rdQ sy A md vis → zn X A md → ∀ t ∈ lvQ kp pa A md, smO sy vis (dsQ A md) t := by
  have ex : ∀ {vis ds : List Nat} {e : Tm}, shE sy vis 8 e → ∀ t ∈ lvE kp e, smO sy vis ds t := fun h t ht a e' he => ⟨(shE_sym 8 _ h t ht a e' he).2, Or.inl (shE_sym 8 _ h t ht a e' he).1⟩
  have mo : ∀ {vis ds ds' : List Nat} {t : Tm}, (∀ x ∈ ds, x ∈ ds') → smO sy vis ds t → smO sy vis ds' t := fun h k a e' he => ⟨(k a e' he).1, (k a e' he).2.imp_right (h a)⟩
  intro A md vis
  induction A, md, vis using rdQ.induct with
  | case1 u s c p vis ih =>
    intro h z t ht a e' he
    obtain ⟨k1, k2⟩ := ih h.2 z t ht a e' he
    refine ⟨k1, ?_⟩
    show _ ∨ a ∈ List.range' s c ++ dsQ p 0
    rw [List.mem_append]
    rcases k2 with k2 | k2
    · rcases fnd_see c k2 with q | q
      · exact Or.inl q
      · exact Or.inr (Or.inl q)
    · exact Or.inr (Or.inr k2)
  | case2 u v e vis =>
    intro h z t ht
    rcases List.mem_append.mp (show t ∈ lvE kp e ++ lvE kp v from ht) with q | q
    · exact ex h.2.2.2 t q
    · exact ex h.2.2.1 t q
  | case3 u v e vis =>
    intro h z t ht
    rcases List.mem_append.mp (show t ∈ lvE kp e ++ lvE kp v from ht) with q | q
    · exact ex h.2.2.2 t q
    · exact ex h.2.2.1 t q
  | case4 u v e vis =>
    intro h z t ht
    rcases List.mem_append.mp (show t ∈ lvE kp v ++ lvE kp e from ht) with q | q
    · exact ex h.2.2.1 t q
    · exact ex h.2.2.2.2 t q
  | case5 u p as vis => exact fun h z t ht a e' he => ⟨(pAs_sym _ _ h.2 t ht a e' he).2, Or.inl (pAs_sym _ _ h.2 t ht a e' he).1⟩
  | case6 u ps vis ih => exact fun h z t ht => ih h.2 z t ht
  | case7 u s e1 e2 p vis ih =>
    intro h z t ht
    rcases List.mem_append.mp (show t ∈ lvE kp e1 ++ lvE kp e2 ++ lvQ kp pa p 0 from ht) with q | q
    · rcases List.mem_append.mp q with q | q
      · exact ex h.2.1 t q
      · exact ex h.2.2.1 t q
    · intro a e' he
      obtain ⟨k1, k2⟩ := ih h.2.2.2 z.2.2 t q a e' he
      refine ⟨k1, ?_⟩
      show _ ∨ a ∈ s :: dsQ p 0
      rcases k2 with k2 | k2
      · have k3 : (if (syO sy s).1 = (syO sy a).1 then some s else fnd sy vis (syO sy a).1) = some a := k2
        split at k3
        · have e := Option.some.inj k3
          exact Or.inr (e ▸ List.mem_cons_self)
        · exact Or.inl k3
      · exact Or.inr (List.mem_cons_of_mem _ k2)
  | case8 u z0 ps vis ih => exact fun h z => z.elim
  | case9 u z0 ps vis ih => exact fun h z => z.elim
  | case10 u s b m p vis ih => exact fun h z => z.elim
  | case11 u gs vis ih => exact fun h z t ht => ih h.2 z t ht
  | case12 u e p vis ih =>
    intro h z t ht
    rcases List.mem_append.mp (show t ∈ lvE kp e ++ lvQ kp pa p 0 from ht) with q | q
    · exact ex h.2.1 t q
    · exact ih h.2.2 z.2 t q
  | case13 u gs vis ih => exact fun h z t ht => ih h.2.2 z t ht
  | case14 u vis => exact fun h z t ht => absurd ht List.not_mem_nil
  | case15 u vis => exact fun h z t ht => absurd ht List.not_mem_nil
  | case16 vis => exact fun h z t ht => absurd ht List.not_mem_nil
  | case17 p ps vis ih1 ih2 =>
    intro h z t ht
    rcases List.mem_append.mp (show t ∈ lvQ kp pa p 0 ++ lvQ kp pa ps 1 from ht) with q | q
    · exact mo (fun x hx => List.mem_append.mpr (Or.inl hx)) (ih1 h.1 z.1 t q)
    · exact mo (fun x hx => List.mem_append.mpr (Or.inr hx)) (ih2 h.2 z.2 t q)
  | case18 vis => exact fun h z t ht => absurd ht List.not_mem_nil
  | case19 e p gs vis ih1 ih2 =>
    intro h z t ht
    rcases List.mem_append.mp (show t ∈ lvE kp e ++ lvQ kp pa p 0 ++ lvQ kp pa gs 2 from ht) with q | q
    · rcases List.mem_append.mp q with q | q
      · exact ex h.1 t q
      · exact mo (fun x hx => List.mem_append.mpr (Or.inl hx)) (ih1 h.2.1 z.2.1 t q)
    · exact mo (fun x hx => List.mem_append.mpr (Or.inr hx)) (ih2 h.2.2 z.2.2 t q)
  | case20 vis => exact fun h z t ht => absurd ht List.not_mem_nil
  | case21 u e c v p gs vis ih1 ih2 =>
    intro h z t ht
    rcases List.mem_append.mp (show t ∈ lvE kp e ++ (lvE kp c ++ lvE kp v) ++ lvQ kp pa p 0 ++ lvQ kp pa gs 3 from ht) with q | q
    · rcases List.mem_append.mp q with q | q
      · rcases List.mem_append.mp q with q | q
        · rcases h.2.1 with rfl | he
          · cases q
          · exact ex he t q
        · rcases h.2.2.1 with ⟨rfl, rfl⟩ | ⟨t1, t2, t3, t4⟩
          · cases q
          · rcases List.mem_append.mp q with q | q
            · exact ex t2 t q
            · exact ex t4 t q
      · exact mo (fun x hx => List.mem_append.mpr (Or.inl hx)) (ih1 h.2.2.2.1 z.2.2.2.1 t q)
    · exact mo (fun x hx => List.mem_append.mpr (Or.inr hx)) (ih2 h.2.2.2.2 z.2.2.2.2 t q)
  | case22 A md vis h1 h2 h3 h4 h5 h6 h7 h8 h9 h10 h11 h12 h13 h14 h15 h16 h17 h18 h19 h20 h21 =>
    intro h
    unfold rdQ at h
    split at h
    · exact (h1 _ _ _ _ rfl rfl).elim
    · exact (h2 _ _ _ rfl rfl).elim
    · exact (h3 _ _ _ rfl rfl).elim
    · exact (h4 _ _ _ rfl rfl).elim
    · exact (h5 _ _ _ rfl rfl).elim
    · exact (h6 _ _ rfl rfl).elim
    · exact (h7 _ _ _ _ _ rfl rfl).elim
    · exact (h8 _ _ _ rfl rfl).elim
    · exact (h9 _ _ _ rfl rfl).elim
    · exact (h10 _ _ _ _ _ rfl rfl).elim
    · exact (h11 _ _ rfl rfl).elim
    · exact (h12 _ _ _ rfl rfl).elim
    · exact (h13 _ _ rfl rfl).elim
    · exact (h14 _ rfl rfl).elim
    · exact (h15 _ rfl rfl).elim
    · exact (h16 rfl rfl).elim
    · exact (h17 _ _ rfl rfl).elim
    · exact (h18 rfl rfl).elim
    · exact (h19 _ _ _ rfl rfl).elim
    · exact (h20 rfl rfl).elim
    · exact (h21 _ _ _ _ _ _ rfl rfl).elim
    · exact h.elim
/-- prices in a heavy loop of index s -/
def wHv (sy : List Sym) (s wA wB wC wK wD : Nat) : Tm → Nat
  | .elem (.arg a) (.arg j) => if j = s then (if ncs sy a = 1 then wA else wB) else if srO sy j = 11 then wK else wD
  | .elem (.arg _) (.int _) => wK
  | .elem (.arg _) e => if fixE sy e = true then wC else wD
  | _ => wD
theorem nc_2 (cs : List Nat) (h : nc cs ≠ 1) : nc cs = 2 := by
  unfold nc at *
  split
  · split
    · rename_i c hc
      exact absurd (if_pos hc) h
    · rfl
  · rfl
theorem cE_3 {e : Tm} (hf : fixE sy e = true) (h1 : ∀ s, e ≠ .arg s) (h2 : ∀ v, e ≠ .int v) : 3 ≤ cE sy e := by
  have pos : ∀ x, (plC sy x = true ∨ nuE x = true ∨ fixE sy x = true) → 1 ≤ cE sy x := by
    intro x hx
    unfold cE
    split
    · omega
    · exact nc_1 _
    · omega
    · omega
    · omega
    · omega
    · split <;> omega
    · rename_i q1 q2 q3 q4 q5 q6 q7
      exfalso
      rcases hx with hx | hx | hx
      · unfold plC at hx
        split at hx
        · exact q1 _ rfl
        · exact q2 _ rfl
        · exact q6 _ rfl
        · cases hx
      · unfold nuE at hx
        split at hx
        · exact q1 _ rfl
        · exact q6 _ rfl
        · cases hx
      · unfold fixE at hx
        split at hx
        · exact q6 _ rfl
        · exact q7 _ _ _ rfl
        · exact q1 _ rfl
        · exact q2 _ rfl
        · cases hx
  unfold fixE at hf
  split at hf
  · rename_i e
    have := pos e (Or.inr (Or.inr hf))
    show 3 ≤ 2 + cE sy e
    omega
  · rename_i o x y
    rw [Bool.and_eq_true, Bool.and_eq_true] at hf
    have a1 := pos x (Or.inl hf.1.2)
    have a2 := pos y (Or.inr (Or.inl hf.2))
    show 3 ≤ cE sy x + cE sy y + if o = 65 ∨ o = 79 then 2 else 1
    split <;> omega
  · exact (h2 _ rfl).elim
  · exact (h1 _ rfl).elim
  · cases hf
theorem prc_wHv {s wA wB wC wK wD o oE : Nat} (hs : srO sy s = 11) (hk : ∀ s, srO sy s = 11 → kp s = false) (a1 : wA ≤ 80 + o) (a2 : wB ≤ 100 + o) (a3 : wC ≤ 120 + o) (a4 : wK ≤ 80 + o) (a5 : wD ≤ 20 + o) (a6 : wD + oE ≤ 60 + o) (a7 : oE ≤ 40 + o) (a8 : 2 * o ≤ 20 + oE) (a9 : o ≤ oE) : prc kp sy (wHv sy s wA wB wC wK wD) o oE := by
  have n1 : ∀ x, 1 ≤ ncs sy x := fun x => nc_1 _
  refine ⟨fun x _ => ?_, fun a e hf => ?_, fun a e hf => ?_, hk, a7, a8, a9⟩
  · have := n1 x
    show wD ≤ _
    omega
  · have na := n1 a
    by_cases c1 : ∃ j, e = .arg j
    · obtain ⟨j, rfl⟩ := c1
      have nj := n1 j
      have hj : srO sy j = 11 := beq_iff_eq.mp hf
      show (if j = s then (if ncs sy a = 1 then wA else wB) else if srO sy j = 11 then wK else wD) ≤ 20 * (ncs sy a + 2 + ncs sy j) + o
      by_cases e1 : j = s
      · rw [if_pos e1]
        by_cases e2 : ncs sy a = 1
        · rw [if_pos e2]; omega
        · rw [if_neg e2]
          have : ncs sy a = 2 := nc_2 _ e2
          omega
      · rw [if_neg e1, if_pos hj]; omega
    by_cases c2 : ∃ v, e = .int v
    · obtain ⟨v, rfl⟩ := c2
      show wK ≤ 20 * (ncs sy a + 2 + 1) + o
      omega
    · have h3 := cE_3 hf (fun j hj => c1 ⟨j, hj⟩) (fun v hv => c2 ⟨v, hv⟩)
      have : wHv sy s wA wB wC wK wD (.elem (.arg a) e) = wC := by
        unfold wHv
        split
        · rename_i hh; cases hh; exact (c1 ⟨_, rfl⟩).elim
        · rename_i hh; cases hh; exact (c2 ⟨_, rfl⟩).elim
        · rename_i hh; cases hh; exact if_pos hf
        · rename_i q1 q2 q3; exact (q3 _ _ rfl).elim
      rw [this]
      omega
  · have : wHv sy s wA wB wC wK wD (.elem (.arg a) e) = wD := by
      unfold wHv
      split
      · rename_i a' j hh
        cases hh
        have hj : srO sy j ≠ 11 := fun z => by
          have : (srO sy j == 11) = false := hf
          rw [z] at this; cases this
        have e1 : j ≠ s := fun z => hj (z ▸ hs)
        rw [if_neg e1, if_neg hj]
      · rename_i hh; cases hh; cases hf
      · rename_i hh; cases hh; exact if_neg (by rw [hf]; decide)
      · rfl
    rw [this]
    exact a6
/-- the rows of a leaf that is not plain -/
theorem wHv_row {s wA wB wC wK wD p p2 d : Nat} {Z : List (List Nv)} {r : Nv} (I : ivZ Z p d) (I2 : ∀ j, j ≠ s → fkS (vQ j) Z + 1 ≤ p2) (b1 : 3 * p ≤ wC) (b2 : 3 * p2 ≤ wK) (b3 : 3 * (d + 1) ≤ wD) (b4 : 3 * (d + 1) ≤ wK) {t : Tm} (ht : plO s t = none) : 3 * wF (fun r => [(kyT sy r t, 0)]) r Z ≤ wHv sy s wA wB wC wK wD t := by
  have cst : ∀ k : Ky, wF (fun _ => [(k, 0)]) r Z ≤ d + 1 := fun k => lf_cst I r
  unfold wHv
  split
  · rename_i a j
    have hj : j ≠ s := fun z => by
      have : (if j = s then some a else none) = none := ht
      rw [if_pos z] at this; cases this
    rw [if_neg hj]
    by_cases h11 : srO sy j = 11
    · rw [if_pos h11]
      have e : (fun r : Nv => [(kyT sy r (.elem (.arg a) (.arg j)), 0)]) = fun r => [(((a, false, r j) : Ky), 0)] := by
        funext r
        show [((a, !(srO sy j == 11), if (srO sy j == 11) = true then r j else 0), 0)] = _
        rw [h11]; rfl
      rw [e]
      have h1 := fS_fac (q := fun r => (0, false, r j)) (q' := fun r => (a, false, r j)) (m := 0) (m' := 0) (fun x => (a, false, x.2.2)) (fun r => rfl) Z
      have h3 : fkS (fun r => [((0, false, r j), 0)]) Z = fkS (vQ j) Z := rfl
      have h2 := I2 j hj
      have h4 : wF (fun r => [(((a, false, r j) : Ky), 0)]) r Z = 1 + fkS (fun r => [(((a, false, r j) : Ky), 0)]) Z := rfl
      omega
    · rw [if_neg h11]
      have e : (fun r : Nv => [(kyT sy r (.elem (.arg a) (.arg j)), 0)]) = fun _ => [(((a, true, 0) : Ky), 0)] := by
        funext r
        have hb : (srO sy j == 11) = false := by simp [h11]
        show [((a, !(srO sy j == 11), if (srO sy j == 11) = true then r j else 0), 0)] = _
        rw [hb]; rfl
      rw [e]
      have := cst (a, true, 0)
      omega
  · rename_i a v
    have := cst (a, false, v)
    have e : (fun r : Nv => [(kyT sy r (.elem (.arg a) (.int v)), 0)]) = fun _ => [(((a, false, v) : Ky), 0)] := rfl
    rw [e]
    omega
  · rename_i a e' q1 q2
    cases hf : fixE sy e' with
    | true =>
      rw [if_pos rfl]
      have e : (fun r : Nv => [(kyT sy r (.elem (.arg a) e'), 0)]) = fun r => [(((a, false, cstE r e') : Ky), 0)] := by
        funext r
        show [((a, !(fixE sy e'), if fixE sy e' = true then cstE r e' else 0), 0)] = _
        rw [hf]; rfl
      rw [e]
      have := lf_fix (a := a) (m := 0) (b := false) I hf r
      exact Nat.le_trans (Nat.mul_le_mul_left 3 this) b1
    | false =>
      rw [if_neg (by decide)]
      have e : (fun r : Nv => [(kyT sy r (.elem (.arg a) e'), 0)]) = fun _ => [(((a, true, 0) : Ky), 0)] := by
        funext r
        show [((a, !(fixE sy e'), if fixE sy e' = true then cstE r e' else 0), 0)] = _
        rw [hf]; rfl
      rw [e]
      have := cst (a, true, 0)
      omega
  · rename_i q1 q2 q3
    by_cases c : ∃ x, t = .arg x
    · obtain ⟨x, rfl⟩ := c
      have := cst (x, arrS (srO sy x), 0)
      have e : (fun r : Nv => [(kyT sy r (.arg x), 0)]) = fun _ => [(((x, arrS (srO sy x), 0) : Ky), 0)] := rfl
      rw [e]
      omega
    · have e : (fun r : Nv => [(kyT sy r t, 0)]) = fun _ => [(((0, false, 0) : Ky), 0)] := by
        funext r
        unfold kyT
        split
        · exact (c ⟨_, rfl⟩).elim
        · exact (q3 _ _ rfl).elim
        · rfl
      have := cst (0, false, 0)
      rw [e]
      omega
end
