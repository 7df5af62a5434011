/-! rows: keys of such bodies -/
section
variable {kp : Nat → Bool} {fl : Bool} {sy : List Sym} {pb : Nat → Nat} {pa : List (List Nat)}
theorem kE_in {r : Nv} : ∀ e, ∀ k ∈ kys (evE kp sy r e), k ∈ (lvE kp e).map (kyT sy r) := by
  intro e
  induction e using cE.induct with
  | case1 v => intro k hk; cases hk
  | case2 s =>
    intro k hk
    have hk' : k ∈ kys (if kp s then [((s, arrS (srO sy s), 0), 1)] else []) := hk
    show k ∈ (if kp s then [Jvm.Term.arg s] else []).map (kyT sy r)
    cases h : kp s with
    | true => rw [h] at hk'; exact hk'
    | false => rw [h] at hk'; cases hk'
  | case3 s e ih =>
    intro k hk
    have hk' : k ∈ kys (evE kp sy r e ++ [(kyT sy r (.elem (.arg s) e), 1)]) := hk
    rw [kys_app, List.mem_append] at hk'
    show k ∈ (lvE kp e ++ [Jvm.Term.elem (.arg s) e]).map (kyT sy r)
    rw [List.map_append, List.mem_append]
    exact hk'.imp (ih k) (fun h => h)
  | case4 e ih => exact ih
  | case5 e ih => exact ih
  | case6 e ih => exact ih
  | case7 o x y ih1 ih2 =>
    intro k hk
    have hk' : k ∈ kys (evE kp sy r x ++ evE kp sy r y) := hk
    rw [kys_app, List.mem_append] at hk'
    show k ∈ (lvE kp x ++ lvE kp y).map (kyT sy r)
    rw [List.map_append, List.mem_append]
    exact hk'.imp (ih1 k) (ih2 k)
  | case8 e h0 h1 h2 h3 h4 h5 h6 =>
    have : evE kp sy r e = [] := by
      unfold evE
      split
      · exact (h1 _ rfl).elim
      · exact (h2 _ _ rfl).elim
      · exact (h3 _ rfl).elim
      · exact (h4 _ rfl).elim
      · exact (h5 _ rfl).elim
      · exact (h6 _ _ _ rfl).elim
      · rfl
    rw [this]
    intro k hk
    cases hk
theorem kT_in {r : Nv} {m : Nat} : ∀ t, ∀ k ∈ kys (evT kp sy r m t), k ∈ (lvE kp t).map (kyT sy r) := by
  intro t
  by_cases c1 : ∃ s, t = .arg s
  · obtain ⟨s, rfl⟩ := c1
    intro k hk
    have hk' : k ∈ kys (if kp s then [((s, arrS (srO sy s), 0), m)] else []) := hk
    show k ∈ (if kp s then [Jvm.Term.arg s] else []).map (kyT sy r)
    cases h : kp s with
    | true => rw [h] at hk'; exact hk'
    | false => rw [h] at hk'; cases hk'
  by_cases c2 : ∃ s e, t = .elem (.arg s) e
  · obtain ⟨s, e, rfl⟩ := c2
    intro k hk
    have hk' : k ∈ kys (evE kp sy r e ++ [(kyT sy r (.elem (.arg s) e), m)]) := hk
    rw [kys_app, List.mem_append] at hk'
    show k ∈ (lvE kp e ++ [Jvm.Term.elem (.arg s) e]).map (kyT sy r)
    rw [List.map_append, List.mem_append]
    exact hk'.imp (kE_in e k) (fun h => h)
  · have : evT kp sy r m t = [] := by
      unfold evT
      split
      · exact (c1 ⟨_, rfl⟩).elim
      · exact (c2 ⟨_, _, rfl⟩).elim
      · rfl
    rw [this]
    intro k hk
    cases hk
theorem kA_in {r : Nv} : ∀ (qs : List Nat) (as : Tm), ∀ k ∈ kys (evA kp sy pb r qs as), k ∈ (lvA kp qs as).map (kyT sy r) := by
  intro qs as
  induction qs, as using lvA.induct with
  | case1 q qs a as ih =>
    intro k hk
    have hk' : k ∈ kys ((if srO sy q = 3 then evE kp sy r a else evT kp sy r (pb q) a) ++ evA kp sy pb r qs as) := hk
    rw [kys_app, List.mem_append] at hk'
    show k ∈ (lvE kp a ++ lvA kp qs as).map (kyT sy r)
    rw [List.map_append, List.mem_append]
    refine hk'.imp (fun h => ?_) (ih k)
    split at h
    · exact kE_in a k h
    · exact kT_in a k h
  | case2 qs as h1 =>
    have : evA kp sy pb r qs as = [] := by
      unfold evA
      split
      · exact (h1 _ _ _ _ rfl rfl).elim
      · rfl
    rw [this]
    intro k hk
    cases hk
theorem mm_app {r : Nv} {E F : List Ev} {A B : List Tm} (h1 : ∀ k ∈ kys E, k ∈ A.map (kyT sy r)) (h2 : ∀ k ∈ kys F, k ∈ B.map (kyT sy r)) : ∀ k ∈ kys (E ++ F), k ∈ (A ++ B).map (kyT sy r) := by
  intro k hk
  rw [kys_app, List.mem_append] at hk
  rw [List.map_append, List.mem_append]
  exact hk.imp (h1 k) (h2 k)
theorem mm_len {r : Nv} {E : List Ev} {A : List Tm} (h : ∀ k ∈ kys E, k ∈ A.map (kyT sy r)) : nk E ≤ A.length := by
  have e : (A.map (kyT sy r)).length = A.length := List.length_map ..
  rw [← e]
  exact nd_len _ _ (ded_nd _) (fun k hk => h k ((ded_mem _ _).mp hk))
theorem lv_ky {X : Nat} {r : Nv} : ∀ (A : Tm) (md : Nat), zn X A md → (∀ k ∈ kys (evP kp fl sy pb pa A md r), k ∈ (lvQ kp pa A md).map (kyT sy r)) ∧ yP kp fl sy pb pa A md r ≤ (lvQ kp pa A md).length := by
  intro A md
  induction A, md using zn.induct with
  | case1 u s c p ih =>
    intro z
    obtain ⟨i1, i2⟩ := ih z
    refine ⟨fun k hk => i1 k ?_, i2⟩
    have hk' : k ∈ kys (if fl then flN (fun t => decide (t < s) || decide (s + c ≤ t)) (evP kp fl sy pb pa p 0 r) else evP kp fl sy pb pa p 0 r) := hk
    split at hk'
    · exact ((flN_k _ _ _).mp hk').1
    · exact hk'
  | case2 u v e =>
    intro z
    have h := mm_app (sy := sy) (r := r) (kE_in (kp := kp) e) (kT_in (kp := kp) (m := 2) v)
    exact ⟨h, mm_len h⟩
  | case3 u v e =>
    intro z
    have h := mm_app (sy := sy) (r := r) (kE_in (kp := kp) e) (kT_in (kp := kp) (m := 4) v)
    exact ⟨h, mm_len h⟩
  | case4 u v e =>
    intro z
    have h := mm_app (sy := sy) (r := r) (kT_in (kp := kp) (m := 8) v) (kT_in (kp := kp) (m := 2) e)
    exact ⟨h, mm_len h⟩
  | case5 u p as =>
    intro z
    have h := kA_in (kp := kp) (sy := sy) (pb := pb) (r := r) (pa.getD p []) as
    exact ⟨h, mm_len h⟩
  | case6 u ps ih => exact fun z => ih z
  | case7 u s e1 e2 p ih =>
    intro z
    obtain ⟨i1, i2⟩ := ih z.2.2
    have h0 := mm_app (sy := sy) (r := r) (kE_in (kp := kp) e1) (kE_in (kp := kp) e2)
    refine ⟨mm_app h0 i1, ?_⟩
    show nk (evE kp sy r e1 ++ evE kp sy r e2) + yP kp fl sy pb pa p 0 r ≤ (lvE kp e1 ++ lvE kp e2 ++ lvQ kp pa p 0).length
    rw [List.length_append]
    exact Nat.add_le_add (mm_len h0) i2
  | case8 u gs ih => exact fun z => ih z
  | case9 u e p ih =>
    intro z
    obtain ⟨i1, i2⟩ := ih z.2
    refine ⟨mm_app (kE_in (kp := kp) e) i1, ?_⟩
    show nk (evE kp sy r e) + yP kp fl sy pb pa p 0 r ≤ (lvE kp e ++ lvQ kp pa p 0).length
    rw [List.length_append]
    exact Nat.add_le_add (mm_len (kE_in (kp := kp) e)) i2
  | case10 u gs ih => exact fun z => ih z
  | case11 u => exact fun _ => ⟨fun k hk => absurd hk List.not_mem_nil, Nat.zero_le _⟩
  | case12 u => exact fun _ => ⟨fun k hk => absurd hk List.not_mem_nil, Nat.zero_le _⟩
  | case13 => exact fun _ => ⟨fun k hk => absurd hk List.not_mem_nil, Nat.zero_le _⟩
  | case14 p ps ih1 ih2 =>
    intro z
    obtain ⟨i1, i2⟩ := ih1 z.1
    obtain ⟨j1, j2⟩ := ih2 z.2
    refine ⟨mm_app i1 j1, ?_⟩
    have := mm_len i1
    show max (yP kp fl sy pb pa p 0 r) (nk (evP kp fl sy pb pa p 0 r) + yP kp fl sy pb pa ps 1 r) ≤ (lvQ kp pa p 0 ++ lvQ kp pa ps 1).length
    rw [List.length_append]
    omega
  | case15 => exact fun _ => ⟨fun k hk => absurd hk List.not_mem_nil, Nat.zero_le _⟩
  | case16 e p gs ih1 ih2 =>
    intro z
    obtain ⟨i1, i2⟩ := ih1 z.2.1
    obtain ⟨j1, j2⟩ := ih2 z.2.2
    have h0 := kE_in (kp := kp) (sy := sy) (r := r) e
    have h1 := mm_app h0 i1
    refine ⟨mm_app h1 j1, ?_⟩
    have l0 := mm_len h0
    have l1 := mm_len h1
    show max (nk (evE kp sy r e) + yP kp fl sy pb pa p 0 r) (nk (evE kp sy r e ++ evP kp fl sy pb pa p 0 r) + yP kp fl sy pb pa gs 2 r) ≤ (lvE kp e ++ lvQ kp pa p 0 ++ lvQ kp pa gs 2).length
    rw [List.length_append] at l1 ⊢
    rw [List.length_append]
    omega
  | case17 => exact fun _ => ⟨fun k hk => absurd hk List.not_mem_nil, Nat.zero_le _⟩
  | case18 u e c v p gs ih1 ih2 =>
    intro z
    obtain ⟨i1, i2⟩ := ih1 z.2.2.2.1
    obtain ⟨j1, j2⟩ := ih2 z.2.2.2.2
    have h0 := mm_app (kE_in (kp := kp) (sy := sy) (r := r) e) (mm_app (kT_in (kp := kp) (sy := sy) (r := r) (m := 8) c) (kT_in (kp := kp) (sy := sy) (r := r) (m := 2) v))
    have h1 := mm_app h0 i1
    refine ⟨mm_app h1 j1, ?_⟩
    have l0 := mm_len h0
    have l1 := mm_len h1
    show max (nk (evE kp sy r e ++ (evT kp sy r 8 c ++ evT kp sy r 2 v)) + yP kp fl sy pb pa p 0 r) (nk (evE kp sy r e ++ (evT kp sy r 8 c ++ evT kp sy r 2 v) ++ evP kp fl sy pb pa p 0 r) + yP kp fl sy pb pa gs 3 r) ≤ (lvE kp e ++ (lvE kp c ++ lvE kp v) ++ lvQ kp pa p 0 ++ lvQ kp pa gs 3).length
    rw [List.length_append] at l1 ⊢
    rw [List.length_append]
    omega
  | case19 A md h1 h2 h3 h4 h5 h6 h7 h8 h9 h10 h11 h12 h13 h14 h15 h16 h17 h18 =>
    intro h
    unfold zn at h
    split at h
    · exact (h1 _ _ _ _ rfl rfl).elim
    · exact (h2 _ _ _ rfl rfl).elim
    · exact (h3 _ _ _ rfl rfl).elim
    · exact (h4 _ _ _ rfl rfl).elim
    · exact (h5 _ _ _ rfl rfl).elim
    · exact (h6 _ _ rfl rfl).elim
    · exact (h7 _ _ _ _ _ rfl rfl).elim
    · exact (h8 _ _ rfl rfl).elim
    · exact (h9 _ _ _ rfl rfl).elim
    · exact (h10 _ _ rfl rfl).elim
    · exact (h11 _ rfl rfl).elim
    · exact (h12 _ rfl rfl).elim
    · exact (h13 rfl rfl).elim
    · exact (h14 _ _ rfl rfl).elim
    · exact (h15 rfl rfl).elim
    · exact (h16 _ _ _ rfl rfl).elim
    · exact (h17 rfl rfl).elim
    · exact (h18 _ _ _ _ _ _ rfl rfl).elim
    · exact h.elim
end
/-! plain leaves: the loop's own index -/
def plO (s : Nat) : Tm → Option Nat
  | .elem (.arg a) (.arg j) => if j = s then some a else none
  | _ => none
theorem plO_s {s a : Nat} {t : Tm} (h : plO s t = some a) : t = .elem (.arg a) (.arg s) := by
  unfold plO at h
  split at h
  · split at h
    · rename_i e
      cases h
      rw [e]
    · cases h
  · cases h
def plL (s : Nat) : List Tm → List Nat
  | [] => []
  | t :: r => match plO s t with
    | some a => a :: plL s r
    | none => plL s r
def npL (s : Nat) : List Tm → List Tm
  | [] => []
  | t :: r => match plO s t with
    | some _ => npL s r
    | none => t :: npL s r
def ddN : List Nat → List Nat
  | [] => []
  | k :: r => if k ∈ ddN r then ddN r else k :: ddN r
theorem ddN_mem : ∀ (L : List Nat) (k : Nat), k ∈ ddN L ↔ k ∈ L := by
  intro L
  induction L with
  | nil => exact fun _ => Iff.rfl
  | cons a r ih =>
    intro k
    unfold ddN
    split
    · rename_i h
      rw [ih, List.mem_cons]
      constructor
      · exact Or.inr
      · rintro (z | z)
        · rw [z]; exact (ih a).mp h
        · exact z
    · rw [List.mem_cons, List.mem_cons, ih]
theorem ddN_nd : ∀ (L : List Nat), (ddN L).Nodup := by
  intro L
  induction L with
  | nil => exact List.nodup_nil
  | cons a r ih =>
    unfold ddN
    split
    · exact ih
    · rename_i h
      exact List.nodup_cons.mpr ⟨h, ih⟩
theorem nd_lN : ∀ (K L : List Nat), K.Nodup → (∀ k, k ∈ K → k ∈ L) → K.length ≤ L.length := by
  intro K
  induction K with
  | nil => intro L _ _; exact Nat.zero_le _
  | cons a r ih =>
    intro L hn hs
    rw [List.nodup_cons] at hn
    have ha : a ∈ L := hs a List.mem_cons_self
    have h1 := ih (L.erase a) hn.2 (fun k hk => by
      have hne : k ≠ a := fun z => hn.1 (z ▸ hk)
      exact (List.mem_erase_of_ne hne).mpr (hs k (List.mem_cons_of_mem _ hk)))
    rw [List.length_erase_of_mem ha] at h1
    have : 0 < L.length := List.length_pos_of_mem ha
    rw [List.length_cons]
    omega
/-- names of one letter, other names -/
def n1 (sy : List Sym) : List Nat → Nat
  | [] => 0
  | a :: r => (if ncs sy a = 1 then 1 else 0) + n1 sy r
theorem n1_le (sy : List Sym) : ∀ L, n1 sy L ≤ L.length
  | [] => Nat.le_refl _
  | a :: r => by
    have := n1_le sy r
    show (if ncs sy a = 1 then 1 else 0) + n1 sy r ≤ r.length + 1
    split <;> omega
theorem n1_ddN (sy : List Sym) : ∀ L, n1 sy (ddN L) ≤ n1 sy L ∧ (ddN L).length - n1 sy (ddN L) ≤ L.length - n1 sy L
  | [] => ⟨Nat.le_refl _, Nat.le_refl _⟩
  | a :: r => by
    obtain ⟨h1, h2⟩ := n1_ddN sy r
    have h3 := n1_le sy r
    have h4 := n1_le sy (ddN r)
    unfold ddN
    by_cases c : a ∈ ddN r
    · rw [if_pos c]
      show _ ≤ (if ncs sy a = 1 then 1 else 0) + n1 sy r ∧ _ ≤ r.length + 1 - ((if ncs sy a = 1 then 1 else 0) + n1 sy r)
      split <;> omega
    · rw [if_neg c]
      show (if ncs sy a = 1 then 1 else 0) + n1 sy (ddN r) ≤ (if ncs sy a = 1 then 1 else 0) + n1 sy r ∧ (ddN r).length + 1 - ((if ncs sy a = 1 then 1 else 0) + n1 sy (ddN r)) ≤ r.length + 1 - ((if ncs sy a = 1 then 1 else 0) + n1 sy r)
      split <;> omega
theorem n1_ft (sy : List Sym) : ∀ L, n1 sy L = (L.filter (fun a => ncs sy a == 1)).length
  | [] => rfl
  | a :: r => by
    show (if ncs sy a = 1 then 1 else 0) + n1 sy r = _
    rw [List.filter_cons, n1_ft sy r]
    by_cases h : ncs sy a = 1
    · rw [if_pos h, if_pos (beq_iff_eq.mpr h), List.length_cons]; omega
    · rw [if_neg h, if_neg (fun z => h (beq_iff_eq.mp z))]; omega
theorem nc_one {cs : List Nat} (h : nc cs = 1) : ∃ c, cs = [c] ∧ 97 ≤ c ∧ c ≤ 122 := by
  unfold nc at h
  split at h
  · rename_i c
    split at h
    · rename_i hc
      rw [isSm, Bool.and_eq_true] at hc
      exact ⟨c, rfl, Nat.le_of_ble_eq_true hc.1, Nat.le_of_ble_eq_true hc.2⟩
    · cases h
  · cases h
theorem n1_26 {sy : List Sym} {vis : List Nat} {L ds : List Nat} (h : ∀ a ∈ L, fnv sy vis a ∨ a ∈ ds) : n1 sy (ddN L) ≤ 26 + ds.length := by
  have e : (ds ++ (List.range 26).filterMap (fun i => fnd sy vis [97 + i])).length ≤ 26 + ds.length := by
    rw [List.length_append]
    have := List.length_filterMap_le (fun i => fnd sy vis [97 + i]) (List.range 26)
    rw [List.length_range] at this
    omega
  rw [n1_ft]
  refine Nat.le_trans (nd_lN _ _ ((ddN_nd L).filter _) (fun a ha => ?_)) e
  rw [List.mem_filter, ddN_mem] at ha
  rw [List.mem_append]
  rcases h a ha.1 with hf | hd
  · right
    obtain ⟨c, c1, c2, c3⟩ := nc_one (beq_iff_eq.mp ha.2)
    rw [List.mem_filterMap]
    refine ⟨c - 97, List.mem_range.mpr (by omega), ?_⟩
    rw [show 97 + (c - 97) = c by omega, ← c1]
    exact hf
  · exact Or.inl hd
theorem ddN_le {L AL ds : List Nat} (h : ∀ a ∈ L, a ∈ AL ∨ a ∈ ds) : (ddN L).length ≤ AL.length + ds.length := by
  rw [← List.length_append]
  exact nd_lN _ _ (ddN_nd L) (fun a ha => List.mem_append.mpr (h a ((ddN_mem _ _).mp ha)))
theorem pl_len (s : Nat) : ∀ T, (plL s T).length + (npL s T).length = T.length
  | [] => rfl
  | t :: r => by
    have := pl_len s r
    unfold plL npL
    cases plO s t with
    | none => show (plL s r).length + ((npL s r).length + 1) = r.length + 1; omega
    | some a => show ((plL s r).length + 1) + (npL s r).length = r.length + 1; omega
theorem pl_wt {sy : List Sym} {w : Tm → Nat} {s wA wB : Nat} (hw : ∀ a, (if ncs sy a = 1 then wA else wB) ≤ w (.elem (.arg a) (.arg s))) : ∀ T, wA * n1 sy (plL s T) + wB * ((plL s T).length - n1 sy (plL s T)) + wtS w (npL s T) ≤ wtS w T
  | [] => Nat.le_refl _
  | t :: r => by
    have ih := pl_wt hw r
    have h3 := n1_le sy (plL s r)
    show _ ≤ w t + wtS w r
    unfold plL npL
    cases h : plO s t with
    | none =>
      show wA * n1 sy (plL s r) + wB * ((plL s r).length - n1 sy (plL s r)) + (w t + wtS w (npL s r)) ≤ _
      omega
    | some a =>
      have e := plO_s h
      have hw' := hw a
      show wA * ((if ncs sy a = 1 then 1 else 0) + n1 sy (plL s r)) + wB * ((plL s r).length + 1 - ((if ncs sy a = 1 then 1 else 0) + n1 sy (plL s r))) + wtS w (npL s r) ≤ _
      rw [e]
      by_cases h1 : ncs sy a = 1
      · rw [if_pos h1] at hw' ⊢
        rw [show (plL s r).length + 1 - (1 + n1 sy (plL s r)) = (plL s r).length - n1 sy (plL s r) by omega, Nat.mul_add]
        omega
      · rw [if_neg h1] at hw' ⊢
        rw [show (plL s r).length + 1 - (0 + n1 sy (plL s r)) = ((plL s r).length - n1 sy (plL s r)) + 1 by omega, Nat.zero_add, Nat.mul_add]
        omega
theorem pl_in {s : Nat} : ∀ (T : List Tm) (t : Tm), t ∈ T → (∃ a ∈ plL s T, t = .elem (.arg a) (.arg s)) ∨ t ∈ npL s T
  | [], t, h => absurd h List.not_mem_nil
  | x :: r, t, h => by
    have ih := pl_in (s := s) r t
    unfold plL npL
    cases hx : plO s x with
    | none =>
      rcases List.mem_cons.mp h with e | e
      · exact Or.inr (e ▸ List.mem_cons_self)
      · exact (ih e).imp_right (List.mem_cons_of_mem _)
    | some a =>
      rcases List.mem_cons.mp h with e | e
      · exact Or.inl ⟨a, List.mem_cons_self, e.trans (plO_s hx)⟩
      · exact (ih e).imp_left (fun ⟨b, h1, h2⟩ => ⟨b, List.mem_cons_of_mem _ h1, h2⟩)
theorem pl_of {s : Nat} : ∀ (T : List Tm) (a : Nat), a ∈ plL s T → .elem (.arg a) (.arg s) ∈ T
  | [], a, h => absurd h List.not_mem_nil
  | x :: r, a, h => by
    unfold plL at h
    cases hx : plO s x with
    | none => rw [hx] at h; exact List.mem_cons_of_mem _ (pl_of r a h)
    | some b =>
      rw [hx] at h
      rcases List.mem_cons.mp h with e | e
      · rw [e, ← plO_s hx]; exact List.mem_cons_self
      · exact List.mem_cons_of_mem _ (pl_of r a e)
theorem np_of {s : Nat} : ∀ (T : List Tm) (t : Tm), t ∈ npL s T → t ∈ T ∧ plO s t = none
  | [], t, h => absurd h List.not_mem_nil
  | x :: r, t, h => by
    unfold npL at h
    cases hx : plO s x with
    | none =>
      rw [hx] at h
      rcases List.mem_cons.mp h with e | e
      · exact ⟨e ▸ List.mem_cons_self, e ▸ hx⟩
      · obtain ⟨h1, h2⟩ := np_of r t e
        exact ⟨List.mem_cons_of_mem _ h1, h2⟩
    | some b =>
      rw [hx] at h
      obtain ⟨h1, h2⟩ := np_of r t h
      exact ⟨List.mem_cons_of_mem _ h1, h2⟩
section
variable {kp : Nat → Bool} {fl : Bool} {sy : List Sym} {pb : Nat → Nat} {pa : List (List Nat)}
theorem fS_pl {s : Nat} (Z : List (List Nv)) : ∀ L : List Nat, fkS (fun r => L.map (fun a => (((a, false, r s) : Ky), 0))) Z ≤ L.length * fkS (vQ s) Z
  | [] => by
    show fkS (fun _ => []) Z ≤ _
    rw [fS_nil]
    exact Nat.zero_le _
  | a :: L => by
    have h1 := fS_app (fun r => [(((a, false, r s) : Ky), 0)]) (fun r => L.map (fun a => (((a, false, r s) : Ky), 0))) Z
    have h2 := fS_pl (s := s) Z L
    have h3 := fS_fac (q := fun r => (0, false, r s)) (q' := fun r => (a, false, r s)) (m := 0) (m' := 0) (fun x => (a, false, x.2.2)) (fun _ => rfl) Z
    have h4 : fkS (fun r => [((0, false, r s), 0)]) Z = fkS (vQ s) Z := rfl
    show fkS (fun r => [(((a, false, r s) : Ky), 0)] ++ L.map (fun a => (((a, false, r s) : Ky), 0))) Z ≤ (L.length + 1) * fkS (vQ s) Z
    rw [Nat.add_mul]
    omega
theorem fS_np {r : Nv} {w : Tm → Nat} (Z : List (List Nv)) : ∀ N : List Tm, (∀ t ∈ N, wF (fun r => [(kyT sy r t, 0)]) r Z ≤ w t) → fkS (fun r => N.map (fun t => (kyT sy r t, 0))) Z + N.length ≤ wtS w N
  | [], _ => by
    show fkS (fun _ => []) Z + 0 ≤ 0
    rw [fS_nil]
    exact Nat.le_refl _
  | t :: N, h => by
    have h1 := fS_app (fun r => [(kyT sy r t, 0)]) (fun r => N.map (fun t => (kyT sy r t, 0))) Z
    have h2 := fS_np Z N (fun t ht => h t (List.mem_cons_of_mem _ ht))
    have h3 : 1 + fkS (fun r => [(kyT sy r t, 0)]) Z ≤ w t := h t List.mem_cons_self
    show fkS (fun r => [(kyT sy r t, 0)] ++ N.map (fun t => (kyT sy r t, 0))) Z + (N.length + 1) ≤ w t + wtS w N
    omega
/-- the rows of a body: plain leaves count once -/
theorem zoW {X s : Nat} {A : Tm} {r : Nv} {Z : List (List Nv)} {w : Tm → Nat} (z : zn X A 0) (hs : srO sy s = 11) (hw : ∀ t ∈ npL s (lvQ kp pa A 0), wF (fun r => [(kyT sy r t, 0)]) r Z ≤ w t) : wP kp fl sy pb pa A 0 r Z ≤ (plL s (lvQ kp pa A 0)).length + (ddN (plL s (lvQ kp pa A 0))).length * fkS (vQ s) Z + wtS w (npL s (lvQ kp pa A 0)) := by
  have hy := (lv_ky (kp := kp) (fl := fl) (sy := sy) (pb := pb) (pa := pa) (r := r) A 0 z).2
  have hl := pl_len s (lvQ kp pa A 0)
  have h1 : fkS (evP kp fl sy pb pa A 0) Z ≤ fkS (fun r => (ddN (plL s (lvQ kp pa A 0))).map (fun a => (((a, false, r s) : Ky), 0)) ++ (npL s (lvQ kp pa A 0)).map (fun t => (kyT sy r t, 0))) Z := by
    refine fS_mo (fun r k hk => ?_) Z
    obtain ⟨t, t1, t2⟩ := List.mem_map.mp ((lv_ky (kp := kp) (fl := fl) (sy := sy) (pb := pb) (pa := pa) (r := r) A 0 z).1 k hk)
    rw [kys_app, List.mem_append]
    rcases pl_in (s := s) _ t t1 with ⟨a, a1, a2⟩ | hn
    · left
      unfold kys
      rw [List.map_map, List.mem_map]
      refine ⟨a, (ddN_mem _ _).mpr a1, ?_⟩
      rw [← t2, a2]
      show (a, false, r s) = (a, !(srO sy s == 11), if (srO sy s == 11) = true then r s else 0)
      rw [hs]
      rfl
    · right
      unfold kys
      rw [List.map_map, List.mem_map]
      exact ⟨t, hn, t2⟩
  have h2 := fS_app (fun r => (ddN (plL s (lvQ kp pa A 0))).map (fun a => (((a, false, r s) : Ky), 0))) (fun r => (npL s (lvQ kp pa A 0)).map (fun t => (kyT sy r t, 0))) Z
  have h3 := fS_pl (s := s) Z (ddN (plL s (lvQ kp pa A 0)))
  have h4 := fS_np (sy := sy) (r := r) (w := w) Z (npL s (lvQ kp pa A 0)) hw
  show yP kp fl sy pb pa A 0 r + fkS (evP kp fl sy pb pa A 0) Z ≤ _
  omega
end
