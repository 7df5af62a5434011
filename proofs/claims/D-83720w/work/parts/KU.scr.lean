/-! (S): the code of a processor, all together -/
def cxP (X : List Rv) (L : Nat → Nat) : Cx := ((fun j => (X[j]?).map fun x => (x.1, vlS L x)), plS L)
/-- byte x of the code, 256 behind it -/
noncomputable def cdF (X : List Rv) (L : Nat → Nat) (x : Nat) : Nat := @dite _ (∃ j y t, X[j]? = some y ∧ t < L j ∧ x = plS L j + t) (Classical.propDecidable _) (fun h => bN (Classical.choose (Classical.choose_spec h)).1 (vlS L (Classical.choose (Classical.choose_spec h))) (L (Classical.choose h) - 1 - Classical.choose (Classical.choose_spec (Classical.choose_spec h)))) (fun _ => 256)
section
variable {X : List Rv} {L : Nat → Nat}
theorem plS_j {j j' t t' : Nat} (h1 : t < L j) (h2 : t' < L j') (e : plS L j + t = plS L j' + t') : j = j' ∧ t = t' := by
  rcases Nat.lt_trichotomy j j' with h | h | h
  · have := plS_m (L := L) (b := j + 1) j' h
    rw [plS] at this
    omega
  · subst h; exact ⟨rfl, by omega⟩
  · have := plS_m (L := L) (b := j' + 1) j h
    rw [plS] at this
    omega
theorem cdF_at {j t : Nat} {y : Rv} (hy : X[j]? = some y) (ht : t < L j) : cdF X L (plS L j + t) = bN y.1 (vlS L y) (L j - 1 - t) := by
  have h : ∃ j' y' t', X[j']? = some y' ∧ t' < L j' ∧ plS L j + t = plS L j' + t' := ⟨j, y, t, hy, ht, rfl⟩
  have e : cdF X L (plS L j + t) = bN (Classical.choose (Classical.choose_spec h)).1 (vlS L (Classical.choose (Classical.choose_spec h))) (L (Classical.choose h) - 1 - Classical.choose (Classical.choose_spec (Classical.choose_spec h))) := dif_pos h
  rw [e]
  have key : ∀ j' y' t', X[j']? = some y' → t' < L j' → plS L j + t = plS L j' + t' → bN y'.1 (vlS L y') (L j' - 1 - t') = bN y.1 (vlS L y) (L j - 1 - t) := by
    intro j' y' t' a1 a2 a3
    obtain ⟨b1, b2⟩ := plS_j ht a2 a3
    subst b1
    subst b2
    rw [hy] at a1
    rw [← Option.some.inj a1]
  obtain ⟨a1, a2, a3⟩ := Classical.choose_spec (Classical.choose_spec (Classical.choose_spec h))
  exact key _ _ _ a1 a2 a3
theorem cdF_lt (hf : ∀ y ∈ X, y.1 < 16) {x : Nat} (h : ∃ j y t, X[j]? = some y ∧ t < L j ∧ x = plS L j + t) : cdF X L x < 256 := by
  obtain ⟨j, y, t, h1, h2, rfl⟩ := h
  rw [cdF_at h1 h2]
  exact (bE_N (hf y (List.mem_of_getElem? h1)) _).2
/-- every byte ahead of the end belongs to an instruction -/
theorem byt_of (h1 : ∀ i, 1 ≤ L i) {x : Nat} : ∀ n, n ≤ X.length → x < plS L n → ∃ j y t, X[j]? = some y ∧ t < L j ∧ x = plS L j + t
  | 0, _, h => absurd h (Nat.not_lt_zero _)
  | n + 1, hn, h => by
    by_cases c : x < plS L n
    · exact byt_of h1 n (by omega) c
    · rw [plS] at h
      exact ⟨n, X[n], x - plS L n, List.getElem?_eq_getElem (by omega), by omega, by omega⟩
theorem okC_X (wi : wiN X) (s : stl X (in0 X) L) (h6 : plS L X.length ≤ 6000) (fn : ∀ x ∈ X, fnO x.1) : okC (cxP X L) (cdF X L) := by
  obtain ⟨s1, s2⟩ := stl_ex wi s
  intro j f v hj
  have hj : (X[j]?).map (fun x => (x.1, vlS L x)) = some (f, v) := hj
  rw [Option.map_eq_some_iff] at hj
  obtain ⟨x, hx, he⟩ := hj
  have e1 : x.1 = f := congrArg Prod.fst he
  have e2 : vlS L x = v := congrArg Prod.snd he
  have e3 := s2 j x hx
  rw [e2] at e3
  obtain ⟨f1, f2, f3⟩ := fn x (List.mem_of_getElem? hx)
  rw [e1] at f1 f2 f3
  have hl : j + 1 ≤ X.length := by
    rcases Nat.lt_or_ge j X.length with y | y
    · exact y
    · rw [List.getElem?_eq_none y] at hx; exact nomatch hx
  refine ⟨f1, f2, f3, ?_, Nat.le_trans (plS_m _ hl) h6, fun t ht => ?_⟩
  · show plS L (j + 1) = plS L j + lnV v
    rw [plS, e3]
  · show cdF X L (plS L j + t) = _
    rw [cdF_at hx (by omega), e1, e2, e3]
theorem plm_X (h6 : plS L X.length ≤ 6000) : plm (cxP X L) X.length := fun i j h1 h2 => ⟨plS_m _ h1, Nat.le_trans (plS_m _ h2) h6⟩
theorem vl_rs {P : Nat → Nat} {i : Nat} {it : It} : (rsI P i it).1 = it.1 ∧ vlS L (rsI P i it) = vIt (plS L) P it i := by
  unfold rsI vIt
  by_cases h0 : it.2.2.1 = 0
  · rw [if_pos h0, if_pos h0]; exact ⟨rfl, rfl⟩
  · rw [if_neg h0, if_neg h0]
    by_cases h1 : it.2.2.1 = 1
    · rw [if_pos h1, if_pos h1]; exact ⟨rfl, rfl⟩
    · rw [if_neg h1, if_neg h1]
      by_cases h2 : it.2.2.1 = 2
      · rw [if_pos h2, if_pos h2]; exact ⟨rfl, rfl⟩
      · rw [if_neg h2, if_neg h2]; exact ⟨rfl, rfl⟩
theorem cod_X {P : Nat → Nat} : ∀ (D : List It) (n : Nat), (∀ i, i < D.length → X[n + i]? = (D[i]?).map (rsI P (n + i))) → cod (cxP X L) P n D
  | [], _, _ => trivial
  | x :: D, n, h => by
    refine ⟨?_, cod_X D (n + 1) (fun i hi => ?_)⟩
    · have := h 0 (Nat.zero_lt_succ _)
      show (X[n]?).map (fun x => (x.1, vlS L x)) = some (x.1, vIt (plS L) P x n)
      rw [Nat.add_zero] at this
      rw [this]
      show some ((rsI P n x).1, vlS L (rsI P n x)) = _
      rw [(vl_rs (L := L)).1, vl_rs.2]
    · have := h (i + 1) (Nat.succ_lt_succ hi)
      rw [show n + (i + 1) = n + 1 + i by omega] at this
      exact this
variable {sy : List Sym} {pz : List (Nat × Nat)} {pa : List (List Nat)} {bs : List Tm} {R : Tm}
theorem kX_len : (kX sy pz pa bs R).length = (kAl sy pz pa bs R).length := rsL_len _ _
theorem kX_fn : ∀ x ∈ kX sy pz pa bs R, fnO x.1 := by
  intro x hx
  obtain ⟨i, hi⟩ := List.getElem?_of_mem hx
  unfold kX at hi
  rw [rsL_at, Option.map_eq_some_iff] at hi
  obtain ⟨it, h1, rfl⟩ := hi
  rw [(vl_rs (L := fun _ => 0)).1]
  exact fn_Al it (List.mem_of_getElem? h1)
theorem kX_cod : cod (cxP (kX sy pz pa bs R) L) (kSt sy pz pa bs) 0 (kAl sy pz pa bs R) := cod_X _ 0 fun i _ => by
  unfold kX
  rw [rsL_at]
  simp only [Nat.zero_add]
theorem kBs_cod {C : Cx} {P : Nat → Nat} : ∀ K, cod C P 0 (kBs sy pz pa bs K) → ∀ k, k < K → cod C P (kSt sy pz pa bs k) (kBd sy pz pa k (bs.getD k .null) (kSt sy pz pa bs k)) ∧ kSt sy pz pa bs k + 3 + nQ sy (pa.take k) (bs.getD k .null) 0 ≤ (kBs sy pz pa bs K).length
  | 0, _, k, hk => absurd hk (Nat.not_lt_zero _)
  | K + 1, h, k, hk => by
    rw [kBs, cod_app, Nat.zero_add] at h
    have hl : (kBs sy pz pa bs (K + 1)).length = (kBs sy pz pa bs K).length + (3 + nQ sy (pa.take K) (bs.getD K .null) 0) := by rw [kBs, List.length_append, kBd_len]
    by_cases e : k = K
    · subst e
      refine ⟨h.2, ?_⟩
      rw [hl]
      show (kBs sy pz pa bs k).length + 3 + _ ≤ _
      omega
    · obtain ⟨h1, h2⟩ := kBs_cod K h.1 k (by omega)
      exact ⟨h1, by omega⟩
end
