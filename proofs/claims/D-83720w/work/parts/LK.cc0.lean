/-! the component compiles: code and its bytes -/
theorem wi_L {P : Nat → Nat} {m k : Nat} {C : List It} (ok : okL m k C) (hk : k ≤ 6000) (hC : C.length ≤ 6000) (hP : ∀ p, p < m → P p ≤ 6000) : wiN (rsL P 0 C) := by
  intro x hx hw
  obtain ⟨i, hi⟩ := List.getElem?_of_mem hx
  rw [rsL_at, Option.map_eq_some_iff] at hi
  obtain ⟨it, h1, h2⟩ := hi
  have hil : i < C.length := gt_lt h1
  obtain ⟨-, o2, o3, o4⟩ := ok it (List.mem_of_getElem? h1)
  rw [← h2] at hw ⊢
  unfold rsI at hw ⊢
  by_cases c0 : it.2.2.1 = 0
  · rw [if_pos c0] at hw; cases hw
  rw [if_neg c0]
  by_cases c1 : it.2.2.1 = 1
  · rw [if_pos c1]
    have := o3 c1
    dsimp only
    omega
  rw [if_neg c1]
  by_cases c2 : it.2.2.1 = 2
  · rw [if_pos c2]
    have := o4 c2
    dsimp only
    omega
  rw [if_neg c2]
  have h3 := (ok it (List.mem_of_getElem? h1)).1.2
  have := hP _ (o2 (by omega))
  dsimp only
  omega
set_option maxRecDepth 100000 in
theorem B8_255 : ∀ k, k < 256 → B8 (nI k) &&& 255 = nI k := by decide
theorem cdF_in {X : List Rv} {L : Nat → Nat} {x : Nat} (h : cdF X L x < 256) : ∃ j y t, X[j]? = some y ∧ t < L j ∧ x = plS L j + t := by
  rcases Classical.em (∃ j y t, X[j]? = some y ∧ t < L j ∧ x = plS L j + t) with e | e
  · exact e
  · unfold cdF at h
    rw [dif_neg e] at h
    omega
section
variable {sy : List Sym} {pz : List (Nat × Nat)} {pa : List (List Nat)} {bs : List Tm} {nl : Nat} {sg : Nat → Nat × Nat}
theorem wi_X {R : Tm} {sr : Nat × Nat} (hl : bs.length = pa.length) (hY : ∀ k B, bs[k]? = some B → bdy sy pa nl k B (sg k)) (rr : rut sy pa nl R sr) (h6 : (kAl sy pz pa bs R).length ≤ 6000) : wiN (kX sy pz pa bs R) := by
  refine wi_L (ok_Al hl hY rr) h6 h6 (fun p hp => ?_)
  have h1 := kBs_le (sy := sy) (pz := pz) (pa := pa) (bs := bs) (m := p) bs.length (by omega)
  have h2 : (kBs sy pz pa bs bs.length).length ≤ (kAl sy pz pa bs R).length := by
    unfold kAl
    rw [List.length_append]
    omega
  show (kBs sy pz pa bs p).length ≤ 6000
  omega
/-- the bytes that the component holds -/
theorem cd_G {R : Tm} {L : Nat → Nat} {p : Nat} {h : mj_H} (hb : ∀ j x, (kX sy pz pa bs R)[j]? = some x → ∀ t, t < L j → h.1 69 p (plS L j + t) = B8 (bE x.1 (vlS L x) (L j - 1 - t))) : ∀ x, cdF (kX sy pz pa bs R) L x < 256 → h.1 69 p x &&& 255 = nI (cdF (kX sy pz pa bs R) L x) := by
  intro x hx
  obtain ⟨j, y, t, h1, h2, rfl⟩ := cdF_in hx
  have hf : y.1 < 16 := (kX_fn y (List.mem_of_getElem? h1)).1
  obtain ⟨e1, e2⟩ := bE_N (v := vlS L y) hf (L j - 1 - t)
  rw [cdF_at h1 h2, hb j y h1 t h2, e1]
  exact B8_255 _ e2
end
