/-! THE LAW's START: the addresses of all cells, and what stands at the start -/
def st_ad (B : Nat) (e16 e17 e18 t9 : Nat → Nat) (g k : Nat) : Nat := bif Nat.beq g 16 then e16 k else (bif Nat.beq g 17 then e17 k else (bif Nat.beq g 18 then e18 k else (bif Nat.beq g 9 then t9 k else B + c2_pos g k)))
theorem st_nb {g a : Nat} (h : g ≠ a) : Nat.beq g a = false := by
  cases hb : Nat.beq g a with
  | true => exact absurd (Nat.eq_of_beq_eq_true hb) h
  | false => rfl
theorem st_had {B : Nat} {e16 e17 e18 t9 : Nat → Nat} (g k : Nat) (h : c2_sp g = false) : st_ad B e16 e17 e18 t9 g k = B + c2_pos g k := by
  have ne : ∀ a, c2_sp a = true → g ≠ a := fun a ha e => by
    rw [e, ha] at h
    cases h
  unfold st_ad
  rw [st_nb (ne 16 rfl), st_nb (ne 17 rfl), st_nb (ne 18 rfl), st_nb (ne 9 rfl)]
  rfl
theorem st_val {g k : Nat} (h : (g, k) ∈ mw_val) : (g, k) ∈ mw_all ∨ (g = 16 ∧ k < 23) ∨ (g = 17 ∧ k < 22) ∨ (g = 18 ∧ k < 12) ∨ (g = 9 ∧ k < 27) := by
  have one : ∀ {G N : Nat}, (g, k) ∈ (List.range N).map (fun i => (G, i)) → g = G ∧ k < N := fun {G N} h => by
    obtain ⟨i, hi, e⟩ := List.mem_map.mp h
    cases e
    exact ⟨rfl, List.mem_range.mp hi⟩
  unfold mw_val at h
  rcases List.mem_append.mp h with h | h
  · exact Or.inl h
  · rcases List.mem_append.mp h with h | h
    · exact Or.inr (Or.inl (one h))
    · rcases List.mem_append.mp h with h | h
      · exact Or.inr (Or.inr (Or.inl (one h)))
      · rcases List.mem_append.mp h with h | h
        · exact Or.inr (Or.inr (Or.inr (Or.inl (one h))))
        · exact Or.inr (Or.inr (Or.inr (Or.inr (one h))))
theorem st_pinj {p q : Nat × Nat} (hp : p ∈ mw_all) (hq : q ∈ mw_all) (h : c2_pos p.1 p.2 = c2_pos q.1 q.2) : p = q := by
  have h1 := mw_all_pos p hp
  have h2 := mw_all_pos q hq
  have l1 : mw_pos0 p.1 + p.2 < 200 := by rw [← mw_all_len]; exact (List.getElem?_eq_some_iff.mp h1).1
  have l2 : mw_pos0 q.1 + q.2 < 200 := by rw [← mw_all_len]; exact (List.getElem?_eq_some_iff.mp h2).1
  have e := c2_inj _ l1 _ l2 h
  rw [e] at h1
  exact Option.some.inj (h1.symm.trans h2)
theorem st_tr {l : Launch} (hfl : l.flags = flags0) (e : Env) (h : l.admits e) : e.platform.stackTraces = false := by
  rw [h.platform]
  show l.stackTraces = false
  unfold Launch.stackTraces
  rw [hfl]
  decide +kernel
theorem st_start {l : Launch} {p : Program} {s : State} {m : MethodId} {meth : Method} {c : Code} {b L : Nat} {xs : Nat → Int32} (hfl : l.flags = flags0) (hAt : lw_At p s m meth c b L xs) :
    ∃ (dC : Nat → ClassId) (dI : Nat → Nat → Nat) (cA : Nat → ClassId) (ad : Nat → Nat → Nat) (aV : Nat → Nat), c2_H l dC dI cA (ad 16) s.heap.size s ∧ mw_K dC dI cA s ∧ (∀ g k, c2_sp g = false → ad g k = s.heap.size + c2_pos g k) ∧ kH l s ad aV ∧ kCa s #[.ref b] := by
  obtain ⟨-, -, -, -, -, hts, -, -, -, hgv⟩ := hAt
  have hs : ∀ w ∈ st_T, w.before #[Value.ref b] s = true := flat_of_before _ hgv
  have hA : ∀ a : Nat, a < s.heap.size → ¬ c2_A s.heap.size a := fun a ha z => by
    have z : s.heap.size ≤ a := z
    omega
  obtain ⟨dC, dI, cA, hK⟩ := st_K hts
  obtain ⟨e16, E16, v16⟩ := st_en (g := 16) (A := c2_A s.heap.size) st_n16 (by decide) (fun i hi => st_use hts (st_l16 i hi)) (hts _ st_i16) (fun i hi => st_use hs (st_x16 i hi)) (fun i hi => st_use hs (st_o16 i hi)) hA
  obtain ⟨e17, E17, v17⟩ := st_en (g := 17) (A := c2_A s.heap.size) st_n17 (by decide) (fun i hi => st_use hts (st_l17 i hi)) (hts _ st_i17) (fun i hi => st_use hs (st_x17 i hi)) (fun i hi => st_use hs (st_o17 i hi)) hA
  obtain ⟨e18, E18, v18⟩ := st_en (g := 18) (A := c2_A s.heap.size) st_n18 (by decide) (fun i hi => st_use hts (st_l18 i hi)) (hts _ st_i18) (fun i hi => st_use hs (st_x18 i hi)) (fun i hi => st_use hs (st_o18 i hi)) hA
  obtain ⟨t9, aV, htx, hti⟩ := st_tx (A := c2_A s.heap.size) hs hA
  have hEf := va_Efof (N := 23) (o := "LinkedCores$Word") (n := "text") (d := "Ljava/lang/String;") (v := fun i => .ref (t9 i)) v16 (fun i hi => st_use hs (st_tt i hi)) (fun i hi => (htx i (by omega)).2) hA
  generalize had0 : st_ad s.heap.size e16 e17 e18 t9 = ad
  have had : ∀ g k, c2_sp g = false → ad g k = s.heap.size + c2_pos g k := fun g k h => by rw [← had0]; exact st_had g k h
  have a16 : ad 16 = e16 := by rw [← had0]; rfl
  have a17 : ad 17 = e17 := by rw [← had0]; rfl
  have a18 : ad 18 = e18 := by rw [← had0]; rfl
  have a9 : ad 9 = t9 := by rw [← had0]; rfl
  have hAB : ∀ q, mw_A ad q → c2_A s.heap.size q := fun q hq => by
    obtain ⟨z, hz, rfl⟩ := hq
    show s.heap.size ≤ _
    rw [had _ _ (c2_cha z hz).1]
    omega
  have hA2 : ∀ a : Nat, a < s.heap.size → ¬ mw_A ad a := fun a ha z => hA a ha (hAB a z)
  refine ⟨dC, dI, cA, ad, aV, by rw [a16]; exact st_V rfl hts hs hK v16, hK, had, ⟨fun q hq => ?_, fun p hp q hq e => ?_, fun g k k' h h' e => ?_, ?_, ?_, st_tr hfl⟩, fun i j hi hi6 hj hj6 => ⟨fun e => ?_, fun e => st_use hs (st_c1 i hi6 j hj6 ⟨hi, hj, e⟩)⟩⟩
  · rw [had _ _ (c2_cha q hq).1]
    omega
  · rw [had _ _ (c2_cha p hp).1, had _ _ (c2_cha q hq).1] at e
    exact st_pinj hp hq (by omega)
  · have sp : ∀ (G x : Nat), c2_sp G = true → (G, x) ∈ mw_all → False := fun G x hG hx => by
      have := (c2_cha _ hx).1
      rw [hG] at this
      cases this
    rcases st_val h with y | ⟨rfl, y⟩ | ⟨rfl, y⟩ | ⟨rfl, y⟩ | ⟨rfl, y⟩
    · rcases st_val h' with y' | ⟨rfl, y'⟩ | ⟨rfl, y'⟩ | ⟨rfl, y'⟩ | ⟨rfl, y'⟩
      · rw [had g k (c2_cha _ y).1, had g k' (c2_cha _ y').1] at e
        have := st_pinj y y' (by show c2_pos g k = c2_pos g k'; omega)
        cases this
        rfl
      · exact (sp _ _ rfl y).elim
      · exact (sp _ _ rfl y).elim
      · exact (sp _ _ rfl y).elim
      · exact (sp _ _ rfl y).elim
    · rcases st_val h' with y' | ⟨-, y'⟩ | ⟨z, y'⟩ | ⟨z, y'⟩ | ⟨z, y'⟩
      · exact (sp _ _ rfl y').elim
      · rw [a16] at e
        exact E16.2 k k' (by rw [st_n16]; exact y) (by rw [st_n16]; exact y') e
      · cases z
      · cases z
      · cases z
    · rcases st_val h' with y' | ⟨z, y'⟩ | ⟨-, y'⟩ | ⟨z, y'⟩ | ⟨z, y'⟩
      · exact (sp _ _ rfl y').elim
      · cases z
      · rw [a17] at e
        exact E17.2 k k' (by rw [st_n17]; exact y) (by rw [st_n17]; exact y') e
      · cases z
      · cases z
    · rcases st_val h' with y' | ⟨z, y'⟩ | ⟨z, y'⟩ | ⟨-, y'⟩ | ⟨z, y'⟩
      · exact (sp _ _ rfl y').elim
      · cases z
      · cases z
      · rw [a18] at e
        exact E18.2 k k' (by rw [st_n18]; exact y) (by rw [st_n18]; exact y') e
      · cases z
    · rcases st_val h' with y' | ⟨z, y'⟩ | ⟨z, y'⟩ | ⟨z, y'⟩ | ⟨-, y'⟩
      · exact (sp _ _ rfl y').elim
      · cases z
      · cases z
      · cases z
      · rw [a9] at e
        exact hti k k' y y' e
  · refine ⟨fun g h1 h2 => ?_, fun k hk => ?_, fun i hi => ?_, fun cn x k z1 z2 hm => ?_, va_Zof (hts _ st_lA) (hts _ st_iA) (va_eqt (st_use hs st_vA)) hA2, va_Zqof (hts _ st_lB) (hts _ st_iB) (st_use hs st_vB) hA2⟩
    · have hg : g = 16 ∨ g = 17 ∨ g = 18 := by omega
      rcases hg with rfl | rfl | rfl
      · rw [a16]; exact E16.narrow hAB
      · rw [a17]; exact E17.narrow hAB
      · rw [a18]; exact E18.narrow hAB
    · obtain ⟨z1, z2, z3, z4⟩ := (htx k hk).1
      rw [a9]
      exact ⟨z1.narrow hAB, z2.narrow hAB, z3.narrow hAB, z4.narrow hAB⟩
    · rw [a9, a16]
      exact (hEf i hi).narrow hAB
    · rw [a9]
      have hc : cn = 4 ∨ cn = 13 := by
        unfold mw_tl at hm
        cases h1 : Nat.ble cn 4 with
        | true =>
          rw [h1] at hm
          cases h2 : Nat.beq cn 4 with
          | true => exact Or.inl (Nat.eq_of_beq_eq_true h2)
          | false => rw [h2] at hm; cases hm
        | false =>
          rw [h1] at hm
          cases h2 : Nat.beq cn 13 with
          | true => exact Or.inr (Nat.eq_of_beq_eq_true h2)
          | false => rw [h2] at hm; cases hm
      rcases hc with rfl | rfl
      · have hm : (x, k, z1, z2) ∈ [((502 : Nat), (23 : Nat), (0 : Nat), (0 : Nat)), (512, 24, 0, 0)] := hm
        rcases List.mem_cons.mp hm with e | hm
        · cases e
          exact vk_R.of (hts _ st_r502) (va_eqv (st_use hs st_q23) (htx 23 (by decide)).2)
        · rcases List.mem_cons.mp hm with e | hm
          · cases e
            exact vk_R.of (hts _ st_r512) (va_eqv (st_use hs st_q24) (htx 24 (by decide)).2)
          · cases hm
      · have hm : (x, k, z1, z2) ∈ [((380 : Nat), (25 : Nat), (0 : Nat), (0 : Nat)), (392, 26, 0, 0), (562, 23, 0, 0), (568, 24, 0, 0)] := hm
        rcases List.mem_cons.mp hm with e | hm
        · cases e
          exact vk_R.of (hts _ st_r380) (htx 25 (by decide)).2
        · rcases List.mem_cons.mp hm with e | hm
          · cases e
            exact vk_R.of (hts _ st_r392) (htx 26 (by decide)).2
          · rcases List.mem_cons.mp hm with e | hm
            · cases e
              exact vk_R.of (hts _ st_r562) (htx 23 (by decide)).2
            · rcases List.mem_cons.mp hm with e | hm
              · cases e
                exact vk_R.of (hts _ st_r568) (htx 24 (by decide)).2
              · cases hm
  · exact ⟨va_Zqof (hts _ st_lC) (hts _ st_iC) (st_use hs st_vC) hA2, va_Zqof (hts _ st_lD) (hts _ st_iD) (st_use hs st_vD) hA2, fun args => hts _ st_lC, fun args => hts _ st_lD, fun k h0 h6 => va_Nw.of rfl (st_use hts (st_c2 k h6 h0)), va_Nw.of rfl (hts _ st_d1), va_Nw.of rfl (hts _ st_d2), va_Nw.of rfl (hts _ st_d3)⟩
  · subst e
    exact st_use hts (st_c2 i hi6 hi)
