/-! THE LAW's START: constants, texts, classes -/
theorem st_nI : ∀ i, i < 23 → ((List.range 23).map nI).getD i 0 = nI i := by decide +kernel
theorem st_inj {i j : Nat} (hi : i < 2 ^ 31) (hj : j < 2 ^ 31) (h : nI i = nI j) : i = j := by
  have := congrArg Int32.toInt h
  rw [nI_toInt hi, nI_toInt hj] at this
  omega
section
variable {args : Array Value} {s : State} {A : Nat → Prop}
/-- two values of one field of one object are one -/
theorem st_same {o n d : String} {v v' : Value} {t : Nat} (h : va_OF o n d v t A s s.heap) (h' : va_OF o n d v' t A s s.heap) : v = v' := by
  obtain ⟨cf, k, fi, f, cell, g1, g2, g3, g4, g5, g6⟩ := h
  obtain ⟨cf', k', fi', f', cell', g1', g2', g3', g4', g5', g6'⟩ := h'
  cases g1.symm.trans g1'
  cases g3.symm.trans g3'
  exact Option.some.inj (g5.symm.trans g5')
theorem st_en {g N : Nat} (hn : (mw_en g).length = N) (hN : N ≤ 23) (hl : ∀ i, i < N → (Cond.laysStatic (mw_ec g) ((mw_en g).getD i "") (mw_ed g)).before args s = true) (hini : (Cond.initialized (mw_ec g)).before args s = true)
    (hex : ∀ i, i < N → (Cond.exactly (.static (mw_ec g) ((mw_en g).getD i "") (mw_ed g)) (mw_ec g)).before args s = true) (hf : ∀ i, i < N → (Cond.eq (.field (.static (mw_ec g) ((mw_en g).getD i "") (mw_ed g)) "java/lang/Enum" "ordinal" "I") (.int (nI i))).before args s = true)
    (hA : ∀ a : Nat, a < s.heap.size → ¬ A a) : ∃ e : Nat → Nat, va_En (mw_ec g) (mw_ed g) (mw_en g) [("java/lang/Enum", "ordinal", "I", (List.range 23).map nI)] e A s s.heap ∧ ∀ i, i < N → (Term.static (mw_ec g) ((mw_en g).getD i "") (mw_ed g)).eval args s none [] s = some (.ref (e i)) := by
  have h0 : ∀ i : Nat, ∃ t : Nat, i < N → (va_Z (mw_ec g) ((mw_en g).getD i "") (mw_ed g) (.ref t) A s s.heap ∧ va_O (mw_ec g) t A s s.heap ∧ va_OF "java/lang/Enum" "ordinal" "I" (.int (nI i)) t A s s.heap) ∧ (Term.static (mw_ec g) ((mw_en g).getD i "") (mw_ed g)).eval args s none [] s = some (.ref t) := by
    intro i
    by_cases hi : i < N
    · have one : ∀ j, j < [(mw_en g).getD i ""].length → j = 0 := fun j hj => by
        have hj : j < 1 := hj
        omega
      obtain ⟨ad, hen, hev⟩ := va_Enof2 (args := args) (s := s) (A := A) (E := mw_ec g) (d := mw_ed g) (nm := [(mw_en g).getD i ""]) (F := [("java/lang/Enum", "ordinal", "I", [nI i])])
        (fun j hj => by cases one j hj; exact hl i hi) hini (fun j hj => by cases one j hj; exact hex i hi)
        (fun q hq j hj => by
          cases one j hj
          rcases List.mem_cons.mp hq with rfl | hq
          · exact hf i hi
          · cases hq)
        (fun j k hj hk hjk => absurd ((one j hj).trans (one k hk).symm) hjk) hA
      have z := hen.1 0 (Nat.zero_lt_one)
      exact ⟨ad 0, fun _ => ⟨⟨z.1, z.2.1, z.2.2 _ List.mem_cons_self⟩, hev 0 (Nat.zero_lt_one)⟩⟩
    · exact ⟨0, fun h => absurd h hi⟩
  obtain ⟨ad, had⟩ := Classical.axiomOfChoice h0
  refine ⟨ad, ⟨fun i hi => ?_, fun i j hi hj e => ?_⟩, fun i hi => (had i hi).2⟩
  · rw [hn] at hi
    refine ⟨(had i hi).1.1, (had i hi).1.2.1, fun q hq => ?_⟩
    rcases List.mem_cons.mp hq with rfl | hq
    · rw [st_nI i (by omega)]
      exact (had i hi).1.2.2
    · cases hq
  · rw [hn] at hi hj
    have h1 := (had i hi).1.2.2
    have h2 := (had j hj).1.2.2
    rw [e] at h1
    exact st_inj (by omega) (by omega) (Value.int.inj (st_same h1 h2))
/-- the texts -/
def st_P (a v : Nat) (k : Nat) (A : Nat → Prop) (s : State) : Prop := va_O "java/lang/String" a A s s.heap ∧ va_OF "java/lang/String" "coder" "B" (.int 0) a A s s.heap ∧ va_OF "java/lang/String" "value" "[B" (.ref v) a A s s.heap ∧ va_T .byte v (mt_sln k) (fun j => .int (nI (mt_sch k j))) A s s.heap
theorem st_tx (hs : ∀ w ∈ st_T, w.before args s = true) (hA : ∀ a : Nat, a < s.heap.size → ¬ A a) : ∃ t9 aV : Nat → Nat, (∀ k, k < 27 → st_P (t9 k) (aV k) k A s ∧ (st_tm k).eval args s none [] s = some (.ref (t9 k))) ∧ ∀ k k', k < 27 → k' < 27 → t9 k = t9 k' → k = k' := by
  have h0 : ∀ k : Nat, ∃ q : Nat × Nat, k < 27 → st_P q.1 q.2 k A s ∧ (st_tm k).eval args s none [] s = some (.ref q.1) := by
    intro k
    by_cases hk : k < 27
    · have one : ∀ j, j < 1 → j = 0 := fun j hj => by omega
      have hb : ∀ j, j < mt_sln k → (((List.range (mt_sln k)).map (fun j => nI (mt_sch k j))).getD j 0) = nI (mt_sch k j) := fun j hj => by
        rw [List.getD_eq_getElem?_getD, List.getElem?_map, List.getElem?_range hj]; rfl
      obtain ⟨adK, adV, hS, hev⟩ := vk_Sof (args := args) (s := s) (A := A) (N := 1) (tm := fun _ => st_tm k) (len := [mt_sln k]) (byt := [(List.range (mt_sln k)).map (fun j => nI (mt_sch k j))])
        (fun i hi => by cases one i hi; exact st_6 k hk) (fun i hi => st_use hs (st_1 k hk)) (fun i hi => st_use hs (st_2 k hk)) (fun i hi => st_use hs (st_3 k hk))
        (fun i hi => by cases one i hi; exact st_use hs (st_4 k hk))
        (fun i hi j hj => by
          cases one i hi
          have hj : j < mt_sln k := hj
          show (Cond.eq _ (.int (((List.range (mt_sln k)).map (fun j => nI (mt_sch k j))).getD j 0))).before args s = true
          rw [hb j hj]
          exact st_use hs (st_5 k hk j hj))
        (fun i j hi hj hij => absurd ((one i hi).trans (one j hj).symm) hij) hA
      obtain ⟨z1, z2, z3, z4⟩ := hS.1 0 Nat.zero_lt_one
      obtain ⟨cell, y1, y2, y3, y4, y5, y6, y7⟩ := z4
      refine ⟨(adK 0, adV 0), fun _ => ⟨⟨z1, z2, z3, ⟨cell, y1, y2, y3, y4, y5, fun j hj => ?_, y7⟩⟩, hev 0 Nat.zero_lt_one⟩⟩
      have := y6 j hj
      rw [this]
      show some (Value.int (((List.range (mt_sln k)).map (fun j => nI (mt_sch k j))).getD j 0)) = _
      rw [hb j hj]
    · exact ⟨(0, 0), fun h => absurd h hk⟩
  obtain ⟨f, hf⟩ := Classical.axiomOfChoice h0
  refine ⟨fun k => (f k).1, fun k => (f k).2, hf, fun k k' hk hk' e => ?_⟩
  have e : (f k).1 = (f k').1 := e
  obtain ⟨-, -, z3, z4⟩ := (hf k hk).1
  obtain ⟨-, -, z3', z4'⟩ := (hf k' hk').1
  rw [e] at z3
  have ev := Value.ref.inj (st_same z3 z3')
  rw [ev] at z4
  obtain ⟨cell, y1, y2, y3, y4, y5, y6, y7⟩ := z4
  obtain ⟨cell', y1', y2', y3', y4', y5', y6', y7'⟩ := z4'
  cases y1.symm.trans y1'
  have hlen : mt_sln k = mt_sln k' := st_inj (st_6 k hk) (st_6 k' hk') (y5.symm.trans y5')
  refine st_7 k hk k' hk' hlen (fun j hj => ?_)
  exact Value.int.inj (Option.some.inj ((y6 j hj).symm.trans (y6' j (hlen ▸ hj))))
/-- the classes of the program and of its arrays -/
theorem st_K (hts : ∀ w ∈ lw_tbl, w.before args s = true) : ∃ (dC : Nat → ClassId) (dI : Nat → Nat → Nat) (cA : Nat → ClassId), mw_K dC dI cA s := by
  have hg : ∀ w ∈ mw_good, w.before args s = true := fun w hw => hts w (List.mem_filter.mp hw).1
  have h0 : ∀ c : Nat, ∃ q : ClassId × (Nat → Nat), ∀ r : vw_C, mw_cl[c]? = some r → u_Kn s r.1 r.2.1 r.2.2 q.1 q.2 := by
    intro c
    by_cases hc : c < 13
    · obtain ⟨C, T, N, ty, k1, k2, k3, k4, k5, k6, k7, k8⟩ := c2_Ko c hc
      obtain ⟨cC, iS, h⟩ := u_known hg k2 (hg _ k7)
      refine ⟨(cC, iS), fun r hr => ?_⟩
      cases k1.symm.trans hr
      exact h
    · refine ⟨(0, fun _ => 0), fun r hr => ?_⟩
      have : c < 13 := (List.getElem?_eq_some_iff.mp hr).1
      exact absurd this hc
  obtain ⟨f, hf⟩ := Classical.axiomOfChoice h0
  have pr : ∀ t : FieldType, (∀ C, t ≠ .object C) → (Cond.arrayClass t).before args s = true → ∃ c : ClassId, ArrOfT s c t ∧ va_RA s c t := by
    intro t ht h
    obtain ⟨c, k, comp, h1, h2, h3⟩ := Cond.arrayClass_spec h
    refine ⟨c, fun n z => ⟨(fun z hz => by cases hz), k, h2, comp, h3⟩, ?_⟩
    cases t with
    | object C => exact absurd rfl (ht C)
    | _ => exact h1
  have ob : ∀ C : String, (Cond.arrayOver (.object C)).before args s = true → ∃ c : ClassId, ArrOfT s c (.object C) ∧ va_RA s c (.object C) := by
    intro C h
    obtain ⟨comp, c, k, h1, h2, h3, h4, h5⟩ := Cond.arrayOver_spec h
    exact ⟨c, fun n z => ⟨(fun z hz => by cases hz), k, h3, comp, h4⟩, k, comp, h3, h4, h1, h5⟩
  obtain ⟨c0, q0⟩ := pr .int (fun C h => by cases h) (hts _ st_a0)
  obtain ⟨c1, q1⟩ := pr .boolean (fun C h => by cases h) (hts _ st_a1)
  obtain ⟨c2, q2⟩ := pr .byte (fun C h => by cases h) (hts _ st_a2)
  obtain ⟨c3, q3⟩ := pr .long (fun C h => by cases h) (hts _ st_a3)
  obtain ⟨c12, q12⟩ := ob "LinkedCores$Link" (hts _ st_a12)
  obtain ⟨c13, q13⟩ := ob "LinkedCores$Core" (hts _ st_a13)
  obtain ⟨c16, q16⟩ := ob "LinkedCores$Word" (hts _ st_a16)
  obtain ⟨c17, q17⟩ := ob "LinkedCores$What" (hts _ st_a17)
  obtain ⟨c18, q18⟩ := ob "LinkedCores$Sort" (hts _ st_a18)
  refine ⟨fun c => (f c).1, fun c => (f c).2, fun k => match k with | 0 => c0 | 1 => c1 | 2 => c2 | 3 => c3 | 12 => c12 | 13 => c13 | 16 => c16 | 17 => c17 | _ => c18, ⟨fun c q hq => hf c q hq, fun k q hk => ?_⟩, fun w hw => ?_⟩
  · match k, hk with
    | 0, hk => cases hk; exact q0
    | 1, hk => cases hk; exact q1
    | 2, hk => cases hk; exact q2
    | 3, hk => cases hk; exact q3
    | 4, hk => cases hk; exact q12
    | 5, hk => cases hk; exact q13
    | 6, hk => cases hk; exact q16
    | 7, hk => cases hk; exact q17
    | 8, hk => cases hk; exact q18
    | k + 9, hk => cases hk
  · obtain ⟨hm, hw2⟩ := List.mem_filter.mp hw
    have h := hts w hm
    cases w <;> simp only [Bool.false_eq_true] at hw2
    · exact va_Nw.of rfl h
    · exact va_Nw.of rfl h
/-- the length of an array, exactly -/
theorem st_len {t : Term} {n : Nat} (hn : n < 2 ^ 31) (h : (Term.length t).eval args s none [] s = some (.int (Int32.ofNat n))) : ∃ a cell, t.eval args s none [] s = some (.ref a) ∧ s.arrayAt? a = some cell ∧ cell.slots.size = n := by
  obtain ⟨a, cell, h1, h2, h3⟩ := Term.length_spec h
  refine ⟨a, cell, h1, h2, ?_⟩
  simp only [Term.eval, Option.bind_eq_bind, h1, h2, Option.bind_some] at h
  by_cases hlt : cell.slots.size < 2147483648
  · have h3 := Value.int.inj h3
    exact (st_inj hn hlt h3).symm
  · rw [if_neg hlt] at h
    cases h
/-- Word.$VALUES -/
theorem st_V {B : Nat} {dC : Nat → ClassId} {dI : Nat → Nat → Nat} {cA : Nat → ClassId} {e16 : Nat → Nat} {l : Launch} (hB : s.heap.size = B) (hts : ∀ w ∈ lw_tbl, w.before args s = true) (hs : ∀ w ∈ st_T, w.before args s = true) (hK : mw_K dC dI cA s)
    (hev : ∀ i, i < 23 → (Term.static (mw_ec 16) ((mw_en 16).getD i "") (mw_ed 16)).eval args s none [] s = some (.ref (e16 i))) : c2_H l dC dI cA e16 B s := by
  have hA : ∀ a : Nat, a < s.heap.size → ¬ c2_A B a := fun a ha z => by
    have z : B ≤ a := z
    omega
  obtain ⟨vA, c, cV, k, v1, v2, v3, v4, v5, v6, -⟩ := Cond.exactly_spec (st_use hs st_w1)
  obtain ⟨a', cell', l1, l2, l3⟩ := st_len (n := 23) (by decide) (va_eqt (st_use hs st_w2))
  cases v1.symm.trans l1
  obtain ⟨w1, w2, w3, -⟩ := State.arrayAt?_spec l2
  cases v3.symm.trans w1
  have hnm : s.vm.findClass "[LLinkedCores$Word;" = some (cA 16) := by
    obtain ⟨_, _, -, -, -, e1⟩ := (hK.1.2 6 (cA 16, .object "LinkedCores$Word") rfl).2
    exact e1
  have hc : cV.cls = cA 16 := by rw [v6]; exact Option.some.inj (v2.symm.trans hnm)
  have hel : ∀ i, i < 23 → cV.slots[i]? = some (.ref (e16 i)) := by
    intro i hi
    obtain ⟨a9, j, cell9, y1, y2, y3, -, y5⟩ := Term.elem_spec (va_eqv (st_use hs (st_w3 i hi)) (hev i hi))
    cases v1.symm.trans y1
    cases l2.symm.trans y3
    have y2 : some (Value.int (nI i)) = some (.int j) := y2
    cases y2
    rw [nI_clamp' (by omega)] at y5
    exact y5
  have hsl : cV.slots = (c2_vc cA e16).slots := by
    apply Array.ext
    · rw [l3]; exact (c2_vcs cA e16).symm
    · intro i h1 h2
      have hi : i < 23 := by omega
      have g1 := hel i hi
      rw [Array.getElem?_eq_getElem h1] at g1
      have g2 : (c2_vc cA e16).slots[i]? = some (.ref (e16 i)) := by
        show (Array.ofFn (n := 23) fun j => va_rf (some (e16 j.val)))[i]? = _
        rw [Array.getElem?_ofFn, dif_pos hi]
        rfl
      rw [Array.getElem?_eq_getElem h2] at g2
      exact Option.some.inj (g1.trans g2.symm)
  refine ⟨hB, fun a ha => ?_, fun hs9 => c2_vmet hB (va_Zref (hts _ st_lV) (hts _ st_iV) v1 hA) v3 hc (fun k hk => by rw [hk] at v5; cases v5) w2 hsl (va_Nw.of rfl (hts _ st_w4)) hs9⟩
  rcases ha with rfl | rfl | rfl | rfl
  · exact va_AO.of (hts _ st_a12)
  · exact va_AO.of (hts _ st_a13)
  · exact va_AO.of (hts _ st_a17)
  · exact va_AO.of (hts _ st_a18)
end
