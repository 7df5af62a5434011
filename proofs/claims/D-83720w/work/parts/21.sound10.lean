/-! switches -/
theorem mw_sel_mem {x : Int32} : ∀ {cs : List (Int32 × Nat)} {d : Nat}, (∃ q ∈ cs, x = q.1 ∧ mj_sel x cs d = q.2) ∨ ((∀ q ∈ cs, x ≠ q.1) ∧ mj_sel x cs d = d)
  | [], d => Or.inr ⟨fun q h => absurd h List.not_mem_nil, rfl⟩
  | q :: r, d => by
    by_cases h : x = q.1
    · exact Or.inl ⟨q, List.mem_cons_self, h, by simp [mj_sel, h]⟩
    · rcases mw_sel_mem (x := x) (cs := r) (d := d) with ⟨z, hz, e1, e2⟩ | ⟨h1, h2⟩
      · exact Or.inl ⟨z, List.mem_cons_of_mem _ hz, e1, by simp [mj_sel, h, e2]⟩
      · refine Or.inr ⟨fun z hz => ?_, by simp [mj_sel, h, h2]⟩
        rcases List.mem_cons.mp hz with rfl | hz
        · exact h
        · exact h1 z hz
section Sound
variable {p : Program} {l : Launch} {e : Env} {R : Room} {s : State} {m : MethodId} {args : Array Value} {below : List Frame} {meth : Method} {c : Code} {Q : State → Prop} {dC : Nat → ClassId} {dI : Nat → Nat → Nat} {ad : Nat → Nat → Nat} {cA : Nat → ClassId} {mi : Nat} {pc n a b c9 e9 len : Nat} {v9 : Int32} {i : Instr} {lv : mj_L} {st : List mj_V} {h : mj_H}
theorem mw_o_sw (X : mw_cx dC dI cA p s m args meth c mi) (hd : decode (mw_b mi) pc = .ok (i, len)) (hf : mw_fit mi pc i len (36, n, a, b, c9, e9, v9) = true) {x : Int32}
    (kk : mw_W p l e R s m args below meth c Q dC dI ad cA mi (mj_sel x (mg.sw c9) a, lv, st, h)) : mw_W p l e R s m args below meth c Q dC dI ad cA mi (pc, lv, .inl x :: st, h) := by
  intro hok ls H locs hl hP hS
  obtain ⟨hx, hb, -, -, -, -, -, -⟩ := X
  have kk := kk ⟨hok.1, fun v hv => hok.2.1 v (List.mem_cons_of_mem _ hv), hok.2.2⟩ ls H locs hl hP hS
  dsimp only at kk
  have kk : W p l e R s m args below meth c H locs 0 0 Q (F0 m (mj_sel x (mt_sw c9) a) ls (st.map (mw_v ad))) := kk
  simp only [mw_fit] at hf
  split at hf
  · rename_i d lo hi offs
    simp only [mw_swT, Bool.and_eq_true, decide_eq_true_eq] at hf
    obtain ⟨⟨⟨h1, h2⟩, h3⟩, h4⟩ := hf
    have key : ∀ (j : Nat) (q : Int32 × Nat), (mt_sw c9)[j]? = some q → q.1.toInt = lo + j ∧ ∃ off, offs.toList[j]? = some off ∧ (pc : Int) + off = q.2 := by
      intro j q hq
      have hj : j < (mt_sw c9).length := (List.getElem?_eq_some_iff.mp hq).1
      have hj2 : j < offs.toList.length := by rw [h3]; exact hj
      have hz : (((mt_sw c9).zip offs.toList).zipIdx)[j]? = some ((q, offs.toList[j]), j) := by
        rw [List.getElem?_zipIdx, (List.getElem?_zip_eq_some (z := (q, offs.toList[j]))).mpr ⟨hq, List.getElem?_eq_getElem hj2⟩]
        simp
      have hm := List.mem_of_getElem? hz
      have := List.all_eq_true.mp h4 _ hm
      simp only [Bool.and_eq_true, decide_eq_true_eq] at this
      exact ⟨this.1, _, List.getElem?_eq_getElem hj2, this.2⟩
    rcases mw_sel_mem (x := x) (cs := mt_sw c9) (d := a) with ⟨q, hq, e1, e2⟩ | ⟨e1, e2⟩
    · rw [e2] at kk
      obtain ⟨j, hj⟩ := List.getElem?_of_mem hq
      obtain ⟨k1, off, k2, k3⟩ := key j q hj
      have hjl : j < (mt_sw c9).length := (List.getElem?_eq_some_iff.mp hj).1
      have hxl : x.toInt = lo + j := by rw [e1]; exact k1
      refine lv_tableIn hx hb hd (off := off) (tgt := q.2) (by omega) (by omega) ?_ k3 kk
      have : (x.toInt - lo).toNat = j := by omega
      rw [this]
      simpa using k2
    · rw [e2] at kk
      refine lv_tableOut hx hb hd ?_ h1 kk
      by_cases hlt : x.toInt < lo
      · exact Or.inl hlt
      · refine Or.inr (Int.not_le.mp fun hle => ?_)
        have hj : (x.toInt - lo).toNat < (mt_sw c9).length := by omega
        have hq := List.getElem?_eq_getElem hj
        obtain ⟨k1, -⟩ := key _ _ hq
        exact e1 _ (List.mem_of_getElem? hq) (Int32.toInt_inj.mp (by rw [k1]; omega))
  · rename_i d ps
    simp only [mw_swL, Bool.and_eq_true, decide_eq_true_eq] at hf
    obtain ⟨⟨⟨h1, h2⟩, h3⟩, h4⟩ := hf
    have key : ∀ (j : Nat) (q : Int32 × Nat), (mt_sw c9)[j]? = some q → ∃ r, ps.toList[j]? = some r ∧ q.1.toInt = r.1 ∧ (pc : Int) + r.2 = q.2 := by
      intro j q hq
      have hj : j < (mt_sw c9).length := (List.getElem?_eq_some_iff.mp hq).1
      have hj2 : j < ps.toList.length := by rw [h3]; exact hj
      have hz := (List.getElem?_zip_eq_some (z := (q, ps.toList[j]))).mpr ⟨hq, List.getElem?_eq_getElem hj2⟩
      have := List.all_eq_true.mp h4 _ (List.mem_of_getElem? hz)
      simp only [Bool.and_eq_true, decide_eq_true_eq] at this
      exact ⟨_, List.getElem?_eq_getElem hj2, this.1, this.2⟩
    have hsel : ∀ (L : List (Int × Int)) (cs : List (Int32 × Nat)), L.length = cs.length → (∀ (j : Nat) (q : Int32 × Nat), cs[j]? = some q → ∃ r, L[j]? = some r ∧ q.1.toInt = r.1 ∧ (pc : Int) + r.2 = q.2) → (pc : Int) + Op.lookupswitch.offset L d x.toInt = (mj_sel x cs a : Nat) := by
      intro L
      induction L with
      | nil =>
        intro cs hl _
        cases cs with
        | nil => simp [Op.lookupswitch.offset, mj_sel, h1]
        | cons q r => simp at hl
      | cons r L ih =>
        intro cs hl hk
        cases cs with
        | nil => simp at hl
        | cons q cs =>
          obtain ⟨r', e1, e2, e3⟩ := hk 0 q rfl
          cases Option.some.inj e1
          have ih' := ih cs (by simpa using hl) (fun j q' hq' => hk (j + 1) q' hq')
          by_cases hxq : x = q.1
          · have : x.toInt = r.1 := by rw [hxq, e2]
            simp [Op.lookupswitch.offset, mj_sel, hxq, this, e2, e3]
          · have : ¬ x.toInt = r.1 := fun q9 => hxq (Int32.toInt_inj.mp (by rw [q9, e2]))
            have h9 : ¬ r.1 = x.toInt := fun q9 => this q9.symm
            simp [Op.lookupswitch.offset, mj_sel, hxq, this, h9, ih']
    refine lv_lookup hx hb hd ?_ rfl (hsel ps.toList (mt_sw c9) h3 key) kk
    simpa using h2
  · cases hf
end Sound
