/-! (S): from bytes to instructions -/
/-- the code: instructions (function, value), places -/
abbrev Cx := (Nat → Option (Nat × Int32)) × (Nat → Nat)
/-- bytes are those of the instructions -/
def okC (C : Cx) (cd : Nat → Nat) : Prop := ∀ j f v, C.1 j = some (f, v) → f < 16 ∧ f ≠ 2 ∧ f ≠ 6 ∧ C.2 (j + 1) = C.2 j + lnV v ∧ C.2 (j + 1) ≤ 6000 ∧ ∀ t, t < lnV v → cd (C.2 j + t) = bN f v (lnV v - 1 - t)
/-- it stands ahead of the byte that lies k ahead of the last of instruction j -/
def atP (C : Cx) (s : Cr) (j k : Nat) : Prop := ∃ f v, C.1 j = some (f, v) ∧ k < lnV v ∧ s.1 11 = nI (C.2 j + (lnV v - 1 - k)) ∧ s.1 13 = opv v k
/-- a byte was read -/
def rdB (s : Cr) : Cr := sR (sR (sR s 11 (s.1 11 + 1)) 17 (s.1 17 + 1)) 16 (s.1 16 + 1)
/-- an instruction is done -/
def xI (s : Cr) (w : Wd) (f : Nat) (v : Int32) : Option (Cr × Wd) := if f = 15 then (if v.toNatClampNeg < 15 then (if v < 0 then none else (cOpr s v.toNatClampNeg).map fun s => (s, w)) else cSch s w v.toNatClampNeg) else (cDir s f v).map fun s => (s, w)
section
variable {C : Cx} {cd : Nat → Nat} {s : Cr} {w : Wd}
theorem at_cd (o : okC C cd) {f j k : Nat} {v : Int32} (e : C.1 j = some (f, v)) (hk : k < lnV v) : cd (C.2 j + (lnV v - 1 - k)) = bN f v k ∧ C.2 j + (lnV v - 1 - k) < 6000 := by
  obtain ⟨-, -, -, o4, o5, o6⟩ := o j f v e
  have := o6 (lnV v - 1 - k) (by omega)
  rw [show lnV v - 1 - (lnV v - 1 - k) = k by omega] at this
  exact ⟨this, by omega⟩
/-- ahead of the last byte: a prefix -/
theorem st_pre (o : okC C cd) {j k : Nat} (a : atP C s j (k + 1)) : ∃ s1, cStep cd s w = (cSettle s1).map (fun t => (t, w)) ∧ atP C s1 j k ∧ (∃ u, s1 = sR (rdB s) 13 u) := by
  obtain ⟨f, v, e, hk, h11, h13⟩ := a
  obtain ⟨c1, c2⟩ := at_cd o e hk
  obtain ⟨o1, o2, o3, -⟩ := o j f v e
  have bl := (bE_N (f := f) (v := v) o1 (k + 1)).2
  have i1 : (s.1 11).toNatClampNeg = C.2 j + (lnV v - 1 - (k + 1)) := by rw [h11, nI_clamp (by omega)]
  have st : cStep cd s w = (cByte s w (bN f v (k + 1))).bind fun x => (cSettle x.1).map fun s => (s, x.2) := by
    unfold cStep
    rw [i1, c1, if_pos ⟨by rw [h11]; exact in_n c2 (by omega), bl⟩]
  have nx : s.1 11 + 1 = nI (C.2 j + (lnV v - 1 - k)) := by rw [h11, ← nI_succ, show C.2 j + (lnV v - 1 - (k + 1)) + 1 = C.2 j + (lnV v - 1 - k) by omega]
  rw [st]
  unfold cByte
  rw [h13]
  rcases by_pre (f := f) (v := v) (j := k + 1) (by omega) hk with ⟨b1, b2⟩ | ⟨b1, b2⟩
  · rw [if_pos b1, b2]
    exact ⟨sR (rdB s) 13 (opv v k), rfl, ⟨f, v, e, by omega, nx, rfl⟩, _, rfl⟩
  · rw [if_neg (by omega), if_pos b1, b2]
    exact ⟨sR (rdB s) 13 (opv v k), rfl, ⟨f, v, e, by omega, nx, rfl⟩, _, rfl⟩
/-- the last byte -/
theorem st_last (o : okC C cd) {j f : Nat} {v : Int32} (a : atP C s j 0) (e : C.1 j = some (f, v)) : cStep cd s w = (xI (sR (rdB s) 13 0) w f v).bind (fun x => (cSettle x.1).map fun t => (t, x.2)) ∧ (sR (rdB s) 13 0).1 11 = nI (C.2 (j + 1)) := by
  obtain ⟨f', v', e', hk, h11, h13⟩ := a
  rw [e] at e'
  cases e'
  obtain ⟨c1, c2⟩ := at_cd o e hk
  obtain ⟨o1, o2, o3, o4, -⟩ := o j f v e
  have bl := (bE_N (f := f) (v := v) o1 0).2
  have i1 : (s.1 11).toNatClampNeg = C.2 j + (lnV v - 1 - 0) := by rw [h11, nI_clamp (by omega)]
  have st : cStep cd s w = (cByte s w (bN f v 0)).bind fun x => (cSettle x.1).map fun s => (s, x.2) := by
    unfold cStep
    rw [i1, c1, if_pos ⟨by rw [h11]; exact in_n c2 (by omega), bl⟩]
  have nx : s.1 11 + 1 = nI (C.2 (j + 1)) := by rw [h11, ← nI_succ, o4, show C.2 j + (lnV v - 1 - 0) + 1 = C.2 j + lnV v by omega]
  obtain ⟨b1, b2⟩ := by_last (f := f) (v := v) o1
  refine ⟨?_, nx⟩
  rw [st]
  unfold cByte xI
  rw [h13, b1, b2, if_neg o2, if_neg o3]
  rfl
/-- where an instruction begins -/
theorem at_0 {f j : Nat} {v : Int32} (e : C.1 j = some (f, v)) (h11 : s.1 11 = nI (C.2 j)) (h13 : s.1 13 = 0) : ∃ k, atP C s j k := by
  have := (lnV_u v).2.1
  refine ⟨lnV v - 1, f, v, e, by omega, by rw [h11, show lnV v - 1 - (lnV v - 1) = 0 by omega, Nat.add_zero], ?_⟩
  rw [h13]
  unfold opv
  rw [if_pos (by omega)]
end
