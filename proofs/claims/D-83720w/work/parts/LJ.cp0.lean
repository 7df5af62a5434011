/-! compiling, as a plain function -/
noncomputable def pzO (sy : List Sym) (pa : List (List Nat)) (bs : List Tm) : List (Nat × Nat) := @dite _ (∃ pz, pzT sy pa bs pz) (Classical.propDecidable _) (fun h => h.choose) (fun _ => [])
theorem pzO_T {sy : List Sym} {pa : List (List Nat)} {bs : List Tm} (h : ∃ pz, pzT sy pa bs pz) : pzT sy pa bs (pzO sy pa bs) := by
  unfold pzO
  rw [dif_pos h]
  exact h.choose_spec
noncomputable def lsO (X : List Rv) : Nat → Nat := @dite _ (∃ L, stl X (in0 X) L) (Classical.propDecidable _) (fun h => h.choose) (fun _ _ => 0)
theorem lsO_eq {X : List Rv} {L : Nat → Nat} (h : stl X (in0 X) L) : lsO X = L := by
  unfold lsO
  have e : ∃ L, stl X (in0 X) L := ⟨L, h⟩
  rw [dif_pos e]
  exact stl_u e.choose_spec h
/-- the code is short enough -/
def okLn (sy : List Sym) (pz : List (Nat × Nat)) (pa : List (List Nat)) (bs : List Tm) (R : Tm) : Prop := ((kAl sy pz pa bs R).length ≤ 6000 ∧ stl (kX sy pz pa bs R) (in0 (kX sy pz pa bs R)) (lsO (kX sy pz pa bs R))) ∧ plS (lsO (kX sy pz pa bs R)) (kAl sy pz pa bs R).length ≤ 6000
def offs (q : Pg) : List Nat := offB (kpC q.2.2.2.2.1) true false q.2.2.2.2.1 q.1 q.2.1 q.2.2.1 q.2.1.length ++ offR (kpC q.2.2.2.2.1) true false q.2.2.2.2.1 q.1 q.2.1 q.2.2.1 q.2.2.2.1 6
noncomputable def pzQ (q : Pg) : List (Nat × Nat) := pzO q.2.2.2.2.1 q.1 q.2.1
/-- the roots below k are short enough -/
def okTo (q : Pg) (k : Nat) : Prop := ∀ p, p < k → ∀ x, q.2.2.2.1.find? (fun x => x.1 == p) = some x → okLn q.2.2.2.2.1 (pzQ q) q.1 q.2.1 x.2
noncomputable def cmp (L : List PL) : Sum (Int32 × Int32 × Int32) Pg := match prgS L with
  | .inl f => .inl (nI f.1, flI f)
  | .inr q => if fts q.2.2.2.2.1 (pzQ q) q.2.1.length q.2.2.2.1 = false then .inl (6, -1, -1) else if mnL (-1) (offs q) ≠ -1 then .inl (5, mnL (-1) (offs q), -1) else @ite _ (okTo q 6) (Classical.propDecidable _) (.inr q) (.inl (6, -1, -1))
/-- how many processors below k -/
def nPr (rt : List (Nat × Tm)) : Nat → Nat
  | 0 => 0
  | k + 1 => nPr rt k + if (rt.find? (fun x => x.1 == k)).isSome then 1 else 0
theorem nPr_le (rt : List (Nat × Tm)) : ∀ k, nPr rt k ≤ k
  | 0 => Nat.le_refl _
  | k + 1 => by
    have := nPr_le rt k
    show nPr rt k + (if (rt.find? (fun x => x.1 == k)).isSome then 1 else 0) ≤ k + 1
    split <;> omega
noncomputable def lsQ (q : Pg) (p : Nat) : Nat → Nat := lsO (kX q.2.2.2.2.1 (pzQ q) q.1 q.2.1 (rtO q.2.2.2.1 p))
noncomputable def gQ (q : Pg) : PgS := gOf q.2.2.2.2.1 (pzQ q) q.1 q.2.1 q.2.2.1 q.2.2.2.1 (lsQ q)
noncomputable def bQ (q : Pg) : Bg := bOf q.2.2.2.2.1 (pzQ q) q.1 q.2.1 q.2.2.2.1 (lsQ q)
