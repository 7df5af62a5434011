/-! SOUNDNESS, second part: the world of the real machine that a heap of the small one stands for -/
def mw_val : List (Nat × Nat) := mw_all ++ ((List.range 23).map (fun i => (16, i)) ++ ((List.range 22).map (fun i => (17, i)) ++ ((List.range 12).map (fun i => (18, i)) ++ (List.range 27).map (fun i => (9, i)))))
section MW
variable (ad : Nat → Nat → Nat) (cA : Nat → ClassId)
def mw_v (v : mj_V) : Value := match v with
  | .inl x => .int x
  | .inr (.inl x) => .long x
  | .inr (.inr q) => .ref (ad q.1 q.2)
def mw_or (g r : Nat) : Option Nat := if r = 0 then none else some (ad g (r - 1))
def mw_fv (h : mj_H) (ci g k j : Nat) : Value := match mw_fz ci j with
  | 0 => .int (h.1 g k j)
  | 2 => .long (h.2.1 g k j)
  | 3 => .ref (ad (mt_ref g k j).1 (mt_ref g k j).2)
  | q => va_rf (mw_or ad (q - 4) (h.2.2 g k j))
def mw_cell (h : mj_H) (g k : Nat) : va_E := match (mt_grp g).1 with
  | 0 => .inr ((mt_grp g).2 - 1, (List.range (mw_nf (mt_grp g).2)).map (mw_fv ad h (mt_grp g).2 g k))
  | 1 => .inl (cA 0, mt_len g k, .inl (h.1 g k))
  | 2 => .inl (cA 1, mt_len g k, .inl (h.1 g k))
  | 3 => .inl (cA 2, mt_len g k, .inl (h.1 g k))
  | 4 => .inl (cA 3, mt_len g k, .inr (.inl (h.2.1 g k)))
  | 5 => .inl (cA (mt_grp g).2, mt_len g k, .inr (.inr (.inr (.inr (fun i => some (ad (mt_grp g).2 i))))))
  | _ => .inl (cA (mt_grp g).2, mt_len g k, .inr (.inr (.inr (.inr (fun i => mw_or ad (mt_grp g).2 (h.2.2 g k i))))))
def mw_ws (h : mj_H) : va_W := mw_all.map (fun q => (ad q.1 q.2, mw_cell ad cA h q.1 q.2))
end MW
theorem mw_cat_v (ad : Nat → Nat → Nat) (v : mj_V) : (mw_v ad v).category = mj_cat v := by
  rcases v with x | x | x <;> rfl
theorem mw_all_pos : ∀ q ∈ mw_all, mw_all[mw_pos0 q.1 + q.2]? = some q := by decide +kernel
theorem mw_all_uniq0 : ∀ i, i < 200 → (mw_all[i]?).all (fun q => decide (mw_pos0 q.1 + q.2 = i)) = true := by decide +kernel
theorem mw_all_len : mw_all.length = 200 := by decide +kernel
theorem mw_all_uniq {i : Nat} {q : Nat × Nat} (h : mw_all[i]? = some q) : mw_pos0 q.1 + q.2 = i := by
  have hi : i < 200 := by rw [← mw_all_len]; exact (List.getElem?_eq_some_iff.mp h).1
  have h1 := mw_all_uniq0 i hi
  rw [h] at h1
  simpa using h1
theorem mw_at {ad : Nat → Nat → Nat} {cA : Nat → ClassId} {h : mj_H} {q : Nat × Nat} (hq : q ∈ mw_all) : (mw_ws ad cA h)[mw_pos0 q.1 + q.2]? = some (ad q.1 q.2, mw_cell ad cA h q.1 q.2) := by
  simp only [mw_ws, List.getElem?_map, mw_all_pos q hq, Option.map_some]
theorem mw_cell_congr {ad : Nat → Nat → Nat} {cA : Nat → ClassId} {h h' : mj_H} {g k : Nat} (h1 : h.1 g k = h'.1 g k) (h2 : h.2.1 g k = h'.2.1 g k) (h3 : h.2.2 g k = h'.2.2 g k) : mw_cell ad cA h g k = mw_cell ad cA h' g k := by
  have e : mw_fv ad h (mt_grp g).2 g k = mw_fv ad h' (mt_grp g).2 g k := by
    funext j
    simp only [mw_fv, h1, h2, h3]
  simp only [mw_cell, e, h1, h2, h3]
theorem mw_ws_set {ad : Nat → Nat → Nat} {cA : Nat → ClassId} {h h' : mj_H} {q : Nat × Nat} (hq : q ∈ mw_all) (ho : ∀ g k, (g, k) ≠ q → h.1 g k = h'.1 g k ∧ h.2.1 g k = h'.2.1 g k ∧ h.2.2 g k = h'.2.2 g k) : (mw_ws ad cA h).set (mw_pos0 q.1 + q.2) (ad q.1 q.2, mw_cell ad cA h' q.1 q.2) = mw_ws ad cA h' := by
  apply List.ext_getElem?
  intro i
  rw [List.getElem?_set]
  by_cases hi : mw_pos0 q.1 + q.2 = i
  · subst hi
    rw [if_pos rfl, mw_at hq]
    have hl : mw_pos0 q.1 + q.2 < (mw_ws ad cA h).length := (List.getElem?_eq_some_iff.mp (mw_at (ad := ad) (cA := cA) (h := h) hq)).1
    rw [if_pos hl]
  · rw [if_neg hi]
    simp only [mw_ws, List.getElem?_map]
    cases hr : mw_all[i]? with
    | none => rfl
    | some r =>
      have hne : (r.1, r.2) ≠ q := fun e => hi (by rw [← e]; exact mw_all_uniq hr)
      obtain ⟨e1, e2, e3⟩ := ho r.1 r.2 hne
      simp only [Option.map_some, mw_cell_congr e1 e2 e3]
theorem mj_sI_off {h : mj_H} {g k j : Nat} {v : Int32} : ∀ g' k', (g', k') ≠ (g, k) → h.1 g' k' = (mj_sI h g k j v).1 g' k' ∧ h.2.1 g' k' = (mj_sI h g k j v).2.1 g' k' ∧ h.2.2 g' k' = (mj_sI h g k j v).2.2 g' k' := by
  intro g' k' hne
  refine ⟨?_, rfl, rfl⟩
  by_cases hg : g' = g
  · subst hg
    have hk : k' ≠ k := fun e => hne (by rw [e])
    simp [mj_sI, va_up, hk]
  · simp [mj_sI, va_up, hg]
theorem mj_sL_off {h : mj_H} {g k j : Nat} {v : Int64} : ∀ g' k', (g', k') ≠ (g, k) → h.1 g' k' = (mj_sL h g k j v).1 g' k' ∧ h.2.1 g' k' = (mj_sL h g k j v).2.1 g' k' ∧ h.2.2 g' k' = (mj_sL h g k j v).2.2 g' k' := by
  intro g' k' hne
  refine ⟨rfl, ?_, rfl⟩
  by_cases hg : g' = g
  · subst hg
    have hk : k' ≠ k := fun e => hne (by rw [e])
    simp [mj_sL, va_up, hk]
  · simp [mj_sL, va_up, hg]
theorem mj_sR_off {h : mj_H} {g k j : Nat} {v : Nat} : ∀ g' k', (g', k') ≠ (g, k) → h.1 g' k' = (mj_sR h g k j v).1 g' k' ∧ h.2.1 g' k' = (mj_sR h g k j v).2.1 g' k' ∧ h.2.2 g' k' = (mj_sR h g k j v).2.2 g' k' := by
  intro g' k' hne
  refine ⟨rfl, rfl, ?_⟩
  by_cases hg : g' = g
  · subst hg
    have hk : k' ≠ k := fun e => hne (by rw [e])
    simp [mj_sR, va_up, hk]
  · simp [mj_sR, va_up, hg]
theorem mj_sI_at (h : mj_H) (g k j : Nat) (v : Int32) : (mj_sI h g k j v).1 g k = upd (h.1 g k) j v := by
  funext i
  simp [mj_sI, va_up, upd]
theorem mj_sL_at (h : mj_H) (g k j : Nat) (v : Int64) : (mj_sL h g k j v).2.1 g k = vp_updL (h.2.1 g k) j v := by
  funext i
  simp [mj_sL, va_up, vp_updL]
theorem mj_sR_at (h : mj_H) (g k j : Nat) (v : Nat) : (mj_sR h g k j v).2.2 g k = va_up (h.2.2 g k) j v := by
  funext i
  simp [mj_sR, va_up]
theorem mw_range_set {N j : Nat} {f f' : Nat → Value} {v : Value} (hj : f' j = v) (ho : ∀ i, i ≠ j → f' i = f i) : (List.range N).map f' = ((List.range N).map f).set j v := by
  apply List.ext_getElem?
  intro i
  rw [List.getElem?_set, List.getElem?_map, List.getElem?_map]
  by_cases hi : j = i
  · subst hi
    rw [if_pos rfl]
    by_cases hN : j < N
    · simp [hN, hj]
    · simp [hN]
  · rw [if_neg hi]
    by_cases hN : i < N
    · simp [hN, ho i (fun e => hi e.symm)]
    · simp [hN]
theorem mw_obj_sI {ad : Nat → Nat → Nat} {h : mj_H} {a g k j : Nat} {v : Int32} {N : Nat} (hz : mw_fz a j = 0) : (List.range N).map (mw_fv ad (mj_sI h g k j v) a g k) = ((List.range N).map (mw_fv ad h a g k)).set j (.int v) := by
  refine mw_range_set ?_ ?_
  · simp [mw_fv, hz, mj_sI_at, upd]
  · intro i hi
    simp only [mw_fv, mj_sI_at, upd, hi, if_false]
    rfl
theorem mw_obj_sL {ad : Nat → Nat → Nat} {h : mj_H} {a g k j : Nat} {v : Int64} {N : Nat} (hz : mw_fz a j = 2) : (List.range N).map (mw_fv ad (mj_sL h g k j v) a g k) = ((List.range N).map (mw_fv ad h a g k)).set j (.long v) := by
  refine mw_range_set ?_ ?_
  · simp [mw_fv, hz, mj_sL_at, vp_updL]
  · intro i hi
    simp only [mw_fv, mj_sL_at, vp_updL, hi, if_false]
    rfl
