/-! CONSTRUCTORS: what the second machine has made is the first state of the small machine -/
theorem c2_lkm (f : Nat → Nat) {i : Nat} : ∀ {L : List Nat}, i ∈ L → c2_lk i (L.map (fun i => (i, f i))) = some (f i)
  | [], h => by cases h
  | x :: r, h => by
    show (if i = x then some (f x) else c2_lk i (r.map (fun i => (i, f i)))) = some (f i)
    by_cases e : i = x
    · subst e; rw [if_pos rfl]
    · rw [if_neg e]
      rcases List.mem_cons.mp h with h | h
      · exact absurd h e
      · exact c2_lkm f h
theorem c2_arr {cI : ClassId} {n : Nat} {f g : Nat → Value} (h : ∀ j, j < n → f j = g j) : arrV cI n f = arrV cI n g := by
  unfold arrV
  have : (fun j : Fin n => f j.val) = (fun j : Fin n => g j.val) := funext (fun j => h _ j.2)
  rw [this]
theorem c2_h01 {g k : Nat} (h2 : g ≠ 2) (h15 : g ≠ 15) : c2_h0.1 g k = fun _ => 0 := by
  funext j
  have e1 : Nat.beq g 2 = false := by
    cases h : Nat.beq g 2 with
    | true => exact absurd (Nat.eq_of_beq_eq_true h) h2
    | false => rfl
  have e2 : Nat.beq g 15 = false := by
    cases h : Nat.beq g 15 with
    | true => exact absurd (Nat.eq_of_beq_eq_true h) h15
    | false => rfl
  show (bif (Nat.beq g 2 && Nat.beq k 0 && (Nat.beq j 12 || Nat.beq j 13)) || (Nat.beq g 15 && Nat.beq k 0 && (Nat.beq j 17 || Nat.beq j 18)) then (-1 : Int32) else 0) = 0
  rw [e1, e2]
  rfl
section
variable {dC : Nat → ClassId} {dI : Nat → Nat → Nat} {cA : Nat → ClassId} {eA : Nat → Nat} {B : Nat} {ad : Nat → Nat → Nat} {H : Heap}
theorem c2_xfv (had : ∀ g k, c2_sp g = false → ad g k = B + c2_pos g k) {g k a j : Nat} (hs : mw_fz a j = 3 → c2_sp (mt_ref g k j).1 = false) : c2_v B (c2_xf a g k j) = mw_fv ad c2_h0 a g k j := by
  unfold c2_xf mw_fv
  generalize mw_fz a j = z at hs
  match z, hs with
  | 0, _ => rfl
  | 1, _ => rfl
  | 2, _ => rfl
  | 3, hs =>
    show Value.ref (B + c2_pos (mt_ref g k j).1 (mt_ref g k j).2) = Value.ref (ad (mt_ref g k j).1 (mt_ref g k j).2)
    rw [had _ _ (hs rfl)]
  | _ + 4, _ => rfl
theorem c2_fin (had : ∀ g k, c2_sp g = false → ad g k = B + c2_pos g k) (h16 : ∀ i, ad 16 i = eA i) (hP : va_P (dC, dI) mw_cl (c2_w B cA eA c2_hT) H) : va_P (dC, dI) mw_cl (mw_ws ad cA c2_h0) H := by
  intro k0 q hq
  unfold mw_ws at hq
  rw [List.getElem?_map] at hq
  obtain ⟨z, hz, rfl⟩ := Option.map_eq_some_iff.mp hq
  have hm := List.mem_of_getElem? hz
  obtain ⟨g, k⟩ := z
  obtain ⟨a1, a2, a3, a4, a5, a6⟩ := c2_cha _ hm
  have e1 := c2_chk _ hm
  have cs := c2_chs _ hm
  dsimp only at a1 a2 a3 a4 a5 a6 e1 cs ⊢
  have h1 := hP (c2_pos g k) (B + c2_pos g k, c2_e B cA eA (c2_xd g k)) (by rw [c2_wg, e1]; rfl)
  rw [had _ _ a1]
  clear hP hz hm hq e1
  revert a3 a4 a5 a6 cs h1
  unfold c2_xd mw_cell
  obtain ⟨t, a⟩ := mt_grp g
  dsimp only
  intro a3 a4 a5 a6 cs h1
  match t, a3, a4, a5, a6, cs, h1 with
  | 0, _, _, _, _, cs, h1 =>
    have e : ((List.range (mw_nf a)).map (c2_xf a g k)).map (c2_v B) = (List.range (mw_nf a)).map (mw_fv ad c2_h0 a g k) := by
      rw [List.map_map]
      apply List.map_congr_left
      intro j hj
      exact c2_xfv had (cs rfl j (List.mem_range.mp hj))
    rw [← e]
    exact h1
  | 1, a3, _, _, _, _, h1 =>
    obtain ⟨x, y⟩ := a3 (by decide)
    show va_at _ _ (_, .inl (cA 0, mt_len g k, .inl (c2_h0.1 g k))) H
    rw [c2_h01 x y]
    exact h1
  | 2, a3, _, _, _, _, h1 =>
    obtain ⟨x, y⟩ := a3 (by decide)
    show va_at _ _ (_, .inl (cA 1, mt_len g k, .inl (c2_h0.1 g k))) H
    rw [c2_h01 x y]
    exact h1
  | 3, a3, _, _, _, _, h1 =>
    obtain ⟨x, y⟩ := a3 (by decide)
    show va_at _ _ (_, .inl (cA 2, mt_len g k, .inl (c2_h0.1 g k))) H
    rw [c2_h01 x y]
    exact h1
  | 4, _, _, _, _, _, h1 => exact h1
  | 5, _, _, a5, _, _, h1 =>
    have ref : ∀ a9 : Nat, c2_sp a9 = false → va_at (dC, dI) mw_cl (B + c2_pos g k, .inl (cA a9, mt_len g k, .inr (.inr (.inr (.inr (fun i => (c2_lk i ((List.range (mt_len g k)).reverse.map (fun i => (i, c2_pos a9 i)))).map (fun k => B + k))))))) H → va_at (dC, dI) mw_cl (B + c2_pos g k, .inl (cA a9, mt_len g k, .inr (.inr (.inr (.inr (fun i => some (ad a9 i))))))) H := by
      intro a9 hsp hh
      show H[_]? = some (vp_cell _ _)
      have hh : H[B + c2_pos g k]? = some (vp_cell (cA a9) (mt_len g k, .inr (.inr (.inr (.inr (fun i => (c2_lk i ((List.range (mt_len g k)).reverse.map (fun i => (i, c2_pos a9 i)))).map (fun k => B + k))))))) := hh
      rw [hh, vp_cell_q, vp_cell_q]
      congr 1
      apply c2_arr
      intro j hj
      rw [c2_lkm (c2_pos a9) (List.mem_reverse.mpr (List.mem_range.mpr hj)), had _ _ hsp]
      rfl
    rcases a5 rfl with rfl | rfl | rfl
    · exact ref 12 rfl h1
    · exact ref 13 rfl h1
    · show va_at _ _ (_, .inl (cA 16, mt_len g k, .inr (.inr (.inr (.inr (fun i => some (ad 16 i))))))) H
      have e : (fun i => some (ad 16 i)) = fun i => some (eA i) := funext (fun i => by rw [h16])
      rw [e]
      exact h1
  | 6, _, _, _, a6, _, h1 =>
    rcases a6 rfl with rfl | rfl
    · exact h1
    · exact h1
  | t + 7, _, a4, _, _, _, _ => exact absurd a4 (by omega)
end
