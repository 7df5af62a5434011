/-! CONSTRUCTORS: the second machine, what it never does -/
def c2_ex : Nat → Nat → Nat → c2_F → Option (List c2_C)
  | 0, _, _, _ => none
  | n + 1, d, mi, f => match c2_find f.1 (c2_cs mi) with
    | some P => c2_do (c2_ex n d mi) (fun a as hs => match d with
      | 0 => none
      | d' + 1 => c2_ex n d' a (0, c2_args 0 as, [], hs)) P.1 P.2.1 P.2.2.1 P.2.2.2.1 P.2.2.2.2 f.2.1 f.2.2.1 f.2.2.2
    | none => none
def c2_le (x y : List c2_C) : Prop := x.length ≤ y.length ∧ c2_sz x ≤ c2_sz y
theorem c2_lea {x y : List c2_C} {c : c2_C} (h : c2_le (x ++ [c]) y) : c2_le x y := by
  obtain ⟨h1, h2⟩ := h
  rw [c2_sa] at h2
  rw [List.length_append] at h1
  exact ⟨by omega, by omega⟩
theorem c2_les {x y : List c2_C} {i : Nat} {c c' : c2_C} (e : x[i]? = some c') (hn : c2_n c = c2_n c') (h : c2_le (x.set i c) y) : c2_le x y := by
  obtain ⟨h1, h2⟩ := h
  rw [c2_ss e hn] at h2
  rw [List.length_set] at h1
  exact ⟨h1, h2⟩
theorem c2_dom {k : c2_F → Option (List c2_C)} {cl : Nat → List c2_V → List c2_C → Option (List c2_C)} (hk : ∀ f hs', k f = some hs' → c2_le f.2.2.2 hs') (hcl : ∀ a as hs hs', cl a as hs = some hs' → c2_le hs hs') {o nx a b : Nat} {v : Int32} {lv : c2_L} {st : List c2_V} {hs hs' : List c2_C} (h : c2_do k cl o nx a b v lv st hs = some hs') : c2_le hs hs' := by
  unfold c2_do at h
  split at h
  · split at h
    · split at h
      · cases hb : Nat.beq b 0 with
        | true => rw [hb] at h; exact hk _ _ h
        | false => rw [hb] at h; cases h
      · cases hb : Nat.beq b 1 with
        | true => rw [hb] at h; exact hk _ _ h
        | false => rw [hb] at h; cases h
      · cases h
    · cases h
  · exact hk _ _ h
  · split at h
    · exact hk _ _ h
    · cases h
  · split at h
    · exact hk _ _ h
    · cases h
  · exact hk _ _ h
  · split at h
    · split at h
      · exact hk _ _ h
      · exact hk _ _ h
    · cases h
  · split at h
    · exact hk _ _ h
    · cases h
  · exact c2_lea (hk _ _ h)
  · split at h
    · split at h
      · exact c2_lea (hk _ _ h)
      · cases h
    · cases h
  · split at h
    · split at h
      · exact c2_lea (hk _ _ h)
      · cases h
    · cases h
  · split at h
    · split at h
      · rename_i a' fs _ _
        cases hb : Nat.beq a' a with
        | true =>
          rw [hb] at h
          dsimp only [cond_true] at h
          split at h
          · exact hk _ _ h
          · cases h
        | false => rw [hb] at h; cases h
      · cases h
    · cases h
  · split at h
    · split at h
      · rename_i e
        split at h
        · exact c2_les e (by simp [c2_n]) (hk _ _ h)
        · cases h
      · cases h
    · split at h
      · rename_i e
        split at h
        · exact c2_les e (by simp [c2_n]) (hk _ _ h)
        · cases h
      · cases h
    · cases h
  · split at h
    · split at h
      · split at h
        · rename_i e
          have h1 := hcl _ _ _ _ e
          have h2 := hk _ _ h
          exact ⟨Nat.le_trans h1.1 h2.1, Nat.le_trans h1.2 h2.2⟩
        · cases h
      · cases h
    · cases h
  · split at h
    · split at h
      · exact hk _ _ h
      · cases h
    · cases h
  · split at h
    · split at h
      · rename_i e _
        split at h
        · rename_i hc
          refine c2_les e ?_ (hk _ _ h)
          obtain ⟨hc, -, -⟩ := hc
          rcases hc with ⟨rfl, -⟩ | ⟨rfl, -⟩ <;> rfl
        · cases h
      · cases h
    · cases h
  · split at h
    · cases h
      exact ⟨Nat.le_refl _, Nat.le_refl _⟩
    · cases h
  · split at h
    · exact c2_lea (hk _ _ h)
    · cases h
  · cases h
theorem c2_mono : ∀ (n d mi : Nat) (f : c2_F) (hs' : List c2_C), c2_ex n d mi f = some hs' → c2_le f.2.2.2 hs'
  | 0, _, _, _, _, h => by cases h
  | n + 1, d, mi, f, hs', h => by
    unfold c2_ex at h
    split at h
    · refine c2_dom (fun f hs' hf => c2_mono n d mi f hs' hf) (fun a as hs hs' hf => ?_) h
      cases d with
      | zero => cases hf
      | succ d' => exact c2_mono n d' a _ hs' hf
    · cases h
