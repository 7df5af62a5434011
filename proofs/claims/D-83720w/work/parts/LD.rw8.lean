/-! rows: light lines, the states of the loops around -/
section
variable {kp : Nat → Bool} {sy : List Sym} {pb : Nat → Nat} {pa : List (List Nat)}
def rL (sy : List Sym) (p d : Nat) : Tm → Nat
  | .elem (.arg _) e => if fixE sy e = true then p else d + 1
  | _ => d + 1
def loP (p : Nat) : Nat := max 7 (3 * p - 80)
def lxP (p : Nat) : Nat := max (loP p) (2 * loP p - 20)
theorem rL_row {Z : List (List Nv)} {p d : Nat} {r : Nv} (I : ivZ Z p d) : ∀ t m, wF (fun r => [(kyT sy r t, m)]) r Z ≤ rL sy p d t := by
  intro t m
  unfold rL
  split
  · rename_i a e
    cases hf : fixE sy e with
    | true =>
      rw [if_pos rfl]
      have e2 : (fun r : Nv => [(kyT sy r (.elem (.arg a) e), m)]) = fun r => [(((a, false, cstE r e) : Ky), m)] := by
        funext r
        show [((a, !(fixE sy e), if fixE sy e = true then cstE r e else 0), m)] = _
        rw [hf]; rfl
      rw [e2]
      exact lf_fix I hf r
    | false =>
      rw [if_neg (by decide)]
      have e2 : (fun r : Nv => [(kyT sy r (.elem (.arg a) e), m)]) = fun _ => [(((a, true, 0) : Ky), m)] := by
        funext r
        show [((a, !(fixE sy e), if fixE sy e = true then cstE r e else 0), m)] = _
        rw [hf]; rfl
      rw [e2]
      exact lf_cst I r
  · rename_i q
    by_cases c : ∃ x, t = .arg x
    · obtain ⟨x, rfl⟩ := c
      exact lf_cst (k := (x, arrS (srO sy x), 0)) I r
    · have e2 : (fun r : Nv => [(kyT sy r t, m)]) = fun _ => [(((0, false, 0) : Ky), m)] := by
        funext r
        unfold kyT
        split
        · exact (c ⟨_, rfl⟩).elim
        · exact (q _ _ rfl).elim
        · rfl
      rw [e2]
      exact lf_cst I r
theorem cE_1 {e : Tm} (hf : fixE sy e = true) : 1 ≤ cE sy e := by
  by_cases c1 : ∃ j, e = .arg j
  · obtain ⟨j, rfl⟩ := c1; exact nc_1 _
  by_cases c2 : ∃ v, e = .int v
  · obtain ⟨v, rfl⟩ := c2; exact Nat.le_refl 1
  have := cE_3 hf (fun j hj => c1 ⟨j, hj⟩) (fun v hv => c2 ⟨v, hv⟩)
  omega
theorem prc_L {p d : Nat} (hk : ∀ s, srO sy s = 11 → kp s = false) (hp : p ≤ 42) (hd : d ≤ 8) : prc kp sy (fun t => 3 * rL sy p d t) (loP p) (lxP p) := by
  have n1 : ∀ x, 1 ≤ ncs sy x := fun x => nc_1 _
  refine ⟨fun x _ => ?_, fun a e hf => ?_, fun a e hf => ?_, hk, ?_, ?_, ?_⟩
  · have := n1 x
    show 3 * (d + 1) ≤ _
    unfold loP
    omega
  · have := n1 a
    have := cE_1 hf
    show 3 * (if fixE sy e = true then p else d + 1) ≤ _
    rw [if_pos hf]
    unfold loP
    omega
  · show 3 * (if fixE sy e = true then p else d + 1) + _ ≤ _
    rw [if_neg (by rw [hf]; decide)]
    unfold lxP loP
    omega
  · unfold lxP loP; omega
  · unfold lxP loP; omega
  · unfold lxP loP; omega
theorem lwE {Z : List (List Nv)} {p d : Nat} {r : Nv} {vis : List Nat} {e : Tm} (hk : ∀ s, srO sy s = 11 → kp s = false) (hp : p ≤ 42) (hd : d ≤ 8) (I : ivZ Z p d) (h : shE sy vis 8 e) : 3 * wF (fun r => evE kp sy r e) r Z ≤ 20 * cE sy e + lxP p := by
  have h1 := wE_le (kp := kp) (rL_row (sy := sy) (r := r) I) e
  have h2 := (prE (prc_L hk hp hd) 8 e h).1
  rw [← wtS_mul] at h2
  omega
theorem lwT {Z : List (List Nv)} {p d m : Nat} {r : Nv} {vis : List Nat} {t : Tm} (hk : ∀ s, srO sy s = 11 → kp s = false) (hp : p ≤ 42) (hd : d ≤ 8) (I : ivZ Z p d) (ht : thI t = true) (h : shE sy vis 8 t) : 3 * wF (fun r => evT kp sy r m t) r Z ≤ 20 * cE sy t + loP p := by
  have h1 := wT_le (kp := kp) (rL_row (sy := sy) (r := r) I) m t
  have h2 := (prE (prc_L hk hp hd) 8 t h).2 (thI_op ht)
  rw [← wtS_mul] at h2
  omega
theorem lwA {Z : List (List Nv)} {p d : Nat} {r : Nv} {vis qs : List Nat} {as : Tm} (hk : ∀ s, srO sy s = 11 → kp s = false) (hp : p ≤ 42) (hd : d ≤ 8) (I : ivZ Z p d) (hq : qs.length ≤ 6) (h : pAs sy vis as) : 3 * wF (fun r => evA kp sy pb r qs as) r Z ≤ 20 * cA sy as + (lxP p - 20) * 6 := by
  have h1 := wA_le (kp := kp) (pb := pb) (rL_row (sy := sy) (r := r) I) qs as
  have h2 := prA (prc_L hk hp hd) qs as h
  have h3 : (lxP p - 20) * qs.length ≤ (lxP p - 20) * 6 := Nat.mul_le_mul_left _ hq
  rw [← wtS_mul] at h2
  omega
end
/-- d useful loops, the greatest of u turns, a leaf has p rows; c words -/
def stR (d u p c : Nat) : Prop := (d = 0 ∧ u ≤ 2 ∧ p = 1 ∧ c ≤ 4000) ∨ (1 ≤ d ∧ 2 ≤ u ∧ u ≤ 8 ∧ d + 1 ≤ p ∧ p ≤ d * u ∧ (u * c + 20) * 2 ^ (d - 1) ≤ 4010)
theorem stR.mono {d u p c c' : Nat} (h : stR d u p c) (hc : c' ≤ c) : stR d u p c' := by
  rcases h with ⟨h1, h2, h3, h4⟩ | ⟨h1, h2, h3, h4, h5, h6⟩
  · exact Or.inl ⟨h1, h2, h3, by omega⟩
  · refine Or.inr ⟨h1, h2, h3, h4, h5, Nat.le_trans (Nat.mul_le_mul_right _ ?_) h6⟩
    have : u * c' ≤ u * c := Nat.mul_le_mul_left _ hc
    omega
theorem stR.p8 {d u p c : Nat} (h : stR d u p c) : p ≤ 8 * d + 1 ∧ (1 ≤ d → p ≤ 8 * d) ∧ d + 1 ≤ p := by
  rcases h with ⟨h1, h2, h3, h4⟩ | ⟨h1, h2, h3, h4, h5, h6⟩
  · exact ⟨by omega, fun _ => by omega, by omega⟩
  · have : d * u ≤ d * 8 := Nat.mul_le_mul_left _ h3
    exact ⟨by omega, fun _ => by omega, h4⟩
theorem stR_step {d u p c m c' : Nat} (h : stR d u p c) (hp : p ≤ 42) (hc : 10 + m * c' ≤ c) (h4 : 4 ≤ c') (hm : 2 ≤ m) (hm8 : m ≤ 8) :
    stR (d + 1) (max u m) (max (p + 1) (m * (d + 1))) c' ∧ d + 1 ≤ 8 ∧ (max (p + 1) (m * (d + 1)) ≤ 42 ∨ (d = 5 ∧ m = 8 ∧ c' ≤ 13 ∧ p ≤ 39) ∨ (d = 6 ∧ m = 7 ∧ c' ≤ 6 ∧ p ≤ 39) ∨ (d = 6 ∧ m = 8 ∧ c' ≤ 5 ∧ p ≤ 39)) := by
  rcases h with ⟨h1, h2, h3, h5⟩ | ⟨h1, h2, h3, h5, h6, h7⟩
  · subst h1
    subst h3
    have e1 : max u m = m := by omega
    have e2 : max (1 + 1) (m * (0 + 1)) = m := by omega
    rw [e1, e2]
    refine ⟨Or.inr ⟨by omega, hm, hm8, by omega, by omega, ?_⟩, by omega, Or.inl (by omega)⟩
    show (m * c' + 20) * 1 ≤ 4010
    omega
  · -- the new bound
    have k1 : (max u m * c' + 20) * 2 ≤ u * c + 20 := by
      have a1 : u * (10 + m * c') ≤ u * c := Nat.mul_le_mul_left _ hc
      rw [Nat.mul_add] at a1
      rcases Nat.le_total m u with q | q
      · rw [Nat.max_eq_left q]
        have a2 : u * (2 * c') ≤ u * (m * c') := Nat.mul_le_mul_left _ (Nat.mul_le_mul_right _ hm)
        have a3 : u * (2 * c') = 2 * (u * c') := by rw [Nat.mul_left_comm]
        omega
      · rw [Nat.max_eq_right q]
        have a2 : 2 * (m * c') ≤ u * (m * c') := Nat.mul_le_mul_right _ h2
        omega
    have k2 : (max u m * c' + 20) * 2 ^ d ≤ 4010 := by
      obtain ⟨e, rfl⟩ : ∃ e, d = e + 1 := ⟨d - 1, by omega⟩
      rw [Nat.add_sub_cancel] at h7
      rw [Nat.pow_succ, Nat.mul_comm (2 ^ e) 2, ← Nat.mul_assoc]
      exact Nat.le_trans (Nat.mul_le_mul_right _ k1) h7
    have k3 : m * (d + 1) ≤ (d + 1) * max u m := by
      rw [Nat.mul_comm]
      exact Nat.mul_le_mul_left _ (Nat.le_max_right _ _)
    have k4 : p + 1 ≤ (d + 1) * max u m := by
      have a1 : d * u ≤ d * max u m := Nat.mul_le_mul_left _ (Nat.le_max_left _ _)
      have a2 : (d + 1) * max u m = d * max u m + max u m := by rw [Nat.add_mul, Nat.one_mul]
      omega
    have k5 : 2 * (d + 1) ≤ m * (d + 1) := Nat.mul_le_mul_right _ hm
    have c18 : 10 + m * 4 ≤ c := Nat.le_trans (Nat.add_le_add_left (Nat.mul_le_mul_left _ h4) _) hc
    have pu : p ≤ d * u := h6
    refine ⟨Or.inr ⟨by omega, by omega, by omega, by omega, by omega, ?_⟩, ?_, ?_⟩
    · rw [Nat.add_sub_cancel]; exact k2
    · -- d is at most seven
      rcases Nat.lt_or_ge d 8 with q | q
      · omega
      · have a1 : 2 ^ 7 ≤ 2 ^ (d - 1) := Nat.pow_le_pow_right (by decide) (by omega)
        have a2 : u * c ≥ 2 * 18 := Nat.mul_le_mul h2 (by omega)
        have a3 : 56 * 128 ≤ (u * c + 20) * 2 ^ (d - 1) := Nat.mul_le_mul (by omega) a1
        omega
    · have d8 : d ≤ 7 := by
        rcases Nat.lt_or_ge d 8 with q | q
        · omega
        · have a1 : 2 ^ 7 ≤ 2 ^ (d - 1) := Nat.pow_le_pow_right (by decide) (by omega)
          have a2 : u * c ≥ 2 * 18 := Nat.mul_le_mul h2 (by omega)
          have a3 : 56 * 128 ≤ (u * c + 20) * 2 ^ (d - 1) := Nat.mul_le_mul (by omega) a1
          omega
      rcases Nat.lt_or_ge d 5 with q | q
      · left
        have a1 : m * (d + 1) ≤ 8 * 5 := Nat.mul_le_mul hm8 (by omega)
        have a2 : d * u ≤ 4 * 8 := Nat.mul_le_mul (by omega) h3
        omega
      · have a0 : d = 5 ∨ d = 6 ∨ d = 7 := by omega
        rcases a0 with rfl | rfl | rfl
        · have a1 : u * c ≤ 230 := by
            have : (u * c + 20) * 16 ≤ 4010 := h7
            omega
          rcases Nat.lt_or_ge m 8 with q2 | q2
          · left; omega
          · have e8 : m = 8 := by omega
            subst e8
            right; left
            have a2 : u * 42 ≤ u * c := Nat.mul_le_mul_left _ (by omega)
            have a3 : max u 8 = 8 := by omega
            rw [a3] at k2
            have a4 : (8 * c' + 20) * 32 ≤ 4010 := k2
            exact ⟨rfl, rfl, by omega, by omega⟩
        · have a1 : u * c ≤ 105 := by
            have : (u * c + 20) * 32 ≤ 4010 := h7
            omega
          have a2 : u * 18 ≤ u * c := Nat.mul_le_mul_left _ (by omega)
          rcases Nat.lt_or_ge m 7 with q2 | q2
          · left; omega
          · have a3 : m * c' ≤ max u m * c' := Nat.mul_le_mul_right _ (Nat.le_max_right _ _)
            have a4 : (max u m * c' + 20) * 64 ≤ 4010 := k2
            have a5 : m = 7 ∨ m = 8 := by omega
            rcases a5 with rfl | rfl
            · right; right; left
              exact ⟨rfl, rfl, by omega, by omega⟩
            · right; right; right
              exact ⟨rfl, rfl, by omega, by omega⟩
        · have a1 : u * c ≤ 42 := by
            have : (u * c + 20) * 64 ≤ 4010 := h7
            omega
          have a2 : u * 18 ≤ u * c := Nat.mul_le_mul_left _ (by omega)
          have a3 : 2 * c ≤ u * c := Nat.mul_le_mul_right _ h2
          left
          omega
/-! the two claims -/
def sD : Nat → Nat
  | 0 => 96
  | 1 => 85
  | 2 => 72
  | 3 => 57
  | 4 => 40
  | 5 => 21
  | _ => 0
theorem sD_s (d : Nat) : sD d ≤ sD (d + 1) + 11 + 2 * d := by
  rcases Nat.lt_or_ge d 6 with h | h
  · have : d = 0 ∨ d = 1 ∨ d = 2 ∨ d = 3 ∨ d = 4 ∨ d = 5 := by omega
    rcases this with rfl | rfl | rfl | rfl | rfl | rfl <;> decide
  · obtain ⟨e, rfl⟩ : ∃ e, d = e + 6 := ⟨d - 6, by omega⟩
    exact Nat.zero_le _
def clm (b W C d q z : Nat) : Prop := 3 * W + b ≤ 20 * C + z ∨ ∃ Q, 20 ≤ Q ∧ q ≤ Q ∧ W + 203 + 7 * sD d + 14 * Q ≤ 7 * C + 7 * min Q 26 + 14 * q
theorem clm.mono {b b' W W' C C' d q z z' : Nat} (h : clm b W C d q z) (hW : W' ≤ W) (hC : C ≤ C') (hz : b' + z ≤ b + z' + 20 * (C' - C)) : clm b' W' C' d q z' := by
  rcases h with h | ⟨Q, h1, h2, h3⟩
  · left; omega
  · right; exact ⟨Q, h1, h2, by omega⟩
theorem clm.add {b W1 W2 C1 C2 d q z : Nat} (h : clm b W1 C1 d q 0) (h2 : 3 * W2 ≤ 20 * C2) : clm b (W1 + W2) (C1 + C2) d q z := by
  rcases h with h | ⟨Q, q1, q2, q3⟩
  · left; omega
  · right; exact ⟨Q, q1, q2, by omega⟩
theorem clm.two {b b' W1 W2 C1 C2 d q z : Nat} (h : clm b W1 C1 d q 0) (h2 : clm b' W2 C2 d q 0) : clm b (W1 + W2) (C1 + C2) d q z := by
  rcases h with h | ⟨Q, q1, q2, q3⟩
  · rcases h2 with g | ⟨Q, q1, q2, q3⟩
    · left; omega
    · right; exact ⟨Q, q1, q2, by omega⟩
  · rcases h2 with g | ⟨Q', g1, g2, g3⟩
    · right; exact ⟨Q, q1, q2, by omega⟩
    · right; exact ⟨Q, q1, q2, by omega⟩
